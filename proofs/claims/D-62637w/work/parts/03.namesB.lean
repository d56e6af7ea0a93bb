/-! NotationDeskLaw -/
set_option maxRecDepth 100000
def RX0 : String := "NotationDeskLaw"
abbrev cX0_at : ByteArray := method_3_code
def yX0_at : MethodName := ⟨RX0, "at", "(LNotationDesk;I[J)I"⟩
def dkwX0_at_0 : List UInt8 := [44, 3, 42, 27, 182, 0, 7, 133, 80, 167, 0, 6, 78, 4, 172, 3, 172]
abbrev dktX0_at_0 : List UInt8 := dkwX0_at_0 ++ []
theorem dksX0_at_0 : cX0_at.data.toList.drop 0 = dktX0_at_0 := by decide +kernel
theorem dX0_at_0 : decode cX0_at 0 = .ok (.aload_n 2, 1) := dk_44 (dk_at dksX0_at_0 0 rfl rfl)
theorem dX0_at_1 : decode cX0_at 1 = .ok (.iconst 0, 1) := dk_3 (dk_at dksX0_at_0 1 rfl rfl)
theorem dX0_at_2 : decode cX0_at 2 = .ok (.aload_n 0, 1) := dk_42 (dk_at dksX0_at_0 2 rfl rfl)
theorem dX0_at_3 : decode cX0_at 3 = .ok (.iload_n 1, 1) := dk_27 (dk_at dksX0_at_0 3 rfl rfl)
theorem dX0_at_4 : decode cX0_at 4 = .ok (.invokevirtual 7, 3) := dk_182 0 7 (dk_at dksX0_at_0 4 rfl rfl)
theorem dX0_at_7 : decode cX0_at 7 = .ok (.i2l, 1) := dk_133 (dk_at dksX0_at_0 7 rfl rfl)
theorem dX0_at_8 : decode cX0_at 8 = .ok (.lastore, 1) := dk_80 (dk_at dksX0_at_0 8 rfl rfl)
theorem dX0_at_9 : decode cX0_at 9 = .ok (.goto 6, 3) := dk_167 0 6 (dk_at dksX0_at_0 9 rfl rfl)
theorem dX0_at_12 : decode cX0_at 12 = .ok (.astore_n 3, 1) := dk_78 (dk_at dksX0_at_0 12 rfl rfl)
theorem dX0_at_13 : decode cX0_at 13 = .ok (.iconst 1, 1) := dk_4 (dk_at dksX0_at_0 13 rfl rfl)
theorem dX0_at_14 : decode cX0_at 14 = .ok (.ireturn, 1) := dk_172 (dk_at dksX0_at_0 14 rfl rfl)
theorem dX0_at_15 : decode cX0_at 15 = .ok (.iconst 0, 1) := dk_3 (dk_at dksX0_at_0 15 rfl rfl)
theorem dX0_at_16 : decode cX0_at 16 = .ok (.ireturn, 1) := dk_172 (dk_at dksX0_at_0 16 rfl rfl)
abbrev cX0_transcode : ByteArray := method_4_code
def yX0_transcode : MethodName := ⟨RX0, "transcode", "(LNotationDesk;CII[J)I"⟩
def dkwX0_transcode_1 : List UInt8 := [58, 5, 6, 172, 58, 5, 7, 172, 3, 172]
abbrev dktX0_transcode_1 : List UInt8 := dkwX0_transcode_1 ++ []
def dkwX0_transcode_0 : List UInt8 := [25, 4, 3, 42, 27, 28, 29, 182, 0, 15, 133, 80, 167, 0, 19, 58, 5, 4, 172, 58, 5, 5, 172]
abbrev dktX0_transcode_0 : List UInt8 := dkwX0_transcode_0 ++ dktX0_transcode_1
theorem dksX0_transcode_0 : cX0_transcode.data.toList.drop 0 = dktX0_transcode_0 := by decide +kernel
theorem dksX0_transcode_1 : cX0_transcode.data.toList.drop 23 = dktX0_transcode_1 := dk_seg dksX0_transcode_0 23 rfl rfl
theorem dX0_transcode_0 : decode cX0_transcode 0 = .ok (.aload 4, 2) := dk_25 4 (dk_at dksX0_transcode_0 0 rfl rfl)
theorem dX0_transcode_2 : decode cX0_transcode 2 = .ok (.iconst 0, 1) := dk_3 (dk_at dksX0_transcode_0 2 rfl rfl)
theorem dX0_transcode_3 : decode cX0_transcode 3 = .ok (.aload_n 0, 1) := dk_42 (dk_at dksX0_transcode_0 3 rfl rfl)
theorem dX0_transcode_4 : decode cX0_transcode 4 = .ok (.iload_n 1, 1) := dk_27 (dk_at dksX0_transcode_0 4 rfl rfl)
theorem dX0_transcode_5 : decode cX0_transcode 5 = .ok (.iload_n 2, 1) := dk_28 (dk_at dksX0_transcode_0 5 rfl rfl)
theorem dX0_transcode_6 : decode cX0_transcode 6 = .ok (.iload_n 3, 1) := dk_29 (dk_at dksX0_transcode_0 6 rfl rfl)
theorem dX0_transcode_7 : decode cX0_transcode 7 = .ok (.invokevirtual 15, 3) := dk_182 0 15 (dk_at dksX0_transcode_0 7 rfl rfl)
theorem dX0_transcode_10 : decode cX0_transcode 10 = .ok (.i2l, 1) := dk_133 (dk_at dksX0_transcode_0 10 rfl rfl)
theorem dX0_transcode_11 : decode cX0_transcode 11 = .ok (.lastore, 1) := dk_80 (dk_at dksX0_transcode_0 11 rfl rfl)
theorem dX0_transcode_12 : decode cX0_transcode 12 = .ok (.goto 19, 3) := dk_167 0 19 (dk_at dksX0_transcode_0 12 rfl rfl)
theorem dX0_transcode_15 : decode cX0_transcode 15 = .ok (.astore 5, 2) := dk_58 5 (dk_at dksX0_transcode_0 15 rfl rfl)
theorem dX0_transcode_17 : decode cX0_transcode 17 = .ok (.iconst 1, 1) := dk_4 (dk_at dksX0_transcode_0 17 rfl rfl)
theorem dX0_transcode_18 : decode cX0_transcode 18 = .ok (.ireturn, 1) := dk_172 (dk_at dksX0_transcode_0 18 rfl rfl)
theorem dX0_transcode_19 : decode cX0_transcode 19 = .ok (.astore 5, 2) := dk_58 5 (dk_at dksX0_transcode_0 19 rfl rfl)
theorem dX0_transcode_21 : decode cX0_transcode 21 = .ok (.iconst 2, 1) := dk_5 (dk_at dksX0_transcode_0 21 rfl rfl)
theorem dX0_transcode_22 : decode cX0_transcode 22 = .ok (.ireturn, 1) := dk_172 (dk_at dksX0_transcode_0 22 rfl rfl)
theorem dX0_transcode_23 : decode cX0_transcode 23 = .ok (.astore 5, 2) := dk_58 5 (dk_at dksX0_transcode_1 0 rfl rfl)
theorem dX0_transcode_25 : decode cX0_transcode 25 = .ok (.iconst 3, 1) := dk_6 (dk_at dksX0_transcode_1 2 rfl rfl)
theorem dX0_transcode_26 : decode cX0_transcode 26 = .ok (.ireturn, 1) := dk_172 (dk_at dksX0_transcode_1 3 rfl rfl)
theorem dX0_transcode_27 : decode cX0_transcode 27 = .ok (.astore 5, 2) := dk_58 5 (dk_at dksX0_transcode_1 4 rfl rfl)
theorem dX0_transcode_29 : decode cX0_transcode 29 = .ok (.iconst 4, 1) := dk_7 (dk_at dksX0_transcode_1 6 rfl rfl)
theorem dX0_transcode_30 : decode cX0_transcode 30 = .ok (.ireturn, 1) := dk_172 (dk_at dksX0_transcode_1 7 rfl rfl)
theorem dX0_transcode_31 : decode cX0_transcode 31 = .ok (.iconst 0, 1) := dk_3 (dk_at dksX0_transcode_1 8 rfl rfl)
theorem dX0_transcode_32 : decode cX0_transcode 32 = .ok (.ireturn, 1) := dk_172 (dk_at dksX0_transcode_1 9 rfl rfl)
abbrev cX0_part : ByteArray := method_5_code
def yX0_part : MethodName := ⟨RX0, "part", "(LNotationDesk;II[J)I"⟩
def dkwX0_part_0 : List UInt8 := [45, 3, 42, 27, 28, 182, 0, 27, 133, 80, 167, 0, 11, 58, 4, 4, 172, 58, 4, 5, 172, 3, 172]
abbrev dktX0_part_0 : List UInt8 := dkwX0_part_0 ++ []
theorem dksX0_part_0 : cX0_part.data.toList.drop 0 = dktX0_part_0 := by decide +kernel
theorem dX0_part_0 : decode cX0_part 0 = .ok (.aload_n 3, 1) := dk_45 (dk_at dksX0_part_0 0 rfl rfl)
theorem dX0_part_1 : decode cX0_part 1 = .ok (.iconst 0, 1) := dk_3 (dk_at dksX0_part_0 1 rfl rfl)
theorem dX0_part_2 : decode cX0_part 2 = .ok (.aload_n 0, 1) := dk_42 (dk_at dksX0_part_0 2 rfl rfl)
theorem dX0_part_3 : decode cX0_part 3 = .ok (.iload_n 1, 1) := dk_27 (dk_at dksX0_part_0 3 rfl rfl)
theorem dX0_part_4 : decode cX0_part 4 = .ok (.iload_n 2, 1) := dk_28 (dk_at dksX0_part_0 4 rfl rfl)
theorem dX0_part_5 : decode cX0_part 5 = .ok (.invokevirtual 27, 3) := dk_182 0 27 (dk_at dksX0_part_0 5 rfl rfl)
theorem dX0_part_8 : decode cX0_part 8 = .ok (.i2l, 1) := dk_133 (dk_at dksX0_part_0 8 rfl rfl)
theorem dX0_part_9 : decode cX0_part 9 = .ok (.lastore, 1) := dk_80 (dk_at dksX0_part_0 9 rfl rfl)
theorem dX0_part_10 : decode cX0_part 10 = .ok (.goto 11, 3) := dk_167 0 11 (dk_at dksX0_part_0 10 rfl rfl)
theorem dX0_part_13 : decode cX0_part 13 = .ok (.astore 4, 2) := dk_58 4 (dk_at dksX0_part_0 13 rfl rfl)
theorem dX0_part_15 : decode cX0_part 15 = .ok (.iconst 1, 1) := dk_4 (dk_at dksX0_part_0 15 rfl rfl)
theorem dX0_part_16 : decode cX0_part 16 = .ok (.ireturn, 1) := dk_172 (dk_at dksX0_part_0 16 rfl rfl)
theorem dX0_part_17 : decode cX0_part 17 = .ok (.astore 4, 2) := dk_58 4 (dk_at dksX0_part_0 17 rfl rfl)
theorem dX0_part_19 : decode cX0_part 19 = .ok (.iconst 2, 1) := dk_5 (dk_at dksX0_part_0 19 rfl rfl)
theorem dX0_part_20 : decode cX0_part 20 = .ok (.ireturn, 1) := dk_172 (dk_at dksX0_part_0 20 rfl rfl)
theorem dX0_part_21 : decode cX0_part 21 = .ok (.iconst 0, 1) := dk_3 (dk_at dksX0_part_0 21 rfl rfl)
theorem dX0_part_22 : decode cX0_part 22 = .ok (.ireturn, 1) := dk_172 (dk_at dksX0_part_0 22 rfl rfl)
abbrev cX0_octet : ByteArray := method_6_code
def yX0_octet : MethodName := ⟨RX0, "octet", "(LNotationDesk;II[J)I"⟩
def dkwX0_octet_0 : List UInt8 := [45, 3, 42, 27, 28, 182, 0, 31, 133, 80, 167, 0, 7, 58, 4, 4, 172, 3, 172]
abbrev dktX0_octet_0 : List UInt8 := dkwX0_octet_0 ++ []
theorem dksX0_octet_0 : cX0_octet.data.toList.drop 0 = dktX0_octet_0 := by decide +kernel
theorem dX0_octet_0 : decode cX0_octet 0 = .ok (.aload_n 3, 1) := dk_45 (dk_at dksX0_octet_0 0 rfl rfl)
theorem dX0_octet_1 : decode cX0_octet 1 = .ok (.iconst 0, 1) := dk_3 (dk_at dksX0_octet_0 1 rfl rfl)
theorem dX0_octet_2 : decode cX0_octet 2 = .ok (.aload_n 0, 1) := dk_42 (dk_at dksX0_octet_0 2 rfl rfl)
theorem dX0_octet_3 : decode cX0_octet 3 = .ok (.iload_n 1, 1) := dk_27 (dk_at dksX0_octet_0 3 rfl rfl)
theorem dX0_octet_4 : decode cX0_octet 4 = .ok (.iload_n 2, 1) := dk_28 (dk_at dksX0_octet_0 4 rfl rfl)
theorem dX0_octet_5 : decode cX0_octet 5 = .ok (.invokevirtual 31, 3) := dk_182 0 31 (dk_at dksX0_octet_0 5 rfl rfl)
theorem dX0_octet_8 : decode cX0_octet 8 = .ok (.i2l, 1) := dk_133 (dk_at dksX0_octet_0 8 rfl rfl)
theorem dX0_octet_9 : decode cX0_octet 9 = .ok (.lastore, 1) := dk_80 (dk_at dksX0_octet_0 9 rfl rfl)
theorem dX0_octet_10 : decode cX0_octet 10 = .ok (.goto 7, 3) := dk_167 0 7 (dk_at dksX0_octet_0 10 rfl rfl)
theorem dX0_octet_13 : decode cX0_octet 13 = .ok (.astore 4, 2) := dk_58 4 (dk_at dksX0_octet_0 13 rfl rfl)
theorem dX0_octet_15 : decode cX0_octet 15 = .ok (.iconst 1, 1) := dk_4 (dk_at dksX0_octet_0 15 rfl rfl)
theorem dX0_octet_16 : decode cX0_octet 16 = .ok (.ireturn, 1) := dk_172 (dk_at dksX0_octet_0 16 rfl rfl)
theorem dX0_octet_17 : decode cX0_octet 17 = .ok (.iconst 0, 1) := dk_3 (dk_at dksX0_octet_0 17 rfl rfl)
theorem dX0_octet_18 : decode cX0_octet 18 = .ok (.ireturn, 1) := dk_172 (dk_at dksX0_octet_0 18 rfl rfl)
abbrev cX0_operation : ByteArray := method_7_code
def yX0_operation : MethodName := ⟨RX0, "operation", "(LNotationDesk;ICII)I"⟩
def dkwX0_operation_1 : List UInt8 := [3, 172]
abbrev dktX0_operation_1 : List UInt8 := dkwX0_operation_1 ++ []
def dkwX0_operation_0 : List UInt8 := [42, 27, 28, 29, 21, 4, 182, 0, 34, 167, 0, 15, 58, 5, 4, 172, 58, 5, 5, 172, 58, 5, 6, 172]
abbrev dktX0_operation_0 : List UInt8 := dkwX0_operation_0 ++ dktX0_operation_1
theorem dksX0_operation_0 : cX0_operation.data.toList.drop 0 = dktX0_operation_0 := by decide +kernel
theorem dksX0_operation_1 : cX0_operation.data.toList.drop 24 = dktX0_operation_1 := dk_seg dksX0_operation_0 24 rfl rfl
theorem dX0_operation_0 : decode cX0_operation 0 = .ok (.aload_n 0, 1) := dk_42 (dk_at dksX0_operation_0 0 rfl rfl)
theorem dX0_operation_1 : decode cX0_operation 1 = .ok (.iload_n 1, 1) := dk_27 (dk_at dksX0_operation_0 1 rfl rfl)
theorem dX0_operation_2 : decode cX0_operation 2 = .ok (.iload_n 2, 1) := dk_28 (dk_at dksX0_operation_0 2 rfl rfl)
theorem dX0_operation_3 : decode cX0_operation 3 = .ok (.iload_n 3, 1) := dk_29 (dk_at dksX0_operation_0 3 rfl rfl)
theorem dX0_operation_4 : decode cX0_operation 4 = .ok (.iload 4, 2) := dk_21 4 (dk_at dksX0_operation_0 4 rfl rfl)
theorem dX0_operation_6 : decode cX0_operation 6 = .ok (.invokevirtual 34, 3) := dk_182 0 34 (dk_at dksX0_operation_0 6 rfl rfl)
theorem dX0_operation_9 : decode cX0_operation 9 = .ok (.goto 15, 3) := dk_167 0 15 (dk_at dksX0_operation_0 9 rfl rfl)
theorem dX0_operation_12 : decode cX0_operation 12 = .ok (.astore 5, 2) := dk_58 5 (dk_at dksX0_operation_0 12 rfl rfl)
theorem dX0_operation_14 : decode cX0_operation 14 = .ok (.iconst 1, 1) := dk_4 (dk_at dksX0_operation_0 14 rfl rfl)
theorem dX0_operation_15 : decode cX0_operation 15 = .ok (.ireturn, 1) := dk_172 (dk_at dksX0_operation_0 15 rfl rfl)
theorem dX0_operation_16 : decode cX0_operation 16 = .ok (.astore 5, 2) := dk_58 5 (dk_at dksX0_operation_0 16 rfl rfl)
theorem dX0_operation_18 : decode cX0_operation 18 = .ok (.iconst 2, 1) := dk_5 (dk_at dksX0_operation_0 18 rfl rfl)
theorem dX0_operation_19 : decode cX0_operation 19 = .ok (.ireturn, 1) := dk_172 (dk_at dksX0_operation_0 19 rfl rfl)
theorem dX0_operation_20 : decode cX0_operation 20 = .ok (.astore 5, 2) := dk_58 5 (dk_at dksX0_operation_0 20 rfl rfl)
theorem dX0_operation_22 : decode cX0_operation 22 = .ok (.iconst 3, 1) := dk_6 (dk_at dksX0_operation_0 22 rfl rfl)
theorem dX0_operation_23 : decode cX0_operation 23 = .ok (.ireturn, 1) := dk_172 (dk_at dksX0_operation_0 23 rfl rfl)
theorem dX0_operation_24 : decode cX0_operation 24 = .ok (.iconst 0, 1) := dk_3 (dk_at dksX0_operation_1 0 rfl rfl)
theorem dX0_operation_25 : decode cX0_operation 25 = .ok (.ireturn, 1) := dk_172 (dk_at dksX0_operation_1 1 rfl rfl)
abbrev cX0_serve : ByteArray := method_8_code
def yX0_serve : MethodName := ⟨RX0, "serve", "(LNotationDesk;[J)I"⟩
def dkwX0_serve_0 : List UInt8 := [43, 3, 42, 182, 0, 38, 133, 80, 167, 0, 6, 77, 4, 172, 3, 172]
abbrev dktX0_serve_0 : List UInt8 := dkwX0_serve_0 ++ []
theorem dksX0_serve_0 : cX0_serve.data.toList.drop 0 = dktX0_serve_0 := by decide +kernel
theorem dX0_serve_0 : decode cX0_serve 0 = .ok (.aload_n 1, 1) := dk_43 (dk_at dksX0_serve_0 0 rfl rfl)
theorem dX0_serve_1 : decode cX0_serve 1 = .ok (.iconst 0, 1) := dk_3 (dk_at dksX0_serve_0 1 rfl rfl)
theorem dX0_serve_2 : decode cX0_serve 2 = .ok (.aload_n 0, 1) := dk_42 (dk_at dksX0_serve_0 2 rfl rfl)
theorem dX0_serve_3 : decode cX0_serve 3 = .ok (.invokevirtual 38, 3) := dk_182 0 38 (dk_at dksX0_serve_0 3 rfl rfl)
theorem dX0_serve_6 : decode cX0_serve 6 = .ok (.i2l, 1) := dk_133 (dk_at dksX0_serve_0 6 rfl rfl)
theorem dX0_serve_7 : decode cX0_serve 7 = .ok (.lastore, 1) := dk_80 (dk_at dksX0_serve_0 7 rfl rfl)
theorem dX0_serve_8 : decode cX0_serve 8 = .ok (.goto 6, 3) := dk_167 0 6 (dk_at dksX0_serve_0 8 rfl rfl)
theorem dX0_serve_11 : decode cX0_serve 11 = .ok (.astore_n 2, 1) := dk_77 (dk_at dksX0_serve_0 11 rfl rfl)
theorem dX0_serve_12 : decode cX0_serve 12 = .ok (.iconst 1, 1) := dk_4 (dk_at dksX0_serve_0 12 rfl rfl)
theorem dX0_serve_13 : decode cX0_serve 13 = .ok (.ireturn, 1) := dk_172 (dk_at dksX0_serve_0 13 rfl rfl)
theorem dX0_serve_14 : decode cX0_serve 14 = .ok (.iconst 0, 1) := dk_3 (dk_at dksX0_serve_0 14 rfl rfl)
theorem dX0_serve_15 : decode cX0_serve 15 = .ok (.ireturn, 1) := dk_172 (dk_at dksX0_serve_0 15 rfl rfl)
theorem q85 : (Jvm.Cond.initialized "NotationDeskLaw") ∈ lw_all := lw_g (lw_at lw_m1 0 rfl) rfl
theorem q113 : (Jvm.Cond.classLink "NotationDeskLaw" (8 : Nat) "NotationDesk") ∈ lw_all := lw_g (lw_at lw_m1 28 rfl) rfl
theorem q115 : (Jvm.Cond.methodLink "NotationDeskLaw" (42 : Nat) ({ cls := "NotationDesk", name := "<init>", desc := "()V" } : Jvm.MethodName)) ∈ lw_all := lw_g (lw_at lw_m1 30 rfl) rfl
theorem q322 : (Jvm.Cond.methodLink "NotationDeskLaw" (46 : Nat) ({ cls := "NotationDesk", name := "type", desc := "(C)Z" } : Jvm.MethodName)) ∈ lw_all := lw_g (lw_at lw_m1 237 rfl) rfl
theorem q334 : (Jvm.Cond.methodLink "NotationDeskLaw" (51 : Nat) ({ cls := "NotationDesk", name := "clear", desc := "()I" } : Jvm.MethodName)) ∈ lw_all := lw_g (lw_at lw_m2 9 rfl) rfl
theorem q338 : (Jvm.Cond.methodLink "NotationDeskLaw" (55 : Nat) ({ cls := "NotationDesk", name := "compile", desc := "()I" } : Jvm.MethodName)) ∈ lw_all := lw_g (lw_at lw_m2 13 rfl) rfl
theorem q672 : (Jvm.Cond.methodLink "NotationDeskLaw" (61 : Nat) ({ cls := "NotationDesk", name := "put", desc := "(JI)Z" } : Jvm.MethodName)) ∈ lw_all := lw_g (lw_at lw_m3 107 rfl) rfl
theorem q678 : (Jvm.Cond.methodLink "NotationDeskLaw" (66 : Nat) ({ cls := "NotationDesk", name := "wipe", desc := "()I" } : Jvm.MethodName)) ∈ lw_all := lw_g (lw_at lw_m3 113 rfl) rfl
theorem q682 : (Jvm.Cond.methodLink "NotationDeskLaw" (83 : Nat) ({ cls := "NotationDesk", name := "parts", desc := "()I" } : Jvm.MethodName)) ∈ lw_all := lw_g (lw_at lw_m3 117 rfl) rfl
theorem q686 : (Jvm.Cond.methodLink "NotationDeskLaw" (70 : Nat) ({ cls := "NotationDeskLaw", name := "at", desc := "(LNotationDesk;I[J)I" } : Jvm.MethodName)) ∈ lw_all := lw_g (lw_at lw_m3 121 rfl) rfl
theorem q687 : (Jvm.Cond.static ({ cls := "NotationDeskLaw", name := "at", desc := "(LNotationDesk;I[J)I" } : Jvm.MethodName)) ∈ lw_all := lw_g (lw_at lw_m3 122 rfl) rfl
theorem q688 : (Jvm.Cond.codeWith ({ cls := "NotationDeskLaw", name := "at", desc := "(LNotationDesk;I[J)I" } : Jvm.MethodName) method_3_code (4 : Nat) (Option.some Jvm.ClassFile.FieldType.int) [((0 : Nat), (9 : Nat), (12 : Nat), (13 : Nat))]) ∈ lw_all := lw_g (lw_at lw_m3 123 rfl) rfl
theorem q689 : (Jvm.Cond.classLink "NotationDeskLaw" (13 : Nat) "java/lang/IndexOutOfBoundsException") ∈ lw_all := lw_g (lw_at lw_m3 124 rfl) rfl
theorem q768 : (Jvm.Cond.methodLink "NotationDeskLaw" (7 : Nat) ({ cls := "NotationDesk", name := "at", desc := "(I)I" } : Jvm.MethodName)) ∈ lw_all := lw_g (lw_at lw_m3 203 rfl) rfl
theorem q793 : (Jvm.Cond.methodLink "NotationDeskLaw" (79 : Nat) ({ cls := "NotationDeskLaw", name := "transcode", desc := "(LNotationDesk;CII[J)I" } : Jvm.MethodName)) ∈ lw_all := lw_g (lw_at lw_m3 228 rfl) rfl
theorem q794 : (Jvm.Cond.static ({ cls := "NotationDeskLaw", name := "transcode", desc := "(LNotationDesk;CII[J)I" } : Jvm.MethodName)) ∈ lw_all := lw_g (lw_at lw_m3 229 rfl) rfl
theorem q795 : (Jvm.Cond.codeWith ({ cls := "NotationDeskLaw", name := "transcode", desc := "(LNotationDesk;CII[J)I" } : Jvm.MethodName) method_4_code (6 : Nat) (Option.some Jvm.ClassFile.FieldType.int) [((0 : Nat), (12 : Nat), (15 : Nat), (19 : Nat)), ((0 : Nat), (12 : Nat), (19 : Nat), (21 : Nat)), ((0 : Nat), (12 : Nat), (23 : Nat), (23 : Nat)), ((0 : Nat), (12 : Nat), (27 : Nat), (25 : Nat))]) ∈ lw_all := lw_g (lw_at lw_m3 230 rfl) rfl
theorem q796 : (Jvm.Cond.classLink "NotationDeskLaw" (19 : Nat) "java/lang/IllegalArgumentException") ∈ lw_all := lw_g (lw_at lw_m3 231 rfl) rfl
theorem q797 : (Jvm.Cond.classLink "NotationDeskLaw" (21 : Nat) "java/lang/IllegalStateException") ∈ lw_all := lw_g (lw_at lw_m3 232 rfl) rfl
theorem q798 : (Jvm.Cond.classLink "NotationDeskLaw" (23 : Nat) "java/util/NoSuchElementException") ∈ lw_all := lw_g (lw_at lw_m3 233 rfl) rfl
theorem q799 : (Jvm.Cond.classLink "NotationDeskLaw" (25 : Nat) "java/lang/UnsupportedOperationException") ∈ lw_all := lw_g (lw_at lw_m3 234 rfl) rfl
theorem q800 : (Jvm.Cond.methodLink "NotationDeskLaw" (15 : Nat) ({ cls := "NotationDesk", name := "transcode", desc := "(CII)I" } : Jvm.MethodName)) ∈ lw_all := lw_g (lw_at lw_m3 235 rfl) rfl
theorem q1294 : (Jvm.Cond.methodLink "NotationDeskLaw" (87 : Nat) ({ cls := "NotationDeskLaw", name := "part", desc := "(LNotationDesk;II[J)I" } : Jvm.MethodName)) ∈ lw_all := lw_g (lw_at lw_m6 9 rfl) rfl
theorem q1295 : (Jvm.Cond.static ({ cls := "NotationDeskLaw", name := "part", desc := "(LNotationDesk;II[J)I" } : Jvm.MethodName)) ∈ lw_all := lw_g (lw_at lw_m6 10 rfl) rfl
theorem q1296 : (Jvm.Cond.codeWith ({ cls := "NotationDeskLaw", name := "part", desc := "(LNotationDesk;II[J)I" } : Jvm.MethodName) method_5_code (5 : Nat) (Option.some Jvm.ClassFile.FieldType.int) [((0 : Nat), (10 : Nat), (13 : Nat), (19 : Nat)), ((0 : Nat), (10 : Nat), (17 : Nat), (23 : Nat))]) ∈ lw_all := lw_g (lw_at lw_m6 11 rfl) rfl
theorem q1297 : (Jvm.Cond.methodLink "NotationDeskLaw" (27 : Nat) ({ cls := "NotationDesk", name := "part", desc := "(II)I" } : Jvm.MethodName)) ∈ lw_all := lw_g (lw_at lw_m6 12 rfl) rfl
theorem q1305 : (Jvm.Cond.methodLink "NotationDeskLaw" (91 : Nat) ({ cls := "NotationDeskLaw", name := "octet", desc := "(LNotationDesk;II[J)I" } : Jvm.MethodName)) ∈ lw_all := lw_g (lw_at lw_m6 20 rfl) rfl
theorem q1306 : (Jvm.Cond.static ({ cls := "NotationDeskLaw", name := "octet", desc := "(LNotationDesk;II[J)I" } : Jvm.MethodName)) ∈ lw_all := lw_g (lw_at lw_m6 21 rfl) rfl
theorem q1307 : (Jvm.Cond.codeWith ({ cls := "NotationDeskLaw", name := "octet", desc := "(LNotationDesk;II[J)I" } : Jvm.MethodName) method_6_code (5 : Nat) (Option.some Jvm.ClassFile.FieldType.int) [((0 : Nat), (10 : Nat), (13 : Nat), (23 : Nat))]) ∈ lw_all := lw_g (lw_at lw_m6 22 rfl) rfl
theorem q1308 : (Jvm.Cond.methodLink "NotationDeskLaw" (31 : Nat) ({ cls := "NotationDesk", name := "octet", desc := "(II)I" } : Jvm.MethodName)) ∈ lw_all := lw_g (lw_at lw_m6 23 rfl) rfl
theorem q1312 : (Jvm.Cond.methodLink "NotationDeskLaw" (94 : Nat) ({ cls := "NotationDeskLaw", name := "operation", desc := "(LNotationDesk;ICII)I" } : Jvm.MethodName)) ∈ lw_all := lw_g (lw_at lw_m6 27 rfl) rfl
theorem q1313 : (Jvm.Cond.static ({ cls := "NotationDeskLaw", name := "operation", desc := "(LNotationDesk;ICII)I" } : Jvm.MethodName)) ∈ lw_all := lw_g (lw_at lw_m6 28 rfl) rfl
theorem q1314 : (Jvm.Cond.codeWith ({ cls := "NotationDeskLaw", name := "operation", desc := "(LNotationDesk;ICII)I" } : Jvm.MethodName) method_7_code (6 : Nat) (Option.some Jvm.ClassFile.FieldType.int) [((0 : Nat), (9 : Nat), (12 : Nat), (19 : Nat)), ((0 : Nat), (9 : Nat), (16 : Nat), (21 : Nat)), ((0 : Nat), (9 : Nat), (20 : Nat), (23 : Nat))]) ∈ lw_all := lw_g (lw_at lw_m6 29 rfl) rfl
theorem q1315 : (Jvm.Cond.methodLink "NotationDeskLaw" (34 : Nat) ({ cls := "NotationDesk", name := "operation", desc := "(ICII)V" } : Jvm.MethodName)) ∈ lw_all := lw_g (lw_at lw_m6 30 rfl) rfl
theorem q1319 : (Jvm.Cond.methodLink "NotationDeskLaw" (98 : Nat) ({ cls := "NotationDeskLaw", name := "serve", desc := "(LNotationDesk;[J)I" } : Jvm.MethodName)) ∈ lw_all := lw_g (lw_at lw_m6 34 rfl) rfl
theorem q1320 : (Jvm.Cond.static ({ cls := "NotationDeskLaw", name := "serve", desc := "(LNotationDesk;[J)I" } : Jvm.MethodName)) ∈ lw_all := lw_g (lw_at lw_m6 35 rfl) rfl
theorem q1321 : (Jvm.Cond.codeWith ({ cls := "NotationDeskLaw", name := "serve", desc := "(LNotationDesk;[J)I" } : Jvm.MethodName) method_8_code (3 : Nat) (Option.some Jvm.ClassFile.FieldType.int) [((0 : Nat), (8 : Nat), (11 : Nat), (21 : Nat))]) ∈ lw_all := lw_g (lw_at lw_m6 36 rfl) rfl
theorem q1322 : (Jvm.Cond.methodLink "NotationDeskLaw" (38 : Nat) ({ cls := "NotationDesk", name := "serve", desc := "()I" } : Jvm.MethodName)) ∈ lw_all := lw_g (lw_at lw_m6 37 rfl) rfl
theorem q1330 : (Jvm.Cond.classLink "NotationDeskLaw" (43 : Nat) "NotationDeskModel") ∈ lw_all := lw_g (lw_at lw_m6 45 rfl) rfl
theorem q1332 : (Jvm.Cond.methodLink "NotationDeskLaw" (45 : Nat) ({ cls := "NotationDeskModel", name := "<init>", desc := "()V" } : Jvm.MethodName)) ∈ lw_all := lw_g (lw_at lw_m6 47 rfl) rfl
theorem q1518 : (Jvm.Cond.methodLink "NotationDeskLaw" (76 : Nat) ({ cls := "NotationDeskModel", name := "thrown", desc := "()I" } : Jvm.MethodName)) ∈ lw_all := lw_g (lw_at lw_m6 233 rfl) rfl
theorem q1522 : (Jvm.Cond.methodLink "NotationDeskLaw" (50 : Nat) ({ cls := "NotationDeskModel", name := "type", desc := "(C)Z" } : Jvm.MethodName)) ∈ lw_all := lw_g (lw_at lw_m6 237 rfl) rfl
theorem q1526 : (Jvm.Cond.methodLink "NotationDeskLaw" (54 : Nat) ({ cls := "NotationDeskModel", name := "clear", desc := "()I" } : Jvm.MethodName)) ∈ lw_all := lw_g (lw_at lw_m7 1 rfl) rfl
theorem q1530 : (Jvm.Cond.methodLink "NotationDeskLaw" (58 : Nat) ({ cls := "NotationDeskModel", name := "compile", desc := "()I" } : Jvm.MethodName)) ∈ lw_all := lw_g (lw_at lw_m7 5 rfl) rfl
theorem q1602 : (Jvm.Cond.methodLink "NotationDeskLaw" (65 : Nat) ({ cls := "NotationDeskModel", name := "put", desc := "(JI)Z" } : Jvm.MethodName)) ∈ lw_all := lw_g (lw_at lw_m7 77 rfl) rfl
theorem q1607 : (Jvm.Cond.methodLink "NotationDeskLaw" (69 : Nat) ({ cls := "NotationDeskModel", name := "wipe", desc := "()I" } : Jvm.MethodName)) ∈ lw_all := lw_g (lw_at lw_m7 82 rfl) rfl
theorem q1611 : (Jvm.Cond.methodLink "NotationDeskLaw" (75 : Nat) ({ cls := "NotationDeskModel", name := "at", desc := "(I)I" } : Jvm.MethodName)) ∈ lw_all := lw_g (lw_at lw_m7 86 rfl) rfl
theorem q1615 : (Jvm.Cond.methodLink "NotationDeskLaw" (82 : Nat) ({ cls := "NotationDeskModel", name := "transcode", desc := "(CII)I" } : Jvm.MethodName)) ∈ lw_all := lw_g (lw_at lw_m7 90 rfl) rfl
theorem q1782 : (Jvm.Cond.methodLink "NotationDeskLaw" (86 : Nat) ({ cls := "NotationDeskModel", name := "parts", desc := "()I" } : Jvm.MethodName)) ∈ lw_all := lw_g (lw_at lw_m8 17 rfl) rfl
theorem q1786 : (Jvm.Cond.methodLink "NotationDeskLaw" (90 : Nat) ({ cls := "NotationDeskModel", name := "part", desc := "(II)I" } : Jvm.MethodName)) ∈ lw_all := lw_g (lw_at lw_m8 21 rfl) rfl
theorem q1790 : (Jvm.Cond.methodLink "NotationDeskLaw" (93 : Nat) ({ cls := "NotationDeskModel", name := "octet", desc := "(II)I" } : Jvm.MethodName)) ∈ lw_all := lw_g (lw_at lw_m8 25 rfl) rfl
theorem q1794 : (Jvm.Cond.methodLink "NotationDeskLaw" (97 : Nat) ({ cls := "NotationDeskModel", name := "operation", desc := "(ICII)V" } : Jvm.MethodName)) ∈ lw_all := lw_g (lw_at lw_m8 29 rfl) rfl
theorem q1798 : (Jvm.Cond.methodLink "NotationDeskLaw" (101 : Nat) ({ cls := "NotationDeskModel", name := "serve", desc := "()I" } : Jvm.MethodName)) ∈ lw_all := lw_g (lw_at lw_m8 33 rfl) rfl
theorem q1806 : (Jvm.Cond.constantLong "NotationDeskLaw" (59 : Nat) (4294967295 : Int64)) ∈ lw_all := lw_g (lw_at lw_m8 41 rfl) rfl
/-! NotationDesk$Store -/
set_option maxRecDepth 100000
def RX3 : String := "NotationDesk$Store"
def TX3 : u_T := fun k => match k with
  | 0 => ("NotationDesk$Store", "parts", "[LNotationDesk$Part;", true)
  | 1 => ("NotationDesk$Store", "order", "[LNotationDesk$Part;", true)
  | 2 => ("NotationDesk$Store", "octets", "[I", true)
  | 3 => ("NotationDesk$Store", "count", "I", false)
  | 4 => ("NotationDesk$Store", "used", "I", false)
  | _ => ("NotationDesk$Store", "ordered", "I", false)
def tyX3 : Nat → FieldType := fun k => match k with
  | 0 => .array (.object "NotationDesk$Part")
  | 1 => .array (.object "NotationDesk$Part")
  | 2 => .array .int
  | 3 => .int
  | 4 => .int
  | _ => .int
abbrev wsX30 : List Cond := u_ws RX3 TX3 6
theorem nmX3 : ∀ a, a < 6 → ∀ b, b < 6 → a ≠ b → (TX3 a).2.1 ≠ (TX3 b).2.1 := by decide +kernel
theorem tyX3_ok : ∀ k, k < 6 → parseFieldDescriptor (TX3 k).2.2.1 = some (tyX3 k) := by decide +kernel
abbrev cX3_init : ByteArray := prog_13_method_1_code
def yX3_init : MethodName := ⟨RX3, "<init>", "()V"⟩
def dkwX3_init_1 : List UInt8 := [16, 120, 188, 10, 181, 0, 20, 177]
abbrev dktX3_init_1 : List UInt8 := dkwX3_init_1 ++ []
def dkwX3_init_0 : List UInt8 := [42, 183, 0, 3, 42, 16, 100, 189, 0, 9, 181, 0, 11, 42, 16, 100, 189, 0, 9, 181, 0, 17, 42]
abbrev dktX3_init_0 : List UInt8 := dkwX3_init_0 ++ dktX3_init_1
theorem dksX3_init_0 : cX3_init.data.toList.drop 0 = dktX3_init_0 := by decide +kernel
theorem dksX3_init_1 : cX3_init.data.toList.drop 23 = dktX3_init_1 := dk_seg dksX3_init_0 23 rfl rfl
theorem dX3_init_0 : decode cX3_init 0 = .ok (.aload_n 0, 1) := dk_42 (dk_at dksX3_init_0 0 rfl rfl)
theorem dX3_init_1 : decode cX3_init 1 = .ok (.invokespecial 3, 3) := dk_183 0 3 (dk_at dksX3_init_0 1 rfl rfl)
theorem dX3_init_4 : decode cX3_init 4 = .ok (.aload_n 0, 1) := dk_42 (dk_at dksX3_init_0 4 rfl rfl)
theorem dX3_init_5 : decode cX3_init 5 = .ok (.bipush 100, 2) := dk_16 100 (dk_at dksX3_init_0 5 rfl rfl)
theorem dX3_init_7 : decode cX3_init 7 = .ok (.anewarray 9, 3) := dk_189 0 9 (dk_at dksX3_init_0 7 rfl rfl)
theorem dX3_init_10 : decode cX3_init 10 = .ok (.putfield 11, 3) := dk_181 0 11 (dk_at dksX3_init_0 10 rfl rfl)
theorem dX3_init_13 : decode cX3_init 13 = .ok (.aload_n 0, 1) := dk_42 (dk_at dksX3_init_0 13 rfl rfl)
theorem dX3_init_14 : decode cX3_init 14 = .ok (.bipush 100, 2) := dk_16 100 (dk_at dksX3_init_0 14 rfl rfl)
theorem dX3_init_16 : decode cX3_init 16 = .ok (.anewarray 9, 3) := dk_189 0 9 (dk_at dksX3_init_0 16 rfl rfl)
theorem dX3_init_19 : decode cX3_init 19 = .ok (.putfield 17, 3) := dk_181 0 17 (dk_at dksX3_init_0 19 rfl rfl)
theorem dX3_init_22 : decode cX3_init 22 = .ok (.aload_n 0, 1) := dk_42 (dk_at dksX3_init_0 22 rfl rfl)
theorem dX3_init_23 : decode cX3_init 23 = .ok (.bipush 120, 2) := dk_16 120 (dk_at dksX3_init_1 0 rfl rfl)
theorem dX3_init_25 : decode cX3_init 25 = .ok (.newarray .int, 2) := dk_188_10 (dk_at dksX3_init_1 2 rfl rfl)
theorem dX3_init_27 : decode cX3_init 27 = .ok (.putfield 20, 3) := dk_181 0 20 (dk_at dksX3_init_1 4 rfl rfl)
theorem dX3_init_30 : decode cX3_init 30 = .ok (.return_, 1) := dk_177 (dk_at dksX3_init_1 7 rfl rfl)
abbrev cX3_clear : ByteArray := prog_13_method_2_code
def yX3_clear : MethodName := ⟨RX3, "clear", "()V"⟩
def dkwX3_clear_0 : List UInt8 := [42, 3, 181, 0, 24, 42, 3, 181, 0, 28, 42, 3, 181, 0, 31, 177]
abbrev dktX3_clear_0 : List UInt8 := dkwX3_clear_0 ++ []
theorem dksX3_clear_0 : cX3_clear.data.toList.drop 0 = dktX3_clear_0 := by decide +kernel
theorem dX3_clear_0 : decode cX3_clear 0 = .ok (.aload_n 0, 1) := dk_42 (dk_at dksX3_clear_0 0 rfl rfl)
theorem dX3_clear_1 : decode cX3_clear 1 = .ok (.iconst 0, 1) := dk_3 (dk_at dksX3_clear_0 1 rfl rfl)
theorem dX3_clear_2 : decode cX3_clear 2 = .ok (.putfield 24, 3) := dk_181 0 24 (dk_at dksX3_clear_0 2 rfl rfl)
theorem dX3_clear_5 : decode cX3_clear 5 = .ok (.aload_n 0, 1) := dk_42 (dk_at dksX3_clear_0 5 rfl rfl)
theorem dX3_clear_6 : decode cX3_clear 6 = .ok (.iconst 0, 1) := dk_3 (dk_at dksX3_clear_0 6 rfl rfl)
theorem dX3_clear_7 : decode cX3_clear 7 = .ok (.putfield 28, 3) := dk_181 0 28 (dk_at dksX3_clear_0 7 rfl rfl)
theorem dX3_clear_10 : decode cX3_clear 10 = .ok (.aload_n 0, 1) := dk_42 (dk_at dksX3_clear_0 10 rfl rfl)
theorem dX3_clear_11 : decode cX3_clear 11 = .ok (.iconst 0, 1) := dk_3 (dk_at dksX3_clear_0 11 rfl rfl)
theorem dX3_clear_12 : decode cX3_clear 12 = .ok (.putfield 31, 3) := dk_181 0 31 (dk_at dksX3_clear_0 12 rfl rfl)
theorem dX3_clear_15 : decode cX3_clear 15 = .ok (.return_, 1) := dk_177 (dk_at dksX3_clear_0 15 rfl rfl)
abbrev cX3_make : ByteArray := prog_13_method_3_code
def yX3_make : MethodName := ⟨RX3, "make", "(II)LNotationDesk$Part;"⟩
def dkwX3_make_4 : List UInt8 := [181, 0, 54, 45, 176]
abbrev dktX3_make_4 : List UInt8 := dkwX3_make_4 ++ []
def dkwX3_make_3 : List UInt8 := [180, 0, 28, 181, 0, 41, 45, 3, 181, 0, 44, 45, 1, 181, 0, 47, 45, 1, 181, 0, 51, 45, 1]
abbrev dktX3_make_3 : List UInt8 := dkwX3_make_3 ++ dktX3_make_4
def dkwX3_make_2 : List UInt8 := [78, 42, 89, 180, 0, 24, 4, 96, 181, 0, 24, 45, 27, 181, 0, 35, 45, 28, 181, 0, 38, 45, 42]
abbrev dktX3_make_2 : List UInt8 := dkwX3_make_2 ++ dktX3_make_3
def dkwX3_make_1 : List UInt8 := [180, 0, 11, 42, 180, 0, 24, 187, 0, 9, 89, 183, 0, 34, 83, 42, 180, 0, 11, 42, 180, 0, 24, 50]
abbrev dktX3_make_1 : List UInt8 := dkwX3_make_1 ++ dktX3_make_2
def dkwX3_make_0 : List UInt8 := [42, 180, 0, 24, 16, 100, 161, 0, 5, 1, 176, 42, 180, 0, 11, 42, 180, 0, 24, 50, 199, 0, 19, 42]
abbrev dktX3_make_0 : List UInt8 := dkwX3_make_0 ++ dktX3_make_1
theorem dksX3_make_0 : cX3_make.data.toList.drop 0 = dktX3_make_0 := by decide +kernel
theorem dksX3_make_1 : cX3_make.data.toList.drop 24 = dktX3_make_1 := dk_seg dksX3_make_0 24 rfl rfl
theorem dksX3_make_2 : cX3_make.data.toList.drop 48 = dktX3_make_2 := dk_seg dksX3_make_1 24 rfl rfl
theorem dksX3_make_3 : cX3_make.data.toList.drop 71 = dktX3_make_3 := dk_seg dksX3_make_2 23 rfl rfl
theorem dksX3_make_4 : cX3_make.data.toList.drop 94 = dktX3_make_4 := dk_seg dksX3_make_3 23 rfl rfl
theorem dX3_make_0 : decode cX3_make 0 = .ok (.aload_n 0, 1) := dk_42 (dk_at dksX3_make_0 0 rfl rfl)
theorem dX3_make_1 : decode cX3_make 1 = .ok (.getfield 24, 3) := dk_180 0 24 (dk_at dksX3_make_0 1 rfl rfl)
theorem dX3_make_4 : decode cX3_make 4 = .ok (.bipush 100, 2) := dk_16 100 (dk_at dksX3_make_0 4 rfl rfl)
theorem dX3_make_6 : decode cX3_make 6 = .ok (.if_icmp .lt 5, 3) := dk_161 0 5 (dk_at dksX3_make_0 6 rfl rfl)
theorem dX3_make_9 : decode cX3_make 9 = .ok (.aconst_null, 1) := dk_1 (dk_at dksX3_make_0 9 rfl rfl)
theorem dX3_make_10 : decode cX3_make 10 = .ok (.areturn, 1) := dk_176 (dk_at dksX3_make_0 10 rfl rfl)
theorem dX3_make_11 : decode cX3_make 11 = .ok (.aload_n 0, 1) := dk_42 (dk_at dksX3_make_0 11 rfl rfl)
theorem dX3_make_12 : decode cX3_make 12 = .ok (.getfield 11, 3) := dk_180 0 11 (dk_at dksX3_make_0 12 rfl rfl)
theorem dX3_make_15 : decode cX3_make 15 = .ok (.aload_n 0, 1) := dk_42 (dk_at dksX3_make_0 15 rfl rfl)
theorem dX3_make_16 : decode cX3_make 16 = .ok (.getfield 24, 3) := dk_180 0 24 (dk_at dksX3_make_0 16 rfl rfl)
theorem dX3_make_19 : decode cX3_make 19 = .ok (.aaload, 1) := dk_50 (dk_at dksX3_make_0 19 rfl rfl)
theorem dX3_make_20 : decode cX3_make 20 = .ok (.ifnonnull 19, 3) := dk_199 0 19 (dk_at dksX3_make_0 20 rfl rfl)
theorem dX3_make_23 : decode cX3_make 23 = .ok (.aload_n 0, 1) := dk_42 (dk_at dksX3_make_0 23 rfl rfl)
theorem dX3_make_24 : decode cX3_make 24 = .ok (.getfield 11, 3) := dk_180 0 11 (dk_at dksX3_make_1 0 rfl rfl)
theorem dX3_make_27 : decode cX3_make 27 = .ok (.aload_n 0, 1) := dk_42 (dk_at dksX3_make_1 3 rfl rfl)
theorem dX3_make_28 : decode cX3_make 28 = .ok (.getfield 24, 3) := dk_180 0 24 (dk_at dksX3_make_1 4 rfl rfl)
theorem dX3_make_31 : decode cX3_make 31 = .ok (.new 9, 3) := dk_187 0 9 (dk_at dksX3_make_1 7 rfl rfl)
theorem dX3_make_34 : decode cX3_make 34 = .ok (.dup, 1) := dk_89 (dk_at dksX3_make_1 10 rfl rfl)
theorem dX3_make_35 : decode cX3_make 35 = .ok (.invokespecial 34, 3) := dk_183 0 34 (dk_at dksX3_make_1 11 rfl rfl)
theorem dX3_make_38 : decode cX3_make 38 = .ok (.aastore, 1) := dk_83 (dk_at dksX3_make_1 14 rfl rfl)
theorem dX3_make_39 : decode cX3_make 39 = .ok (.aload_n 0, 1) := dk_42 (dk_at dksX3_make_1 15 rfl rfl)
theorem dX3_make_40 : decode cX3_make 40 = .ok (.getfield 11, 3) := dk_180 0 11 (dk_at dksX3_make_1 16 rfl rfl)
theorem dX3_make_43 : decode cX3_make 43 = .ok (.aload_n 0, 1) := dk_42 (dk_at dksX3_make_1 19 rfl rfl)
theorem dX3_make_44 : decode cX3_make 44 = .ok (.getfield 24, 3) := dk_180 0 24 (dk_at dksX3_make_1 20 rfl rfl)
theorem dX3_make_47 : decode cX3_make 47 = .ok (.aaload, 1) := dk_50 (dk_at dksX3_make_1 23 rfl rfl)
theorem dX3_make_48 : decode cX3_make 48 = .ok (.astore_n 3, 1) := dk_78 (dk_at dksX3_make_2 0 rfl rfl)
theorem dX3_make_49 : decode cX3_make 49 = .ok (.aload_n 0, 1) := dk_42 (dk_at dksX3_make_2 1 rfl rfl)
theorem dX3_make_50 : decode cX3_make 50 = .ok (.dup, 1) := dk_89 (dk_at dksX3_make_2 2 rfl rfl)
theorem dX3_make_51 : decode cX3_make 51 = .ok (.getfield 24, 3) := dk_180 0 24 (dk_at dksX3_make_2 3 rfl rfl)
theorem dX3_make_54 : decode cX3_make 54 = .ok (.iconst 1, 1) := dk_4 (dk_at dksX3_make_2 6 rfl rfl)
theorem dX3_make_55 : decode cX3_make 55 = .ok (.iadd, 1) := dk_96 (dk_at dksX3_make_2 7 rfl rfl)
theorem dX3_make_56 : decode cX3_make 56 = .ok (.putfield 24, 3) := dk_181 0 24 (dk_at dksX3_make_2 8 rfl rfl)
theorem dX3_make_59 : decode cX3_make 59 = .ok (.aload_n 3, 1) := dk_45 (dk_at dksX3_make_2 11 rfl rfl)
theorem dX3_make_60 : decode cX3_make 60 = .ok (.iload_n 1, 1) := dk_27 (dk_at dksX3_make_2 12 rfl rfl)
theorem dX3_make_61 : decode cX3_make 61 = .ok (.putfield 35, 3) := dk_181 0 35 (dk_at dksX3_make_2 13 rfl rfl)
theorem dX3_make_64 : decode cX3_make 64 = .ok (.aload_n 3, 1) := dk_45 (dk_at dksX3_make_2 16 rfl rfl)
theorem dX3_make_65 : decode cX3_make 65 = .ok (.iload_n 2, 1) := dk_28 (dk_at dksX3_make_2 17 rfl rfl)
theorem dX3_make_66 : decode cX3_make 66 = .ok (.putfield 38, 3) := dk_181 0 38 (dk_at dksX3_make_2 18 rfl rfl)
theorem dX3_make_69 : decode cX3_make 69 = .ok (.aload_n 3, 1) := dk_45 (dk_at dksX3_make_2 21 rfl rfl)
theorem dX3_make_70 : decode cX3_make 70 = .ok (.aload_n 0, 1) := dk_42 (dk_at dksX3_make_2 22 rfl rfl)
theorem dX3_make_71 : decode cX3_make 71 = .ok (.getfield 28, 3) := dk_180 0 28 (dk_at dksX3_make_3 0 rfl rfl)
theorem dX3_make_74 : decode cX3_make 74 = .ok (.putfield 41, 3) := dk_181 0 41 (dk_at dksX3_make_3 3 rfl rfl)
theorem dX3_make_77 : decode cX3_make 77 = .ok (.aload_n 3, 1) := dk_45 (dk_at dksX3_make_3 6 rfl rfl)
theorem dX3_make_78 : decode cX3_make 78 = .ok (.iconst 0, 1) := dk_3 (dk_at dksX3_make_3 7 rfl rfl)
theorem dX3_make_79 : decode cX3_make 79 = .ok (.putfield 44, 3) := dk_181 0 44 (dk_at dksX3_make_3 8 rfl rfl)
theorem dX3_make_82 : decode cX3_make 82 = .ok (.aload_n 3, 1) := dk_45 (dk_at dksX3_make_3 11 rfl rfl)
theorem dX3_make_83 : decode cX3_make 83 = .ok (.aconst_null, 1) := dk_1 (dk_at dksX3_make_3 12 rfl rfl)
theorem dX3_make_84 : decode cX3_make 84 = .ok (.putfield 47, 3) := dk_181 0 47 (dk_at dksX3_make_3 13 rfl rfl)
theorem dX3_make_87 : decode cX3_make 87 = .ok (.aload_n 3, 1) := dk_45 (dk_at dksX3_make_3 16 rfl rfl)
theorem dX3_make_88 : decode cX3_make 88 = .ok (.aconst_null, 1) := dk_1 (dk_at dksX3_make_3 17 rfl rfl)
theorem dX3_make_89 : decode cX3_make 89 = .ok (.putfield 51, 3) := dk_181 0 51 (dk_at dksX3_make_3 18 rfl rfl)
theorem dX3_make_92 : decode cX3_make 92 = .ok (.aload_n 3, 1) := dk_45 (dk_at dksX3_make_3 21 rfl rfl)
theorem dX3_make_93 : decode cX3_make 93 = .ok (.aconst_null, 1) := dk_1 (dk_at dksX3_make_3 22 rfl rfl)
theorem dX3_make_94 : decode cX3_make 94 = .ok (.putfield 54, 3) := dk_181 0 54 (dk_at dksX3_make_4 0 rfl rfl)
theorem dX3_make_97 : decode cX3_make 97 = .ok (.aload_n 3, 1) := dk_45 (dk_at dksX3_make_4 3 rfl rfl)
theorem dX3_make_98 : decode cX3_make 98 = .ok (.areturn, 1) := dk_176 (dk_at dksX3_make_4 4 rfl rfl)
abbrev cX3_arrange : ByteArray := prog_13_method_4_code
def yX3_arrange : MethodName := ⟨RX3, "arrange", "(LNotationDesk$Store;LNotationDesk$Part;I)V"⟩
def dkwX3_arrange_2 : List UInt8 := [184, 0, 63, 45, 180, 0, 54, 78, 167, 255, 238, 177]
abbrev dktX3_arrange_2 : List UInt8 := dkwX3_arrange_2 ++ []
def dkwX3_arrange_1 : List UInt8 := [89, 180, 0, 31, 4, 96, 181, 0, 31, 43, 180, 0, 47, 78, 45, 198, 0, 20, 42, 45, 43, 180, 0, 60]
abbrev dktX3_arrange_1 : List UInt8 := dkwX3_arrange_1 ++ dktX3_arrange_2
def dkwX3_arrange_0 : List UInt8 := [43, 28, 181, 0, 57, 43, 42, 180, 0, 31, 181, 0, 60, 42, 180, 0, 17, 42, 180, 0, 31, 43, 83, 42]
abbrev dktX3_arrange_0 : List UInt8 := dkwX3_arrange_0 ++ dktX3_arrange_1
theorem dksX3_arrange_0 : cX3_arrange.data.toList.drop 0 = dktX3_arrange_0 := by decide +kernel
theorem dksX3_arrange_1 : cX3_arrange.data.toList.drop 24 = dktX3_arrange_1 := dk_seg dksX3_arrange_0 24 rfl rfl
theorem dksX3_arrange_2 : cX3_arrange.data.toList.drop 48 = dktX3_arrange_2 := dk_seg dksX3_arrange_1 24 rfl rfl
theorem dX3_arrange_0 : decode cX3_arrange 0 = .ok (.aload_n 1, 1) := dk_43 (dk_at dksX3_arrange_0 0 rfl rfl)
theorem dX3_arrange_1 : decode cX3_arrange 1 = .ok (.iload_n 2, 1) := dk_28 (dk_at dksX3_arrange_0 1 rfl rfl)
theorem dX3_arrange_2 : decode cX3_arrange 2 = .ok (.putfield 57, 3) := dk_181 0 57 (dk_at dksX3_arrange_0 2 rfl rfl)
theorem dX3_arrange_5 : decode cX3_arrange 5 = .ok (.aload_n 1, 1) := dk_43 (dk_at dksX3_arrange_0 5 rfl rfl)
theorem dX3_arrange_6 : decode cX3_arrange 6 = .ok (.aload_n 0, 1) := dk_42 (dk_at dksX3_arrange_0 6 rfl rfl)
theorem dX3_arrange_7 : decode cX3_arrange 7 = .ok (.getfield 31, 3) := dk_180 0 31 (dk_at dksX3_arrange_0 7 rfl rfl)
theorem dX3_arrange_10 : decode cX3_arrange 10 = .ok (.putfield 60, 3) := dk_181 0 60 (dk_at dksX3_arrange_0 10 rfl rfl)
theorem dX3_arrange_13 : decode cX3_arrange 13 = .ok (.aload_n 0, 1) := dk_42 (dk_at dksX3_arrange_0 13 rfl rfl)
theorem dX3_arrange_14 : decode cX3_arrange 14 = .ok (.getfield 17, 3) := dk_180 0 17 (dk_at dksX3_arrange_0 14 rfl rfl)
theorem dX3_arrange_17 : decode cX3_arrange 17 = .ok (.aload_n 0, 1) := dk_42 (dk_at dksX3_arrange_0 17 rfl rfl)
theorem dX3_arrange_18 : decode cX3_arrange 18 = .ok (.getfield 31, 3) := dk_180 0 31 (dk_at dksX3_arrange_0 18 rfl rfl)
theorem dX3_arrange_21 : decode cX3_arrange 21 = .ok (.aload_n 1, 1) := dk_43 (dk_at dksX3_arrange_0 21 rfl rfl)
theorem dX3_arrange_22 : decode cX3_arrange 22 = .ok (.aastore, 1) := dk_83 (dk_at dksX3_arrange_0 22 rfl rfl)
theorem dX3_arrange_23 : decode cX3_arrange 23 = .ok (.aload_n 0, 1) := dk_42 (dk_at dksX3_arrange_0 23 rfl rfl)
theorem dX3_arrange_24 : decode cX3_arrange 24 = .ok (.dup, 1) := dk_89 (dk_at dksX3_arrange_1 0 rfl rfl)
theorem dX3_arrange_25 : decode cX3_arrange 25 = .ok (.getfield 31, 3) := dk_180 0 31 (dk_at dksX3_arrange_1 1 rfl rfl)
theorem dX3_arrange_28 : decode cX3_arrange 28 = .ok (.iconst 1, 1) := dk_4 (dk_at dksX3_arrange_1 4 rfl rfl)
theorem dX3_arrange_29 : decode cX3_arrange 29 = .ok (.iadd, 1) := dk_96 (dk_at dksX3_arrange_1 5 rfl rfl)
theorem dX3_arrange_30 : decode cX3_arrange 30 = .ok (.putfield 31, 3) := dk_181 0 31 (dk_at dksX3_arrange_1 6 rfl rfl)
theorem dX3_arrange_33 : decode cX3_arrange 33 = .ok (.aload_n 1, 1) := dk_43 (dk_at dksX3_arrange_1 9 rfl rfl)
theorem dX3_arrange_34 : decode cX3_arrange 34 = .ok (.getfield 47, 3) := dk_180 0 47 (dk_at dksX3_arrange_1 10 rfl rfl)
theorem dX3_arrange_37 : decode cX3_arrange 37 = .ok (.astore_n 3, 1) := dk_78 (dk_at dksX3_arrange_1 13 rfl rfl)
theorem dX3_arrange_38 : decode cX3_arrange 38 = .ok (.aload_n 3, 1) := dk_45 (dk_at dksX3_arrange_1 14 rfl rfl)
theorem dX3_arrange_39 : decode cX3_arrange 39 = .ok (.ifnull 20, 3) := dk_198 0 20 (dk_at dksX3_arrange_1 15 rfl rfl)
theorem dX3_arrange_42 : decode cX3_arrange 42 = .ok (.aload_n 0, 1) := dk_42 (dk_at dksX3_arrange_1 18 rfl rfl)
theorem dX3_arrange_43 : decode cX3_arrange 43 = .ok (.aload_n 3, 1) := dk_45 (dk_at dksX3_arrange_1 19 rfl rfl)
theorem dX3_arrange_44 : decode cX3_arrange 44 = .ok (.aload_n 1, 1) := dk_43 (dk_at dksX3_arrange_1 20 rfl rfl)
theorem dX3_arrange_45 : decode cX3_arrange 45 = .ok (.getfield 60, 3) := dk_180 0 60 (dk_at dksX3_arrange_1 21 rfl rfl)
theorem dX3_arrange_48 : decode cX3_arrange 48 = .ok (.invokestatic 63, 3) := dk_184 0 63 (dk_at dksX3_arrange_2 0 rfl rfl)
theorem dX3_arrange_51 : decode cX3_arrange 51 = .ok (.aload_n 3, 1) := dk_45 (dk_at dksX3_arrange_2 3 rfl rfl)
theorem dX3_arrange_52 : decode cX3_arrange 52 = .ok (.getfield 54, 3) := dk_180 0 54 (dk_at dksX3_arrange_2 4 rfl rfl)
theorem dX3_arrange_55 : decode cX3_arrange 55 = .ok (.astore_n 3, 1) := dk_78 (dk_at dksX3_arrange_2 7 rfl rfl)
theorem dX3_arrange_56 : decode cX3_arrange 56 = .ok (.goto (-18), 3) := dk_167 255 238 (dk_at dksX3_arrange_2 8 rfl rfl)
theorem dX3_arrange_59 : decode cX3_arrange 59 = .ok (.return_, 1) := dk_177 (dk_at dksX3_arrange_2 11 rfl rfl)
theorem q88 : (Jvm.Cond.initialized "NotationDesk$Store") ∈ lw_all := lw_g (lw_at lw_m1 3 rfl) rfl
theorem q194 : (Jvm.Cond.instantiable "NotationDesk$Store" (6 : Nat)) ∈ lw_all := lw_g (lw_at lw_m1 109 rfl) rfl
theorem q196 : (Jvm.Cond.instanceMethod ({ cls := "NotationDesk$Store", name := "<init>", desc := "()V" } : Jvm.MethodName)) ∈ lw_all := lw_g (lw_at lw_m1 111 rfl) rfl
theorem q197 : (Jvm.Cond.code ({ cls := "NotationDesk$Store", name := "<init>", desc := "()V" } : Jvm.MethodName) prog_13_method_1_code (1 : Nat) (Option.none : Option Jvm.ClassFile.FieldType)) ∈ lw_all := lw_g (lw_at lw_m1 112 rfl) rfl
theorem q198 : (Jvm.Cond.methodLink "NotationDesk$Store" (3 : Nat) ({ cls := "java/lang/Object", name := "<init>", desc := "()V" } : Jvm.MethodName)) ∈ lw_all := lw_g (lw_at lw_m1 113 rfl) rfl
theorem q199 : (Jvm.Cond.classLink "NotationDesk$Store" (9 : Nat) "NotationDesk$Part") ∈ lw_all := lw_g (lw_at lw_m1 114 rfl) rfl
theorem q201 : (Jvm.Cond.fieldLink "NotationDesk$Store" (11 : Nat) "NotationDesk$Store" "parts" "[LNotationDesk$Part;") ∈ lw_all := lw_g (lw_at lw_m1 116 rfl) rfl
theorem q202 : (Jvm.Cond.fieldLink "NotationDesk$Store" (17 : Nat) "NotationDesk$Store" "order" "[LNotationDesk$Part;") ∈ lw_all := lw_g (lw_at lw_m1 117 rfl) rfl
theorem q204 : (Jvm.Cond.fieldLink "NotationDesk$Store" (20 : Nat) "NotationDesk$Store" "octets" "[I") ∈ lw_all := lw_g (lw_at lw_m1 119 rfl) rfl
theorem q207 : (Jvm.Cond.fieldLink "NotationDesk$Store" (24 : Nat) "NotationDesk$Store" "count" "I") ∈ lw_all := lw_g (lw_at lw_m1 122 rfl) rfl
theorem q209 : (Jvm.Cond.fieldLink "NotationDesk$Store" (28 : Nat) "NotationDesk$Store" "used" "I") ∈ lw_all := lw_g (lw_at lw_m1 124 rfl) rfl
theorem q210 : (Jvm.Cond.fieldLink "NotationDesk$Store" (31 : Nat) "NotationDesk$Store" "ordered" "I") ∈ lw_all := lw_g (lw_at lw_m1 125 rfl) rfl
theorem q212 : (Jvm.Cond.laysFinal "NotationDesk$Store" "NotationDesk$Store" "parts" "[LNotationDesk$Part;") ∈ lw_all := lw_g (lw_at lw_m1 127 rfl) rfl
theorem q213 : (Jvm.Cond.soleField "NotationDesk$Store" "parts") ∈ lw_all := lw_g (lw_at lw_m1 128 rfl) rfl
theorem q214 : (Jvm.Cond.laysFinal "NotationDesk$Store" "NotationDesk$Store" "order" "[LNotationDesk$Part;") ∈ lw_all := lw_g (lw_at lw_m1 129 rfl) rfl
theorem q215 : (Jvm.Cond.soleField "NotationDesk$Store" "order") ∈ lw_all := lw_g (lw_at lw_m1 130 rfl) rfl
theorem q216 : (Jvm.Cond.laysFinal "NotationDesk$Store" "NotationDesk$Store" "octets" "[I") ∈ lw_all := lw_g (lw_at lw_m1 131 rfl) rfl
theorem q217 : (Jvm.Cond.soleField "NotationDesk$Store" "octets") ∈ lw_all := lw_g (lw_at lw_m1 132 rfl) rfl
theorem q218 : (Jvm.Cond.lays "NotationDesk$Store" "NotationDesk$Store" "count" "I") ∈ lw_all := lw_g (lw_at lw_m1 133 rfl) rfl
theorem q219 : (Jvm.Cond.soleField "NotationDesk$Store" "count") ∈ lw_all := lw_g (lw_at lw_m1 134 rfl) rfl
theorem q220 : (Jvm.Cond.lays "NotationDesk$Store" "NotationDesk$Store" "used" "I") ∈ lw_all := lw_g (lw_at lw_m1 135 rfl) rfl
theorem q221 : (Jvm.Cond.soleField "NotationDesk$Store" "used") ∈ lw_all := lw_g (lw_at lw_m1 136 rfl) rfl
theorem q222 : (Jvm.Cond.lays "NotationDesk$Store" "NotationDesk$Store" "ordered" "I") ∈ lw_all := lw_g (lw_at lw_m1 137 rfl) rfl
theorem q223 : (Jvm.Cond.soleField "NotationDesk$Store" "ordered") ∈ lw_all := lw_g (lw_at lw_m1 138 rfl) rfl
theorem q224 : (Jvm.Cond.superclass "NotationDesk$Store" "java/lang/Object") ∈ lw_all := lw_g (lw_at lw_m1 139 rfl) rfl
theorem q331 : (Jvm.Cond.instanceMethod ({ cls := "NotationDesk$Store", name := "clear", desc := "()V" } : Jvm.MethodName)) ∈ lw_all := lw_g (lw_at lw_m2 6 rfl) rfl
theorem q332 : (Jvm.Cond.selects "NotationDesk$Store" ({ cls := "NotationDesk$Store", name := "clear", desc := "()V" } : Jvm.MethodName) ({ cls := "NotationDesk$Store", name := "clear", desc := "()V" } : Jvm.MethodName)) ∈ lw_all := lw_g (lw_at lw_m2 7 rfl) rfl
theorem q333 : (Jvm.Cond.code ({ cls := "NotationDesk$Store", name := "clear", desc := "()V" } : Jvm.MethodName) prog_13_method_2_code (1 : Nat) (Option.none : Option Jvm.ClassFile.FieldType)) ∈ lw_all := lw_g (lw_at lw_m2 8 rfl) rfl
theorem q897 : (Jvm.Cond.instanceMethod ({ cls := "NotationDesk$Store", name := "make", desc := "(II)LNotationDesk$Part;" } : Jvm.MethodName)) ∈ lw_all := lw_g (lw_at lw_m4 92 rfl) rfl
theorem q898 : (Jvm.Cond.selects "NotationDesk$Store" ({ cls := "NotationDesk$Store", name := "make", desc := "(II)LNotationDesk$Part;" } : Jvm.MethodName) ({ cls := "NotationDesk$Store", name := "make", desc := "(II)LNotationDesk$Part;" } : Jvm.MethodName)) ∈ lw_all := lw_g (lw_at lw_m4 93 rfl) rfl
theorem q899 : (Jvm.Cond.code ({ cls := "NotationDesk$Store", name := "make", desc := "(II)LNotationDesk$Part;" } : Jvm.MethodName) prog_13_method_3_code (4 : Nat) (Option.some (Jvm.ClassFile.FieldType.object "NotationDesk$Part"))) ∈ lw_all := lw_g (lw_at lw_m4 94 rfl) rfl
theorem q901 : (Jvm.Cond.methodLinkNest "NotationDesk$Store" (34 : Nat) ({ cls := "NotationDesk$Part", name := "<init>", desc := "()V" } : Jvm.MethodName) "NotationDesk") ∈ lw_tbl := lw_at lw_m4 96 rfl
theorem q905 : (Jvm.Cond.fieldLinkNest "NotationDesk$Store" (35 : Nat) "NotationDesk$Part" "kind" "I" "NotationDesk") ∈ lw_tbl := lw_at lw_m4 100 rfl
theorem q908 : (Jvm.Cond.fieldLinkNest "NotationDesk$Store" (38 : Nat) "NotationDesk$Part" "number" "I" "NotationDesk") ∈ lw_tbl := lw_at lw_m4 103 rfl
theorem q914 : (Jvm.Cond.fieldLinkNest "NotationDesk$Store" (41 : Nat) "NotationDesk$Part" "from" "I" "NotationDesk") ∈ lw_tbl := lw_at lw_m4 109 rfl
theorem q918 : (Jvm.Cond.fieldLinkNest "NotationDesk$Store" (44 : Nat) "NotationDesk$Part" "which" "I" "NotationDesk") ∈ lw_tbl := lw_at lw_m4 113 rfl
theorem q920 : (Jvm.Cond.fieldLinkNest "NotationDesk$Store" (57 : Nat) "NotationDesk$Part" "above" "I" "NotationDesk") ∈ lw_tbl := lw_at lw_m4 115 rfl
theorem q922 : (Jvm.Cond.fieldLinkNest "NotationDesk$Store" (60 : Nat) "NotationDesk$Part" "place" "I" "NotationDesk") ∈ lw_tbl := lw_at lw_m4 117 rfl
theorem q924 : (Jvm.Cond.fieldLinkNest "NotationDesk$Store" (47 : Nat) "NotationDesk$Part" "first" "LNotationDesk$Part;" "NotationDesk") ∈ lw_tbl := lw_at lw_m4 119 rfl
theorem q928 : (Jvm.Cond.fieldLinkNest "NotationDesk$Store" (51 : Nat) "NotationDesk$Part" "last" "LNotationDesk$Part;" "NotationDesk") ∈ lw_tbl := lw_at lw_m4 123 rfl
theorem q930 : (Jvm.Cond.fieldLinkNest "NotationDesk$Store" (54 : Nat) "NotationDesk$Part" "next" "LNotationDesk$Part;" "NotationDesk") ∈ lw_tbl := lw_at lw_m4 125 rfl
theorem q1291 : (Jvm.Cond.static ({ cls := "NotationDesk$Store", name := "arrange", desc := "(LNotationDesk$Store;LNotationDesk$Part;I)V" } : Jvm.MethodName)) ∈ lw_all := lw_g (lw_at lw_m6 6 rfl) rfl
theorem q1292 : (Jvm.Cond.code ({ cls := "NotationDesk$Store", name := "arrange", desc := "(LNotationDesk$Store;LNotationDesk$Part;I)V" } : Jvm.MethodName) prog_13_method_4_code (4 : Nat) (Option.none : Option Jvm.ClassFile.FieldType)) ∈ lw_all := lw_g (lw_at lw_m6 7 rfl) rfl
theorem q1293 : (Jvm.Cond.methodLink "NotationDesk$Store" (63 : Nat) ({ cls := "NotationDesk$Store", name := "arrange", desc := "(LNotationDesk$Store;LNotationDesk$Part;I)V" } : Jvm.MethodName)) ∈ lw_all := lw_g (lw_at lw_m6 8 rfl) rfl
theorem q1813 : (Jvm.Cond.castable "NotationDesk$Store" "java/lang/Object") ∈ lw_tbl := lw_at lw_m8 48 rfl
theorem in_X3 : ∀ w ∈ wsX30, w ∈ lw_all := lw_in wsX30 [212, 214, 216, 218, 220, 222] (by decide +kernel) (by decide +kernel)
/-! NotationDesk$Source -/
set_option maxRecDepth 100000
def RX4 : String := "NotationDesk$Source"
def TX4 : u_T := fun k => match k with
  | 0 => ("NotationDesk$Source", "bytes", "[I", false)
  | 1 => ("NotationDesk$Source", "at", "I", false)
  | 2 => ("NotationDesk$Source", "end", "I", false)
  | 3 => ("NotationDesk$Source", "bit", "I", false)
  | 4 => ("NotationDesk$Source", "store", "LNotationDesk$Store;", false)
  | 5 => ("NotationDesk$Source", "lengths", "[I", true)
  | 6 => ("NotationDesk$Source", "ends", "[I", true)
  | _ => ("NotationDesk$Source", "open", "I", false)
def tyX4 : Nat → FieldType := fun k => match k with
  | 0 => .array .int
  | 1 => .int
  | 2 => .int
  | 3 => .int
  | 4 => .object "NotationDesk$Store"
  | 5 => .array .int
  | 6 => .array .int
  | _ => .int
abbrev wsX40 : List Cond := u_ws RX4 TX4 8
theorem nmX4 : ∀ a, a < 8 → ∀ b, b < 8 → a ≠ b → (TX4 a).2.1 ≠ (TX4 b).2.1 := by decide +kernel
theorem tyX4_ok : ∀ k, k < 8 → parseFieldDescriptor (TX4 k).2.2.1 = some (tyX4 k) := by decide +kernel
abbrev cX4_init : ByteArray := prog_12_method_1_code
def yX4_init : MethodName := ⟨RX4, "<init>", "()V"⟩
def dkwX4_init_0 : List UInt8 := [42, 183, 0, 3, 42, 16, 12, 188, 10, 181, 0, 9, 42, 16, 12, 188, 10, 181, 0, 15, 177]
abbrev dktX4_init_0 : List UInt8 := dkwX4_init_0 ++ []
theorem dksX4_init_0 : cX4_init.data.toList.drop 0 = dktX4_init_0 := by decide +kernel
theorem dX4_init_0 : decode cX4_init 0 = .ok (.aload_n 0, 1) := dk_42 (dk_at dksX4_init_0 0 rfl rfl)
theorem dX4_init_1 : decode cX4_init 1 = .ok (.invokespecial 3, 3) := dk_183 0 3 (dk_at dksX4_init_0 1 rfl rfl)
theorem dX4_init_4 : decode cX4_init 4 = .ok (.aload_n 0, 1) := dk_42 (dk_at dksX4_init_0 4 rfl rfl)
theorem dX4_init_5 : decode cX4_init 5 = .ok (.bipush 12, 2) := dk_16 12 (dk_at dksX4_init_0 5 rfl rfl)
theorem dX4_init_7 : decode cX4_init 7 = .ok (.newarray .int, 2) := dk_188_10 (dk_at dksX4_init_0 7 rfl rfl)
theorem dX4_init_9 : decode cX4_init 9 = .ok (.putfield 9, 3) := dk_181 0 9 (dk_at dksX4_init_0 9 rfl rfl)
theorem dX4_init_12 : decode cX4_init 12 = .ok (.aload_n 0, 1) := dk_42 (dk_at dksX4_init_0 12 rfl rfl)
theorem dX4_init_13 : decode cX4_init 13 = .ok (.bipush 12, 2) := dk_16 12 (dk_at dksX4_init_0 13 rfl rfl)
theorem dX4_init_15 : decode cX4_init 15 = .ok (.newarray .int, 2) := dk_188_10 (dk_at dksX4_init_0 15 rfl rfl)
theorem dX4_init_17 : decode cX4_init 17 = .ok (.putfield 15, 3) := dk_181 0 15 (dk_at dksX4_init_0 17 rfl rfl)
theorem dX4_init_20 : decode cX4_init 20 = .ok (.return_, 1) := dk_177 (dk_at dksX4_init_0 20 rfl rfl)
abbrev cX4_begin : ByteArray := prog_12_method_2_code
def yX4_begin : MethodName := ⟨RX4, "begin", "([IIILNotationDesk$Store;)V"⟩
def dkwX4_begin_1 : List UInt8 := [25, 4, 181, 0, 31, 42, 3, 181, 0, 35, 177]
abbrev dktX4_begin_1 : List UInt8 := dkwX4_begin_1 ++ []
def dkwX4_begin_0 : List UInt8 := [42, 43, 181, 0, 18, 42, 28, 181, 0, 21, 42, 29, 181, 0, 25, 42, 16, 8, 28, 104, 181, 0, 28, 42]
abbrev dktX4_begin_0 : List UInt8 := dkwX4_begin_0 ++ dktX4_begin_1
theorem dksX4_begin_0 : cX4_begin.data.toList.drop 0 = dktX4_begin_0 := by decide +kernel
theorem dksX4_begin_1 : cX4_begin.data.toList.drop 24 = dktX4_begin_1 := dk_seg dksX4_begin_0 24 rfl rfl
theorem dX4_begin_0 : decode cX4_begin 0 = .ok (.aload_n 0, 1) := dk_42 (dk_at dksX4_begin_0 0 rfl rfl)
theorem dX4_begin_1 : decode cX4_begin 1 = .ok (.aload_n 1, 1) := dk_43 (dk_at dksX4_begin_0 1 rfl rfl)
theorem dX4_begin_2 : decode cX4_begin 2 = .ok (.putfield 18, 3) := dk_181 0 18 (dk_at dksX4_begin_0 2 rfl rfl)
theorem dX4_begin_5 : decode cX4_begin 5 = .ok (.aload_n 0, 1) := dk_42 (dk_at dksX4_begin_0 5 rfl rfl)
theorem dX4_begin_6 : decode cX4_begin 6 = .ok (.iload_n 2, 1) := dk_28 (dk_at dksX4_begin_0 6 rfl rfl)
theorem dX4_begin_7 : decode cX4_begin 7 = .ok (.putfield 21, 3) := dk_181 0 21 (dk_at dksX4_begin_0 7 rfl rfl)
theorem dX4_begin_10 : decode cX4_begin 10 = .ok (.aload_n 0, 1) := dk_42 (dk_at dksX4_begin_0 10 rfl rfl)
theorem dX4_begin_11 : decode cX4_begin 11 = .ok (.iload_n 3, 1) := dk_29 (dk_at dksX4_begin_0 11 rfl rfl)
theorem dX4_begin_12 : decode cX4_begin 12 = .ok (.putfield 25, 3) := dk_181 0 25 (dk_at dksX4_begin_0 12 rfl rfl)
theorem dX4_begin_15 : decode cX4_begin 15 = .ok (.aload_n 0, 1) := dk_42 (dk_at dksX4_begin_0 15 rfl rfl)
theorem dX4_begin_16 : decode cX4_begin 16 = .ok (.bipush 8, 2) := dk_16 8 (dk_at dksX4_begin_0 16 rfl rfl)
theorem dX4_begin_18 : decode cX4_begin 18 = .ok (.iload_n 2, 1) := dk_28 (dk_at dksX4_begin_0 18 rfl rfl)
theorem dX4_begin_19 : decode cX4_begin 19 = .ok (.imul, 1) := dk_104 (dk_at dksX4_begin_0 19 rfl rfl)
theorem dX4_begin_20 : decode cX4_begin 20 = .ok (.putfield 28, 3) := dk_181 0 28 (dk_at dksX4_begin_0 20 rfl rfl)
theorem dX4_begin_23 : decode cX4_begin 23 = .ok (.aload_n 0, 1) := dk_42 (dk_at dksX4_begin_0 23 rfl rfl)
theorem dX4_begin_24 : decode cX4_begin 24 = .ok (.aload 4, 2) := dk_25 4 (dk_at dksX4_begin_1 0 rfl rfl)
theorem dX4_begin_26 : decode cX4_begin 26 = .ok (.putfield 31, 3) := dk_181 0 31 (dk_at dksX4_begin_1 2 rfl rfl)
theorem dX4_begin_29 : decode cX4_begin 29 = .ok (.aload_n 0, 1) := dk_42 (dk_at dksX4_begin_1 5 rfl rfl)
theorem dX4_begin_30 : decode cX4_begin 30 = .ok (.iconst 0, 1) := dk_3 (dk_at dksX4_begin_1 6 rfl rfl)
theorem dX4_begin_31 : decode cX4_begin 31 = .ok (.putfield 35, 3) := dk_181 0 35 (dk_at dksX4_begin_1 7 rfl rfl)
theorem dX4_begin_34 : decode cX4_begin 34 = .ok (.return_, 1) := dk_177 (dk_at dksX4_begin_1 10 rfl rfl)
abbrev cX4_takeNumber : ByteArray := prog_12_method_12_code
def yX4_takeNumber : MethodName := ⟨RX4, "takeNumber", "(II)I"⟩
def dkwX4_takeNumber_2 : List UInt8 := [182, 0, 49, 96, 172]
abbrev dktX4_takeNumber_2 : List UInt8 := dkwX4_takeNumber_2 ++ []
def dkwX4_takeNumber_1 : List UInt8 := [160, 0, 8, 16, 8, 167, 0, 5, 16, 16, 182, 0, 49, 96, 172, 27, 42, 29, 4, 100, 184, 0, 53]
abbrev dktX4_takeNumber_1 : List UInt8 := dkwX4_takeNumber_1 ++ dktX4_takeNumber_2
def dkwX4_takeNumber_0 : List UInt8 := [28, 27, 100, 4, 96, 62, 29, 17, 0, 255, 164, 0, 28, 42, 182, 0, 46, 27, 42, 29, 17, 1, 0]
abbrev dktX4_takeNumber_0 : List UInt8 := dkwX4_takeNumber_0 ++ dktX4_takeNumber_1
theorem dksX4_takeNumber_0 : cX4_takeNumber.data.toList.drop 0 = dktX4_takeNumber_0 := by decide +kernel
theorem dksX4_takeNumber_1 : cX4_takeNumber.data.toList.drop 23 = dktX4_takeNumber_1 := dk_seg dksX4_takeNumber_0 23 rfl rfl
theorem dksX4_takeNumber_2 : cX4_takeNumber.data.toList.drop 46 = dktX4_takeNumber_2 := dk_seg dksX4_takeNumber_1 23 rfl rfl
theorem dX4_takeNumber_0 : decode cX4_takeNumber 0 = .ok (.iload_n 2, 1) := dk_28 (dk_at dksX4_takeNumber_0 0 rfl rfl)
theorem dX4_takeNumber_1 : decode cX4_takeNumber 1 = .ok (.iload_n 1, 1) := dk_27 (dk_at dksX4_takeNumber_0 1 rfl rfl)
theorem dX4_takeNumber_2 : decode cX4_takeNumber 2 = .ok (.isub, 1) := dk_100 (dk_at dksX4_takeNumber_0 2 rfl rfl)
theorem dX4_takeNumber_3 : decode cX4_takeNumber 3 = .ok (.iconst 1, 1) := dk_4 (dk_at dksX4_takeNumber_0 3 rfl rfl)
theorem dX4_takeNumber_4 : decode cX4_takeNumber 4 = .ok (.iadd, 1) := dk_96 (dk_at dksX4_takeNumber_0 4 rfl rfl)
theorem dX4_takeNumber_5 : decode cX4_takeNumber 5 = .ok (.istore_n 3, 1) := dk_62 (dk_at dksX4_takeNumber_0 5 rfl rfl)
theorem dX4_takeNumber_6 : decode cX4_takeNumber 6 = .ok (.iload_n 3, 1) := dk_29 (dk_at dksX4_takeNumber_0 6 rfl rfl)
theorem dX4_takeNumber_7 : decode cX4_takeNumber 7 = .ok (.sipush 255, 3) := dk_17 0 255 (dk_at dksX4_takeNumber_0 7 rfl rfl)
theorem dX4_takeNumber_10 : decode cX4_takeNumber 10 = .ok (.if_icmp .le 28, 3) := dk_164 0 28 (dk_at dksX4_takeNumber_0 10 rfl rfl)
theorem dX4_takeNumber_13 : decode cX4_takeNumber 13 = .ok (.aload_n 0, 1) := dk_42 (dk_at dksX4_takeNumber_0 13 rfl rfl)
theorem dX4_takeNumber_14 : decode cX4_takeNumber 14 = .ok (.invokevirtual 46, 3) := dk_182 0 46 (dk_at dksX4_takeNumber_0 14 rfl rfl)
theorem dX4_takeNumber_17 : decode cX4_takeNumber 17 = .ok (.iload_n 1, 1) := dk_27 (dk_at dksX4_takeNumber_0 17 rfl rfl)
theorem dX4_takeNumber_18 : decode cX4_takeNumber 18 = .ok (.aload_n 0, 1) := dk_42 (dk_at dksX4_takeNumber_0 18 rfl rfl)
theorem dX4_takeNumber_19 : decode cX4_takeNumber 19 = .ok (.iload_n 3, 1) := dk_29 (dk_at dksX4_takeNumber_0 19 rfl rfl)
theorem dX4_takeNumber_20 : decode cX4_takeNumber 20 = .ok (.sipush 256, 3) := dk_17 1 0 (dk_at dksX4_takeNumber_0 20 rfl rfl)
theorem dX4_takeNumber_23 : decode cX4_takeNumber 23 = .ok (.if_icmp .ne 8, 3) := dk_160 0 8 (dk_at dksX4_takeNumber_1 0 rfl rfl)
theorem dX4_takeNumber_26 : decode cX4_takeNumber 26 = .ok (.bipush 8, 2) := dk_16 8 (dk_at dksX4_takeNumber_1 3 rfl rfl)
theorem dX4_takeNumber_28 : decode cX4_takeNumber 28 = .ok (.goto 5, 3) := dk_167 0 5 (dk_at dksX4_takeNumber_1 5 rfl rfl)
theorem dX4_takeNumber_31 : decode cX4_takeNumber 31 = .ok (.bipush 16, 2) := dk_16 16 (dk_at dksX4_takeNumber_1 8 rfl rfl)
theorem dX4_takeNumber_33 : decode cX4_takeNumber 33 = .ok (.invokevirtual 49, 3) := dk_182 0 49 (dk_at dksX4_takeNumber_1 10 rfl rfl)
theorem dX4_takeNumber_36 : decode cX4_takeNumber 36 = .ok (.iadd, 1) := dk_96 (dk_at dksX4_takeNumber_1 13 rfl rfl)
theorem dX4_takeNumber_37 : decode cX4_takeNumber 37 = .ok (.ireturn, 1) := dk_172 (dk_at dksX4_takeNumber_1 14 rfl rfl)
theorem dX4_takeNumber_38 : decode cX4_takeNumber 38 = .ok (.iload_n 1, 1) := dk_27 (dk_at dksX4_takeNumber_1 15 rfl rfl)
theorem dX4_takeNumber_39 : decode cX4_takeNumber 39 = .ok (.aload_n 0, 1) := dk_42 (dk_at dksX4_takeNumber_1 16 rfl rfl)
theorem dX4_takeNumber_40 : decode cX4_takeNumber 40 = .ok (.iload_n 3, 1) := dk_29 (dk_at dksX4_takeNumber_1 17 rfl rfl)
theorem dX4_takeNumber_41 : decode cX4_takeNumber 41 = .ok (.iconst 1, 1) := dk_4 (dk_at dksX4_takeNumber_1 18 rfl rfl)
theorem dX4_takeNumber_42 : decode cX4_takeNumber 42 = .ok (.isub, 1) := dk_100 (dk_at dksX4_takeNumber_1 19 rfl rfl)
theorem dX4_takeNumber_43 : decode cX4_takeNumber 43 = .ok (.invokestatic 53, 3) := dk_184 0 53 (dk_at dksX4_takeNumber_1 20 rfl rfl)
theorem dX4_takeNumber_46 : decode cX4_takeNumber 46 = .ok (.invokevirtual 49, 3) := dk_182 0 49 (dk_at dksX4_takeNumber_2 0 rfl rfl)
theorem dX4_takeNumber_49 : decode cX4_takeNumber 49 = .ok (.iadd, 1) := dk_96 (dk_at dksX4_takeNumber_2 3 rfl rfl)
theorem dX4_takeNumber_50 : decode cX4_takeNumber 50 = .ok (.ireturn, 1) := dk_172 (dk_at dksX4_takeNumber_2 4 rfl rfl)
abbrev cX4_align : ByteArray := prog_12_method_10_code
def yX4_align : MethodName := ⟨RX4, "align", "()V"⟩
def dkwX4_align_0 : List UInt8 := [42, 42, 180, 0, 28, 16, 7, 96, 16, 8, 108, 16, 8, 104, 181, 0, 28, 177]
abbrev dktX4_align_0 : List UInt8 := dkwX4_align_0 ++ []
theorem dksX4_align_0 : cX4_align.data.toList.drop 0 = dktX4_align_0 := by decide +kernel
theorem dX4_align_0 : decode cX4_align 0 = .ok (.aload_n 0, 1) := dk_42 (dk_at dksX4_align_0 0 rfl rfl)
theorem dX4_align_1 : decode cX4_align 1 = .ok (.aload_n 0, 1) := dk_42 (dk_at dksX4_align_0 1 rfl rfl)
theorem dX4_align_2 : decode cX4_align 2 = .ok (.getfield 28, 3) := dk_180 0 28 (dk_at dksX4_align_0 2 rfl rfl)
theorem dX4_align_5 : decode cX4_align 5 = .ok (.bipush 7, 2) := dk_16 7 (dk_at dksX4_align_0 5 rfl rfl)
theorem dX4_align_7 : decode cX4_align 7 = .ok (.iadd, 1) := dk_96 (dk_at dksX4_align_0 7 rfl rfl)
theorem dX4_align_8 : decode cX4_align 8 = .ok (.bipush 8, 2) := dk_16 8 (dk_at dksX4_align_0 8 rfl rfl)
theorem dX4_align_10 : decode cX4_align 10 = .ok (.idiv, 1) := dk_108 (dk_at dksX4_align_0 10 rfl rfl)
theorem dX4_align_11 : decode cX4_align 11 = .ok (.bipush 8, 2) := dk_16 8 (dk_at dksX4_align_0 11 rfl rfl)
theorem dX4_align_13 : decode cX4_align 13 = .ok (.imul, 1) := dk_104 (dk_at dksX4_align_0 13 rfl rfl)
theorem dX4_align_14 : decode cX4_align 14 = .ok (.putfield 28, 3) := dk_181 0 28 (dk_at dksX4_align_0 14 rfl rfl)
theorem dX4_align_17 : decode cX4_align 17 = .ok (.return_, 1) := dk_177 (dk_at dksX4_align_0 17 rfl rfl)
abbrev cX4_take : ByteArray := prog_12_method_9_code
def yX4_take : MethodName := ⟨RX4, "take", "(I)I"⟩
def dkwX4_take_3 : List UInt8 := [132, 3, 1, 167, 255, 186, 28, 172]
abbrev dktX4_take_3 : List UInt8 := dkwX4_take_3 ++ []
def dkwX4_take_2 : List UInt8 := [167, 0, 4, 3, 54, 4, 5, 28, 104, 21, 4, 96, 61, 42, 89, 180, 0, 28, 4, 96, 181, 0, 28]
abbrev dktX4_take_2 : List UInt8 := dkwX4_take_2 ++ dktX4_take_3
def dkwX4_take_1 : List UInt8 := [180, 0, 18, 42, 180, 0, 28, 16, 8, 108, 46, 16, 7, 42, 180, 0, 28, 16, 8, 112, 100, 122, 4, 126]
abbrev dktX4_take_1 : List UInt8 := dkwX4_take_1 ++ dktX4_take_2
def dkwX4_take_0 : List UInt8 := [3, 61, 3, 62, 29, 27, 162, 0, 71, 42, 180, 0, 28, 16, 8, 42, 180, 0, 25, 104, 162, 0, 31, 42]
abbrev dktX4_take_0 : List UInt8 := dkwX4_take_0 ++ dktX4_take_1
theorem dksX4_take_0 : cX4_take.data.toList.drop 0 = dktX4_take_0 := by decide +kernel
theorem dksX4_take_1 : cX4_take.data.toList.drop 24 = dktX4_take_1 := dk_seg dksX4_take_0 24 rfl rfl
theorem dksX4_take_2 : cX4_take.data.toList.drop 48 = dktX4_take_2 := dk_seg dksX4_take_1 24 rfl rfl
theorem dksX4_take_3 : cX4_take.data.toList.drop 71 = dktX4_take_3 := dk_seg dksX4_take_2 23 rfl rfl
theorem dX4_take_0 : decode cX4_take 0 = .ok (.iconst 0, 1) := dk_3 (dk_at dksX4_take_0 0 rfl rfl)
theorem dX4_take_1 : decode cX4_take 1 = .ok (.istore_n 2, 1) := dk_61 (dk_at dksX4_take_0 1 rfl rfl)
theorem dX4_take_2 : decode cX4_take 2 = .ok (.iconst 0, 1) := dk_3 (dk_at dksX4_take_0 2 rfl rfl)
theorem dX4_take_3 : decode cX4_take 3 = .ok (.istore_n 3, 1) := dk_62 (dk_at dksX4_take_0 3 rfl rfl)
theorem dX4_take_4 : decode cX4_take 4 = .ok (.iload_n 3, 1) := dk_29 (dk_at dksX4_take_0 4 rfl rfl)
theorem dX4_take_5 : decode cX4_take 5 = .ok (.iload_n 1, 1) := dk_27 (dk_at dksX4_take_0 5 rfl rfl)
theorem dX4_take_6 : decode cX4_take 6 = .ok (.if_icmp .ge 71, 3) := dk_162 0 71 (dk_at dksX4_take_0 6 rfl rfl)
theorem dX4_take_9 : decode cX4_take 9 = .ok (.aload_n 0, 1) := dk_42 (dk_at dksX4_take_0 9 rfl rfl)
theorem dX4_take_10 : decode cX4_take 10 = .ok (.getfield 28, 3) := dk_180 0 28 (dk_at dksX4_take_0 10 rfl rfl)
theorem dX4_take_13 : decode cX4_take 13 = .ok (.bipush 8, 2) := dk_16 8 (dk_at dksX4_take_0 13 rfl rfl)
theorem dX4_take_15 : decode cX4_take 15 = .ok (.aload_n 0, 1) := dk_42 (dk_at dksX4_take_0 15 rfl rfl)
theorem dX4_take_16 : decode cX4_take 16 = .ok (.getfield 25, 3) := dk_180 0 25 (dk_at dksX4_take_0 16 rfl rfl)
theorem dX4_take_19 : decode cX4_take 19 = .ok (.imul, 1) := dk_104 (dk_at dksX4_take_0 19 rfl rfl)
theorem dX4_take_20 : decode cX4_take 20 = .ok (.if_icmp .ge 31, 3) := dk_162 0 31 (dk_at dksX4_take_0 20 rfl rfl)
theorem dX4_take_23 : decode cX4_take 23 = .ok (.aload_n 0, 1) := dk_42 (dk_at dksX4_take_0 23 rfl rfl)
theorem dX4_take_24 : decode cX4_take 24 = .ok (.getfield 18, 3) := dk_180 0 18 (dk_at dksX4_take_1 0 rfl rfl)
theorem dX4_take_27 : decode cX4_take 27 = .ok (.aload_n 0, 1) := dk_42 (dk_at dksX4_take_1 3 rfl rfl)
theorem dX4_take_28 : decode cX4_take 28 = .ok (.getfield 28, 3) := dk_180 0 28 (dk_at dksX4_take_1 4 rfl rfl)
theorem dX4_take_31 : decode cX4_take 31 = .ok (.bipush 8, 2) := dk_16 8 (dk_at dksX4_take_1 7 rfl rfl)
theorem dX4_take_33 : decode cX4_take 33 = .ok (.idiv, 1) := dk_108 (dk_at dksX4_take_1 9 rfl rfl)
theorem dX4_take_34 : decode cX4_take 34 = .ok (.iaload, 1) := dk_46 (dk_at dksX4_take_1 10 rfl rfl)
theorem dX4_take_35 : decode cX4_take 35 = .ok (.bipush 7, 2) := dk_16 7 (dk_at dksX4_take_1 11 rfl rfl)
theorem dX4_take_37 : decode cX4_take 37 = .ok (.aload_n 0, 1) := dk_42 (dk_at dksX4_take_1 13 rfl rfl)
theorem dX4_take_38 : decode cX4_take 38 = .ok (.getfield 28, 3) := dk_180 0 28 (dk_at dksX4_take_1 14 rfl rfl)
theorem dX4_take_41 : decode cX4_take 41 = .ok (.bipush 8, 2) := dk_16 8 (dk_at dksX4_take_1 17 rfl rfl)
theorem dX4_take_43 : decode cX4_take 43 = .ok (.irem, 1) := dk_112 (dk_at dksX4_take_1 19 rfl rfl)
theorem dX4_take_44 : decode cX4_take 44 = .ok (.isub, 1) := dk_100 (dk_at dksX4_take_1 20 rfl rfl)
theorem dX4_take_45 : decode cX4_take 45 = .ok (.ishr, 1) := dk_122 (dk_at dksX4_take_1 21 rfl rfl)
theorem dX4_take_46 : decode cX4_take 46 = .ok (.iconst 1, 1) := dk_4 (dk_at dksX4_take_1 22 rfl rfl)
theorem dX4_take_47 : decode cX4_take 47 = .ok (.iand, 1) := dk_126 (dk_at dksX4_take_1 23 rfl rfl)
theorem dX4_take_48 : decode cX4_take 48 = .ok (.goto 4, 3) := dk_167 0 4 (dk_at dksX4_take_2 0 rfl rfl)
theorem dX4_take_51 : decode cX4_take 51 = .ok (.iconst 0, 1) := dk_3 (dk_at dksX4_take_2 3 rfl rfl)
theorem dX4_take_52 : decode cX4_take 52 = .ok (.istore 4, 2) := dk_54 4 (dk_at dksX4_take_2 4 rfl rfl)
theorem dX4_take_54 : decode cX4_take 54 = .ok (.iconst 2, 1) := dk_5 (dk_at dksX4_take_2 6 rfl rfl)
theorem dX4_take_55 : decode cX4_take 55 = .ok (.iload_n 2, 1) := dk_28 (dk_at dksX4_take_2 7 rfl rfl)
theorem dX4_take_56 : decode cX4_take 56 = .ok (.imul, 1) := dk_104 (dk_at dksX4_take_2 8 rfl rfl)
theorem dX4_take_57 : decode cX4_take 57 = .ok (.iload 4, 2) := dk_21 4 (dk_at dksX4_take_2 9 rfl rfl)
theorem dX4_take_59 : decode cX4_take 59 = .ok (.iadd, 1) := dk_96 (dk_at dksX4_take_2 11 rfl rfl)
theorem dX4_take_60 : decode cX4_take 60 = .ok (.istore_n 2, 1) := dk_61 (dk_at dksX4_take_2 12 rfl rfl)
theorem dX4_take_61 : decode cX4_take 61 = .ok (.aload_n 0, 1) := dk_42 (dk_at dksX4_take_2 13 rfl rfl)
theorem dX4_take_62 : decode cX4_take 62 = .ok (.dup, 1) := dk_89 (dk_at dksX4_take_2 14 rfl rfl)
theorem dX4_take_63 : decode cX4_take 63 = .ok (.getfield 28, 3) := dk_180 0 28 (dk_at dksX4_take_2 15 rfl rfl)
theorem dX4_take_66 : decode cX4_take 66 = .ok (.iconst 1, 1) := dk_4 (dk_at dksX4_take_2 18 rfl rfl)
theorem dX4_take_67 : decode cX4_take 67 = .ok (.iadd, 1) := dk_96 (dk_at dksX4_take_2 19 rfl rfl)
theorem dX4_take_68 : decode cX4_take 68 = .ok (.putfield 28, 3) := dk_181 0 28 (dk_at dksX4_take_2 20 rfl rfl)
theorem dX4_take_71 : decode cX4_take 71 = .ok (.iinc 3 1, 3) := dk_132 3 1 (dk_at dksX4_take_3 0 rfl rfl)
theorem dX4_take_74 : decode cX4_take 74 = .ok (.goto (-70), 3) := dk_167 255 186 (dk_at dksX4_take_3 3 rfl rfl)
theorem dX4_take_77 : decode cX4_take 77 = .ok (.iload_n 2, 1) := dk_28 (dk_at dksX4_take_3 6 rfl rfl)
theorem dX4_take_78 : decode cX4_take 78 = .ok (.ireturn, 1) := dk_172 (dk_at dksX4_take_3 7 rfl rfl)
abbrev cX4_isThere : ByteArray := prog_12_method_11_code
def yX4_isThere : MethodName := ⟨RX4, "isThere", "()Z"⟩
def dkwX4_isThere_0 : List UInt8 := [42, 180, 0, 28, 16, 8, 42, 180, 0, 25, 104, 163, 0, 7, 4, 167, 0, 4, 3, 172]
abbrev dktX4_isThere_0 : List UInt8 := dkwX4_isThere_0 ++ []
theorem dksX4_isThere_0 : cX4_isThere.data.toList.drop 0 = dktX4_isThere_0 := by decide +kernel
theorem dX4_isThere_0 : decode cX4_isThere 0 = .ok (.aload_n 0, 1) := dk_42 (dk_at dksX4_isThere_0 0 rfl rfl)
theorem dX4_isThere_1 : decode cX4_isThere 1 = .ok (.getfield 28, 3) := dk_180 0 28 (dk_at dksX4_isThere_0 1 rfl rfl)
theorem dX4_isThere_4 : decode cX4_isThere 4 = .ok (.bipush 8, 2) := dk_16 8 (dk_at dksX4_isThere_0 4 rfl rfl)
theorem dX4_isThere_6 : decode cX4_isThere 6 = .ok (.aload_n 0, 1) := dk_42 (dk_at dksX4_isThere_0 6 rfl rfl)
theorem dX4_isThere_7 : decode cX4_isThere 7 = .ok (.getfield 25, 3) := dk_180 0 25 (dk_at dksX4_isThere_0 7 rfl rfl)
theorem dX4_isThere_10 : decode cX4_isThere 10 = .ok (.imul, 1) := dk_104 (dk_at dksX4_isThere_0 10 rfl rfl)
theorem dX4_isThere_11 : decode cX4_isThere 11 = .ok (.if_icmp .gt 7, 3) := dk_163 0 7 (dk_at dksX4_isThere_0 11 rfl rfl)
theorem dX4_isThere_14 : decode cX4_isThere 14 = .ok (.iconst 1, 1) := dk_4 (dk_at dksX4_isThere_0 14 rfl rfl)
theorem dX4_isThere_15 : decode cX4_isThere 15 = .ok (.goto 4, 3) := dk_167 0 4 (dk_at dksX4_isThere_0 15 rfl rfl)
theorem dX4_isThere_18 : decode cX4_isThere 18 = .ok (.iconst 0, 1) := dk_3 (dk_at dksX4_isThere_0 18 rfl rfl)
theorem dX4_isThere_19 : decode cX4_isThere 19 = .ok (.ireturn, 1) := dk_172 (dk_at dksX4_isThere_0 19 rfl rfl)
abbrev cX4_tag : ByteArray := prog_12_method_4_code
def yX4_tag : MethodName := ⟨RX4, "tag", "()I"⟩
def dkwX4_tag_3 : List UInt8 := [167, 0, 4, 2, 172]
abbrev dktX4_tag_3 : List UInt8 := dkwX4_tag_3 ++ []
def dkwX4_tag_2 : List UInt8 := [16, 20, 162, 0, 7, 27, 167, 0, 22, 28, 5, 160, 0, 16, 27, 16, 10, 162, 0, 10, 16, 20, 27, 96]
abbrev dktX4_tag_2 : List UInt8 := dkwX4_tag_2 ++ dktX4_tag_3
def dkwX4_tag_1 : List UInt8 := [126, 60, 42, 180, 0, 18, 42, 180, 0, 21, 46, 16, 6, 122, 61, 28, 154, 0, 17, 27, 158, 0, 13, 27]
abbrev dktX4_tag_1 : List UInt8 := dkwX4_tag_1 ++ dktX4_tag_2
def dkwX4_tag_0 : List UInt8 := [42, 180, 0, 21, 42, 180, 0, 25, 161, 0, 5, 2, 172, 42, 180, 0, 18, 42, 180, 0, 21, 46, 16, 31]
abbrev dktX4_tag_0 : List UInt8 := dkwX4_tag_0 ++ dktX4_tag_1
theorem dksX4_tag_0 : cX4_tag.data.toList.drop 0 = dktX4_tag_0 := by decide +kernel
theorem dksX4_tag_1 : cX4_tag.data.toList.drop 24 = dktX4_tag_1 := dk_seg dksX4_tag_0 24 rfl rfl
theorem dksX4_tag_2 : cX4_tag.data.toList.drop 48 = dktX4_tag_2 := dk_seg dksX4_tag_1 24 rfl rfl
theorem dksX4_tag_3 : cX4_tag.data.toList.drop 72 = dktX4_tag_3 := dk_seg dksX4_tag_2 24 rfl rfl
theorem dX4_tag_0 : decode cX4_tag 0 = .ok (.aload_n 0, 1) := dk_42 (dk_at dksX4_tag_0 0 rfl rfl)
theorem dX4_tag_1 : decode cX4_tag 1 = .ok (.getfield 21, 3) := dk_180 0 21 (dk_at dksX4_tag_0 1 rfl rfl)
theorem dX4_tag_4 : decode cX4_tag 4 = .ok (.aload_n 0, 1) := dk_42 (dk_at dksX4_tag_0 4 rfl rfl)
theorem dX4_tag_5 : decode cX4_tag 5 = .ok (.getfield 25, 3) := dk_180 0 25 (dk_at dksX4_tag_0 5 rfl rfl)
theorem dX4_tag_8 : decode cX4_tag 8 = .ok (.if_icmp .lt 5, 3) := dk_161 0 5 (dk_at dksX4_tag_0 8 rfl rfl)
theorem dX4_tag_11 : decode cX4_tag 11 = .ok (.iconst (-1), 1) := dk_2 (dk_at dksX4_tag_0 11 rfl rfl)
theorem dX4_tag_12 : decode cX4_tag 12 = .ok (.ireturn, 1) := dk_172 (dk_at dksX4_tag_0 12 rfl rfl)
theorem dX4_tag_13 : decode cX4_tag 13 = .ok (.aload_n 0, 1) := dk_42 (dk_at dksX4_tag_0 13 rfl rfl)
theorem dX4_tag_14 : decode cX4_tag 14 = .ok (.getfield 18, 3) := dk_180 0 18 (dk_at dksX4_tag_0 14 rfl rfl)
theorem dX4_tag_17 : decode cX4_tag 17 = .ok (.aload_n 0, 1) := dk_42 (dk_at dksX4_tag_0 17 rfl rfl)
theorem dX4_tag_18 : decode cX4_tag 18 = .ok (.getfield 21, 3) := dk_180 0 21 (dk_at dksX4_tag_0 18 rfl rfl)
theorem dX4_tag_21 : decode cX4_tag 21 = .ok (.iaload, 1) := dk_46 (dk_at dksX4_tag_0 21 rfl rfl)
theorem dX4_tag_22 : decode cX4_tag 22 = .ok (.bipush 31, 2) := dk_16 31 (dk_at dksX4_tag_0 22 rfl rfl)
theorem dX4_tag_24 : decode cX4_tag 24 = .ok (.iand, 1) := dk_126 (dk_at dksX4_tag_1 0 rfl rfl)
theorem dX4_tag_25 : decode cX4_tag 25 = .ok (.istore_n 1, 1) := dk_60 (dk_at dksX4_tag_1 1 rfl rfl)
theorem dX4_tag_26 : decode cX4_tag 26 = .ok (.aload_n 0, 1) := dk_42 (dk_at dksX4_tag_1 2 rfl rfl)
theorem dX4_tag_27 : decode cX4_tag 27 = .ok (.getfield 18, 3) := dk_180 0 18 (dk_at dksX4_tag_1 3 rfl rfl)
theorem dX4_tag_30 : decode cX4_tag 30 = .ok (.aload_n 0, 1) := dk_42 (dk_at dksX4_tag_1 6 rfl rfl)
theorem dX4_tag_31 : decode cX4_tag 31 = .ok (.getfield 21, 3) := dk_180 0 21 (dk_at dksX4_tag_1 7 rfl rfl)
theorem dX4_tag_34 : decode cX4_tag 34 = .ok (.iaload, 1) := dk_46 (dk_at dksX4_tag_1 10 rfl rfl)
theorem dX4_tag_35 : decode cX4_tag 35 = .ok (.bipush 6, 2) := dk_16 6 (dk_at dksX4_tag_1 11 rfl rfl)
theorem dX4_tag_37 : decode cX4_tag 37 = .ok (.ishr, 1) := dk_122 (dk_at dksX4_tag_1 13 rfl rfl)
theorem dX4_tag_38 : decode cX4_tag 38 = .ok (.istore_n 2, 1) := dk_61 (dk_at dksX4_tag_1 14 rfl rfl)
theorem dX4_tag_39 : decode cX4_tag 39 = .ok (.iload_n 2, 1) := dk_28 (dk_at dksX4_tag_1 15 rfl rfl)
theorem dX4_tag_40 : decode cX4_tag 40 = .ok (.ifCond .ne 17, 3) := dk_154 0 17 (dk_at dksX4_tag_1 16 rfl rfl)
theorem dX4_tag_43 : decode cX4_tag 43 = .ok (.iload_n 1, 1) := dk_27 (dk_at dksX4_tag_1 19 rfl rfl)
theorem dX4_tag_44 : decode cX4_tag 44 = .ok (.ifCond .le 13, 3) := dk_158 0 13 (dk_at dksX4_tag_1 20 rfl rfl)
theorem dX4_tag_47 : decode cX4_tag 47 = .ok (.iload_n 1, 1) := dk_27 (dk_at dksX4_tag_1 23 rfl rfl)
theorem dX4_tag_48 : decode cX4_tag 48 = .ok (.bipush 20, 2) := dk_16 20 (dk_at dksX4_tag_2 0 rfl rfl)
theorem dX4_tag_50 : decode cX4_tag 50 = .ok (.if_icmp .ge 7, 3) := dk_162 0 7 (dk_at dksX4_tag_2 2 rfl rfl)
theorem dX4_tag_53 : decode cX4_tag 53 = .ok (.iload_n 1, 1) := dk_27 (dk_at dksX4_tag_2 5 rfl rfl)
theorem dX4_tag_54 : decode cX4_tag 54 = .ok (.goto 22, 3) := dk_167 0 22 (dk_at dksX4_tag_2 6 rfl rfl)
theorem dX4_tag_57 : decode cX4_tag 57 = .ok (.iload_n 2, 1) := dk_28 (dk_at dksX4_tag_2 9 rfl rfl)
theorem dX4_tag_58 : decode cX4_tag 58 = .ok (.iconst 2, 1) := dk_5 (dk_at dksX4_tag_2 10 rfl rfl)
theorem dX4_tag_59 : decode cX4_tag 59 = .ok (.if_icmp .ne 16, 3) := dk_160 0 16 (dk_at dksX4_tag_2 11 rfl rfl)
theorem dX4_tag_62 : decode cX4_tag 62 = .ok (.iload_n 1, 1) := dk_27 (dk_at dksX4_tag_2 14 rfl rfl)
theorem dX4_tag_63 : decode cX4_tag 63 = .ok (.bipush 10, 2) := dk_16 10 (dk_at dksX4_tag_2 15 rfl rfl)
theorem dX4_tag_65 : decode cX4_tag 65 = .ok (.if_icmp .ge 10, 3) := dk_162 0 10 (dk_at dksX4_tag_2 17 rfl rfl)
theorem dX4_tag_68 : decode cX4_tag 68 = .ok (.bipush 20, 2) := dk_16 20 (dk_at dksX4_tag_2 20 rfl rfl)
theorem dX4_tag_70 : decode cX4_tag 70 = .ok (.iload_n 1, 1) := dk_27 (dk_at dksX4_tag_2 22 rfl rfl)
theorem dX4_tag_71 : decode cX4_tag 71 = .ok (.iadd, 1) := dk_96 (dk_at dksX4_tag_2 23 rfl rfl)
theorem dX4_tag_72 : decode cX4_tag 72 = .ok (.goto 4, 3) := dk_167 0 4 (dk_at dksX4_tag_3 0 rfl rfl)
theorem dX4_tag_75 : decode cX4_tag 75 = .ok (.iconst (-1), 1) := dk_2 (dk_at dksX4_tag_3 3 rfl rfl)
theorem dX4_tag_76 : decode cX4_tag 76 = .ok (.ireturn, 1) := dk_172 (dk_at dksX4_tag_3 4 rfl rfl)
abbrev cX4_next : ByteArray := prog_12_method_3_code
def yX4_next : MethodName := ⟨RX4, "next", "()I"⟩
def dkwX4_next_1 : List UInt8 := [180, 0, 18, 42, 180, 0, 21, 4, 100, 46, 172]
abbrev dktX4_next_1 : List UInt8 := dkwX4_next_1 ++ []
def dkwX4_next_0 : List UInt8 := [42, 180, 0, 21, 42, 180, 0, 25, 161, 0, 5, 2, 172, 42, 89, 180, 0, 21, 4, 96, 181, 0, 21, 42]
abbrev dktX4_next_0 : List UInt8 := dkwX4_next_0 ++ dktX4_next_1
theorem dksX4_next_0 : cX4_next.data.toList.drop 0 = dktX4_next_0 := by decide +kernel
theorem dksX4_next_1 : cX4_next.data.toList.drop 24 = dktX4_next_1 := dk_seg dksX4_next_0 24 rfl rfl
theorem dX4_next_0 : decode cX4_next 0 = .ok (.aload_n 0, 1) := dk_42 (dk_at dksX4_next_0 0 rfl rfl)
theorem dX4_next_1 : decode cX4_next 1 = .ok (.getfield 21, 3) := dk_180 0 21 (dk_at dksX4_next_0 1 rfl rfl)
theorem dX4_next_4 : decode cX4_next 4 = .ok (.aload_n 0, 1) := dk_42 (dk_at dksX4_next_0 4 rfl rfl)
theorem dX4_next_5 : decode cX4_next 5 = .ok (.getfield 25, 3) := dk_180 0 25 (dk_at dksX4_next_0 5 rfl rfl)
theorem dX4_next_8 : decode cX4_next 8 = .ok (.if_icmp .lt 5, 3) := dk_161 0 5 (dk_at dksX4_next_0 8 rfl rfl)
theorem dX4_next_11 : decode cX4_next 11 = .ok (.iconst (-1), 1) := dk_2 (dk_at dksX4_next_0 11 rfl rfl)
theorem dX4_next_12 : decode cX4_next 12 = .ok (.ireturn, 1) := dk_172 (dk_at dksX4_next_0 12 rfl rfl)
theorem dX4_next_13 : decode cX4_next 13 = .ok (.aload_n 0, 1) := dk_42 (dk_at dksX4_next_0 13 rfl rfl)
theorem dX4_next_14 : decode cX4_next 14 = .ok (.dup, 1) := dk_89 (dk_at dksX4_next_0 14 rfl rfl)
theorem dX4_next_15 : decode cX4_next 15 = .ok (.getfield 21, 3) := dk_180 0 21 (dk_at dksX4_next_0 15 rfl rfl)
theorem dX4_next_18 : decode cX4_next 18 = .ok (.iconst 1, 1) := dk_4 (dk_at dksX4_next_0 18 rfl rfl)
theorem dX4_next_19 : decode cX4_next 19 = .ok (.iadd, 1) := dk_96 (dk_at dksX4_next_0 19 rfl rfl)
theorem dX4_next_20 : decode cX4_next 20 = .ok (.putfield 21, 3) := dk_181 0 21 (dk_at dksX4_next_0 20 rfl rfl)
theorem dX4_next_23 : decode cX4_next 23 = .ok (.aload_n 0, 1) := dk_42 (dk_at dksX4_next_0 23 rfl rfl)
theorem dX4_next_24 : decode cX4_next 24 = .ok (.getfield 18, 3) := dk_180 0 18 (dk_at dksX4_next_1 0 rfl rfl)
theorem dX4_next_27 : decode cX4_next 27 = .ok (.aload_n 0, 1) := dk_42 (dk_at dksX4_next_1 3 rfl rfl)
theorem dX4_next_28 : decode cX4_next 28 = .ok (.getfield 21, 3) := dk_180 0 21 (dk_at dksX4_next_1 4 rfl rfl)
theorem dX4_next_31 : decode cX4_next 31 = .ok (.iconst 1, 1) := dk_4 (dk_at dksX4_next_1 7 rfl rfl)
theorem dX4_next_32 : decode cX4_next 32 = .ok (.isub, 1) := dk_100 (dk_at dksX4_next_1 8 rfl rfl)
theorem dX4_next_33 : decode cX4_next 33 = .ok (.iaload, 1) := dk_46 (dk_at dksX4_next_1 9 rfl rfl)
theorem dX4_next_34 : decode cX4_next 34 = .ok (.ireturn, 1) := dk_172 (dk_at dksX4_next_1 10 rfl rfl)
abbrev cX4_length : ByteArray := prog_12_method_5_code
def yX4_length : MethodName := ⟨RX4, "length", "(Z)I"⟩
def dkwX4_length_4 : List UInt8 := [164, 0, 7, 2, 167, 0, 4, 29, 172]
abbrev dktX4_length_4 : List UInt8 := dkwX4_length_4 ++ []
def dkwX4_length_3 : List UInt8 := [155, 0, 27, 42, 180, 0, 21, 42, 180, 0, 25, 163, 0, 16, 29, 42, 180, 0, 25, 42, 180, 0, 21, 100]
abbrev dktX4_length_3 : List UInt8 := dkwX4_length_3 ++ dktX4_length_4
def dkwX4_length_2 : List UInt8 := [54, 4, 17, 1, 0, 21, 4, 104, 42, 182, 0, 38, 96, 62, 28, 17, 0, 130, 163, 0, 31, 29]
abbrev dktX4_length_2 : List UInt8 := dkwX4_length_2 ++ dktX4_length_3
def dkwX4_length_1 : List UInt8 := [172, 28, 17, 0, 129, 160, 0, 8, 42, 182, 0, 38, 62, 28, 17, 0, 130, 160, 0, 21, 42, 182, 0, 38]
abbrev dktX4_length_1 : List UInt8 := dkwX4_length_1 ++ dktX4_length_2
def dkwX4_length_0 : List UInt8 := [42, 182, 0, 38, 61, 28, 62, 28, 17, 0, 128, 160, 0, 14, 27, 153, 0, 8, 16, 254, 167, 0, 4, 2]
abbrev dktX4_length_0 : List UInt8 := dkwX4_length_0 ++ dktX4_length_1
theorem dksX4_length_0 : cX4_length.data.toList.drop 0 = dktX4_length_0 := by decide +kernel
theorem dksX4_length_1 : cX4_length.data.toList.drop 24 = dktX4_length_1 := dk_seg dksX4_length_0 24 rfl rfl
theorem dksX4_length_2 : cX4_length.data.toList.drop 48 = dktX4_length_2 := dk_seg dksX4_length_1 24 rfl rfl
theorem dksX4_length_3 : cX4_length.data.toList.drop 70 = dktX4_length_3 := dk_seg dksX4_length_2 22 rfl rfl
theorem dksX4_length_4 : cX4_length.data.toList.drop 94 = dktX4_length_4 := dk_seg dksX4_length_3 24 rfl rfl
theorem dX4_length_0 : decode cX4_length 0 = .ok (.aload_n 0, 1) := dk_42 (dk_at dksX4_length_0 0 rfl rfl)
theorem dX4_length_1 : decode cX4_length 1 = .ok (.invokevirtual 38, 3) := dk_182 0 38 (dk_at dksX4_length_0 1 rfl rfl)
theorem dX4_length_4 : decode cX4_length 4 = .ok (.istore_n 2, 1) := dk_61 (dk_at dksX4_length_0 4 rfl rfl)
theorem dX4_length_5 : decode cX4_length 5 = .ok (.iload_n 2, 1) := dk_28 (dk_at dksX4_length_0 5 rfl rfl)
theorem dX4_length_6 : decode cX4_length 6 = .ok (.istore_n 3, 1) := dk_62 (dk_at dksX4_length_0 6 rfl rfl)
theorem dX4_length_7 : decode cX4_length 7 = .ok (.iload_n 2, 1) := dk_28 (dk_at dksX4_length_0 7 rfl rfl)
theorem dX4_length_8 : decode cX4_length 8 = .ok (.sipush 128, 3) := dk_17 0 128 (dk_at dksX4_length_0 8 rfl rfl)
theorem dX4_length_11 : decode cX4_length 11 = .ok (.if_icmp .ne 14, 3) := dk_160 0 14 (dk_at dksX4_length_0 11 rfl rfl)
theorem dX4_length_14 : decode cX4_length 14 = .ok (.iload_n 1, 1) := dk_27 (dk_at dksX4_length_0 14 rfl rfl)
theorem dX4_length_15 : decode cX4_length 15 = .ok (.ifCond .eq 8, 3) := dk_153 0 8 (dk_at dksX4_length_0 15 rfl rfl)
theorem dX4_length_18 : decode cX4_length 18 = .ok (.bipush (-2), 2) := dk_16 254 (dk_at dksX4_length_0 18 rfl rfl)
theorem dX4_length_20 : decode cX4_length 20 = .ok (.goto 4, 3) := dk_167 0 4 (dk_at dksX4_length_0 20 rfl rfl)
theorem dX4_length_23 : decode cX4_length 23 = .ok (.iconst (-1), 1) := dk_2 (dk_at dksX4_length_0 23 rfl rfl)
theorem dX4_length_24 : decode cX4_length 24 = .ok (.ireturn, 1) := dk_172 (dk_at dksX4_length_1 0 rfl rfl)
theorem dX4_length_25 : decode cX4_length 25 = .ok (.iload_n 2, 1) := dk_28 (dk_at dksX4_length_1 1 rfl rfl)
theorem dX4_length_26 : decode cX4_length 26 = .ok (.sipush 129, 3) := dk_17 0 129 (dk_at dksX4_length_1 2 rfl rfl)
theorem dX4_length_29 : decode cX4_length 29 = .ok (.if_icmp .ne 8, 3) := dk_160 0 8 (dk_at dksX4_length_1 5 rfl rfl)
theorem dX4_length_32 : decode cX4_length 32 = .ok (.aload_n 0, 1) := dk_42 (dk_at dksX4_length_1 8 rfl rfl)
theorem dX4_length_33 : decode cX4_length 33 = .ok (.invokevirtual 38, 3) := dk_182 0 38 (dk_at dksX4_length_1 9 rfl rfl)
theorem dX4_length_36 : decode cX4_length 36 = .ok (.istore_n 3, 1) := dk_62 (dk_at dksX4_length_1 12 rfl rfl)
theorem dX4_length_37 : decode cX4_length 37 = .ok (.iload_n 2, 1) := dk_28 (dk_at dksX4_length_1 13 rfl rfl)
theorem dX4_length_38 : decode cX4_length 38 = .ok (.sipush 130, 3) := dk_17 0 130 (dk_at dksX4_length_1 14 rfl rfl)
theorem dX4_length_41 : decode cX4_length 41 = .ok (.if_icmp .ne 21, 3) := dk_160 0 21 (dk_at dksX4_length_1 17 rfl rfl)
theorem dX4_length_44 : decode cX4_length 44 = .ok (.aload_n 0, 1) := dk_42 (dk_at dksX4_length_1 20 rfl rfl)
theorem dX4_length_45 : decode cX4_length 45 = .ok (.invokevirtual 38, 3) := dk_182 0 38 (dk_at dksX4_length_1 21 rfl rfl)
theorem dX4_length_48 : decode cX4_length 48 = .ok (.istore 4, 2) := dk_54 4 (dk_at dksX4_length_2 0 rfl rfl)
theorem dX4_length_50 : decode cX4_length 50 = .ok (.sipush 256, 3) := dk_17 1 0 (dk_at dksX4_length_2 2 rfl rfl)
theorem dX4_length_53 : decode cX4_length 53 = .ok (.iload 4, 2) := dk_21 4 (dk_at dksX4_length_2 5 rfl rfl)
theorem dX4_length_55 : decode cX4_length 55 = .ok (.imul, 1) := dk_104 (dk_at dksX4_length_2 7 rfl rfl)
theorem dX4_length_56 : decode cX4_length 56 = .ok (.aload_n 0, 1) := dk_42 (dk_at dksX4_length_2 8 rfl rfl)
theorem dX4_length_57 : decode cX4_length 57 = .ok (.invokevirtual 38, 3) := dk_182 0 38 (dk_at dksX4_length_2 9 rfl rfl)
theorem dX4_length_60 : decode cX4_length 60 = .ok (.iadd, 1) := dk_96 (dk_at dksX4_length_2 12 rfl rfl)
theorem dX4_length_61 : decode cX4_length 61 = .ok (.istore_n 3, 1) := dk_62 (dk_at dksX4_length_2 13 rfl rfl)
theorem dX4_length_62 : decode cX4_length 62 = .ok (.iload_n 2, 1) := dk_28 (dk_at dksX4_length_2 14 rfl rfl)
theorem dX4_length_63 : decode cX4_length 63 = .ok (.sipush 130, 3) := dk_17 0 130 (dk_at dksX4_length_2 15 rfl rfl)
theorem dX4_length_66 : decode cX4_length 66 = .ok (.if_icmp .gt 31, 3) := dk_163 0 31 (dk_at dksX4_length_2 18 rfl rfl)
theorem dX4_length_69 : decode cX4_length 69 = .ok (.iload_n 3, 1) := dk_29 (dk_at dksX4_length_2 21 rfl rfl)
theorem dX4_length_70 : decode cX4_length 70 = .ok (.ifCond .lt 27, 3) := dk_155 0 27 (dk_at dksX4_length_3 0 rfl rfl)
theorem dX4_length_73 : decode cX4_length 73 = .ok (.aload_n 0, 1) := dk_42 (dk_at dksX4_length_3 3 rfl rfl)
theorem dX4_length_74 : decode cX4_length 74 = .ok (.getfield 21, 3) := dk_180 0 21 (dk_at dksX4_length_3 4 rfl rfl)
theorem dX4_length_77 : decode cX4_length 77 = .ok (.aload_n 0, 1) := dk_42 (dk_at dksX4_length_3 7 rfl rfl)
theorem dX4_length_78 : decode cX4_length 78 = .ok (.getfield 25, 3) := dk_180 0 25 (dk_at dksX4_length_3 8 rfl rfl)
theorem dX4_length_81 : decode cX4_length 81 = .ok (.if_icmp .gt 16, 3) := dk_163 0 16 (dk_at dksX4_length_3 11 rfl rfl)
theorem dX4_length_84 : decode cX4_length 84 = .ok (.iload_n 3, 1) := dk_29 (dk_at dksX4_length_3 14 rfl rfl)
theorem dX4_length_85 : decode cX4_length 85 = .ok (.aload_n 0, 1) := dk_42 (dk_at dksX4_length_3 15 rfl rfl)
theorem dX4_length_86 : decode cX4_length 86 = .ok (.getfield 25, 3) := dk_180 0 25 (dk_at dksX4_length_3 16 rfl rfl)
theorem dX4_length_89 : decode cX4_length 89 = .ok (.aload_n 0, 1) := dk_42 (dk_at dksX4_length_3 19 rfl rfl)
theorem dX4_length_90 : decode cX4_length 90 = .ok (.getfield 21, 3) := dk_180 0 21 (dk_at dksX4_length_3 20 rfl rfl)
theorem dX4_length_93 : decode cX4_length 93 = .ok (.isub, 1) := dk_100 (dk_at dksX4_length_3 23 rfl rfl)
theorem dX4_length_94 : decode cX4_length 94 = .ok (.if_icmp .le 7, 3) := dk_164 0 7 (dk_at dksX4_length_4 0 rfl rfl)
theorem dX4_length_97 : decode cX4_length 97 = .ok (.iconst (-1), 1) := dk_2 (dk_at dksX4_length_4 3 rfl rfl)
theorem dX4_length_98 : decode cX4_length 98 = .ok (.goto 4, 3) := dk_167 0 4 (dk_at dksX4_length_4 4 rfl rfl)
theorem dX4_length_101 : decode cX4_length 101 = .ok (.iload_n 3, 1) := dk_29 (dk_at dksX4_length_4 7 rfl rfl)
theorem dX4_length_102 : decode cX4_length 102 = .ok (.ireturn, 1) := dk_172 (dk_at dksX4_length_4 8 rfl rfl)
abbrev cX4_enter : ByteArray := prog_12_method_6_code
def yX4_enter : MethodName := ⟨RX4, "enter", "(I)Z"⟩
def dkwX4_enter_3 : List UInt8 := [42, 180, 0, 21, 28, 96, 181, 0, 25, 4, 172]
abbrev dktX4_enter_3 : List UInt8 := dkwX4_enter_3 ++ []
def dkwX4_enter_2 : List UInt8 := [42, 89, 180, 0, 35, 4, 96, 181, 0, 35, 42, 28, 16, 254, 160, 0, 10, 42, 180, 0, 25, 167, 0, 9]
abbrev dktX4_enter_2 : List UInt8 := dkwX4_enter_2 ++ dktX4_enter_3
def dkwX4_enter_1 : List UInt8 := [172, 42, 180, 0, 9, 42, 180, 0, 35, 28, 79, 42, 180, 0, 15, 42, 180, 0, 35, 42, 180, 0, 25, 79]
abbrev dktX4_enter_1 : List UInt8 := dkwX4_enter_1 ++ dktX4_enter_2
def dkwX4_enter_0 : List UInt8 := [42, 182, 0, 38, 27, 160, 0, 11, 42, 4, 182, 0, 42, 167, 0, 4, 2, 61, 28, 2, 160, 0, 5, 3]
abbrev dktX4_enter_0 : List UInt8 := dkwX4_enter_0 ++ dktX4_enter_1
theorem dksX4_enter_0 : cX4_enter.data.toList.drop 0 = dktX4_enter_0 := by decide +kernel
theorem dksX4_enter_1 : cX4_enter.data.toList.drop 24 = dktX4_enter_1 := dk_seg dksX4_enter_0 24 rfl rfl
theorem dksX4_enter_2 : cX4_enter.data.toList.drop 48 = dktX4_enter_2 := dk_seg dksX4_enter_1 24 rfl rfl
theorem dksX4_enter_3 : cX4_enter.data.toList.drop 72 = dktX4_enter_3 := dk_seg dksX4_enter_2 24 rfl rfl
theorem dX4_enter_0 : decode cX4_enter 0 = .ok (.aload_n 0, 1) := dk_42 (dk_at dksX4_enter_0 0 rfl rfl)
theorem dX4_enter_1 : decode cX4_enter 1 = .ok (.invokevirtual 38, 3) := dk_182 0 38 (dk_at dksX4_enter_0 1 rfl rfl)
theorem dX4_enter_4 : decode cX4_enter 4 = .ok (.iload_n 1, 1) := dk_27 (dk_at dksX4_enter_0 4 rfl rfl)
theorem dX4_enter_5 : decode cX4_enter 5 = .ok (.if_icmp .ne 11, 3) := dk_160 0 11 (dk_at dksX4_enter_0 5 rfl rfl)
theorem dX4_enter_8 : decode cX4_enter 8 = .ok (.aload_n 0, 1) := dk_42 (dk_at dksX4_enter_0 8 rfl rfl)
theorem dX4_enter_9 : decode cX4_enter 9 = .ok (.iconst 1, 1) := dk_4 (dk_at dksX4_enter_0 9 rfl rfl)
theorem dX4_enter_10 : decode cX4_enter 10 = .ok (.invokevirtual 42, 3) := dk_182 0 42 (dk_at dksX4_enter_0 10 rfl rfl)
theorem dX4_enter_13 : decode cX4_enter 13 = .ok (.goto 4, 3) := dk_167 0 4 (dk_at dksX4_enter_0 13 rfl rfl)
theorem dX4_enter_16 : decode cX4_enter 16 = .ok (.iconst (-1), 1) := dk_2 (dk_at dksX4_enter_0 16 rfl rfl)
theorem dX4_enter_17 : decode cX4_enter 17 = .ok (.istore_n 2, 1) := dk_61 (dk_at dksX4_enter_0 17 rfl rfl)
theorem dX4_enter_18 : decode cX4_enter 18 = .ok (.iload_n 2, 1) := dk_28 (dk_at dksX4_enter_0 18 rfl rfl)
theorem dX4_enter_19 : decode cX4_enter 19 = .ok (.iconst (-1), 1) := dk_2 (dk_at dksX4_enter_0 19 rfl rfl)
theorem dX4_enter_20 : decode cX4_enter 20 = .ok (.if_icmp .ne 5, 3) := dk_160 0 5 (dk_at dksX4_enter_0 20 rfl rfl)
theorem dX4_enter_23 : decode cX4_enter 23 = .ok (.iconst 0, 1) := dk_3 (dk_at dksX4_enter_0 23 rfl rfl)
theorem dX4_enter_24 : decode cX4_enter 24 = .ok (.ireturn, 1) := dk_172 (dk_at dksX4_enter_1 0 rfl rfl)
theorem dX4_enter_25 : decode cX4_enter 25 = .ok (.aload_n 0, 1) := dk_42 (dk_at dksX4_enter_1 1 rfl rfl)
theorem dX4_enter_26 : decode cX4_enter 26 = .ok (.getfield 9, 3) := dk_180 0 9 (dk_at dksX4_enter_1 2 rfl rfl)
theorem dX4_enter_29 : decode cX4_enter 29 = .ok (.aload_n 0, 1) := dk_42 (dk_at dksX4_enter_1 5 rfl rfl)
theorem dX4_enter_30 : decode cX4_enter 30 = .ok (.getfield 35, 3) := dk_180 0 35 (dk_at dksX4_enter_1 6 rfl rfl)
theorem dX4_enter_33 : decode cX4_enter 33 = .ok (.iload_n 2, 1) := dk_28 (dk_at dksX4_enter_1 9 rfl rfl)
theorem dX4_enter_34 : decode cX4_enter 34 = .ok (.iastore, 1) := dk_79 (dk_at dksX4_enter_1 10 rfl rfl)
theorem dX4_enter_35 : decode cX4_enter 35 = .ok (.aload_n 0, 1) := dk_42 (dk_at dksX4_enter_1 11 rfl rfl)
theorem dX4_enter_36 : decode cX4_enter 36 = .ok (.getfield 15, 3) := dk_180 0 15 (dk_at dksX4_enter_1 12 rfl rfl)
theorem dX4_enter_39 : decode cX4_enter 39 = .ok (.aload_n 0, 1) := dk_42 (dk_at dksX4_enter_1 15 rfl rfl)
theorem dX4_enter_40 : decode cX4_enter 40 = .ok (.getfield 35, 3) := dk_180 0 35 (dk_at dksX4_enter_1 16 rfl rfl)
theorem dX4_enter_43 : decode cX4_enter 43 = .ok (.aload_n 0, 1) := dk_42 (dk_at dksX4_enter_1 19 rfl rfl)
theorem dX4_enter_44 : decode cX4_enter 44 = .ok (.getfield 25, 3) := dk_180 0 25 (dk_at dksX4_enter_1 20 rfl rfl)
theorem dX4_enter_47 : decode cX4_enter 47 = .ok (.iastore, 1) := dk_79 (dk_at dksX4_enter_1 23 rfl rfl)
theorem dX4_enter_48 : decode cX4_enter 48 = .ok (.aload_n 0, 1) := dk_42 (dk_at dksX4_enter_2 0 rfl rfl)
theorem dX4_enter_49 : decode cX4_enter 49 = .ok (.dup, 1) := dk_89 (dk_at dksX4_enter_2 1 rfl rfl)
theorem dX4_enter_50 : decode cX4_enter 50 = .ok (.getfield 35, 3) := dk_180 0 35 (dk_at dksX4_enter_2 2 rfl rfl)
theorem dX4_enter_53 : decode cX4_enter 53 = .ok (.iconst 1, 1) := dk_4 (dk_at dksX4_enter_2 5 rfl rfl)
theorem dX4_enter_54 : decode cX4_enter 54 = .ok (.iadd, 1) := dk_96 (dk_at dksX4_enter_2 6 rfl rfl)
theorem dX4_enter_55 : decode cX4_enter 55 = .ok (.putfield 35, 3) := dk_181 0 35 (dk_at dksX4_enter_2 7 rfl rfl)
theorem dX4_enter_58 : decode cX4_enter 58 = .ok (.aload_n 0, 1) := dk_42 (dk_at dksX4_enter_2 10 rfl rfl)
theorem dX4_enter_59 : decode cX4_enter 59 = .ok (.iload_n 2, 1) := dk_28 (dk_at dksX4_enter_2 11 rfl rfl)
theorem dX4_enter_60 : decode cX4_enter 60 = .ok (.bipush (-2), 2) := dk_16 254 (dk_at dksX4_enter_2 12 rfl rfl)
theorem dX4_enter_62 : decode cX4_enter 62 = .ok (.if_icmp .ne 10, 3) := dk_160 0 10 (dk_at dksX4_enter_2 14 rfl rfl)
theorem dX4_enter_65 : decode cX4_enter 65 = .ok (.aload_n 0, 1) := dk_42 (dk_at dksX4_enter_2 17 rfl rfl)
theorem dX4_enter_66 : decode cX4_enter 66 = .ok (.getfield 25, 3) := dk_180 0 25 (dk_at dksX4_enter_2 18 rfl rfl)
theorem dX4_enter_69 : decode cX4_enter 69 = .ok (.goto 9, 3) := dk_167 0 9 (dk_at dksX4_enter_2 21 rfl rfl)
theorem dX4_enter_72 : decode cX4_enter 72 = .ok (.aload_n 0, 1) := dk_42 (dk_at dksX4_enter_3 0 rfl rfl)
theorem dX4_enter_73 : decode cX4_enter 73 = .ok (.getfield 21, 3) := dk_180 0 21 (dk_at dksX4_enter_3 1 rfl rfl)
theorem dX4_enter_76 : decode cX4_enter 76 = .ok (.iload_n 2, 1) := dk_28 (dk_at dksX4_enter_3 4 rfl rfl)
theorem dX4_enter_77 : decode cX4_enter 77 = .ok (.iadd, 1) := dk_96 (dk_at dksX4_enter_3 5 rfl rfl)
theorem dX4_enter_78 : decode cX4_enter 78 = .ok (.putfield 25, 3) := dk_181 0 25 (dk_at dksX4_enter_3 6 rfl rfl)
theorem dX4_enter_81 : decode cX4_enter 81 = .ok (.iconst 1, 1) := dk_4 (dk_at dksX4_enter_3 9 rfl rfl)
theorem dX4_enter_82 : decode cX4_enter 82 = .ok (.ireturn, 1) := dk_172 (dk_at dksX4_enter_3 10 rfl rfl)
abbrev cX4_isAtEnd : ByteArray := prog_12_method_7_code
def yX4_isAtEnd : MethodName := ⟨RX4, "isAtEnd", "()Z"⟩
def dkwX4_isAtEnd_2 : List UInt8 := [180, 0, 21, 42, 180, 0, 25, 160, 0, 7, 4, 167, 0, 4, 3, 172]
abbrev dktX4_isAtEnd_2 : List UInt8 := dkwX4_isAtEnd_2 ++ []
def dkwX4_isAtEnd_1 : List UInt8 := [162, 0, 19, 42, 180, 0, 18, 42, 180, 0, 21, 46, 154, 0, 7, 4, 167, 0, 23, 3, 167, 0, 19, 42]
abbrev dktX4_isAtEnd_1 : List UInt8 := dkwX4_isAtEnd_1 ++ dktX4_isAtEnd_2
def dkwX4_isAtEnd_0 : List UInt8 := [42, 180, 0, 9, 42, 180, 0, 35, 4, 100, 46, 16, 254, 160, 0, 34, 42, 180, 0, 21, 42, 180, 0, 25]
abbrev dktX4_isAtEnd_0 : List UInt8 := dkwX4_isAtEnd_0 ++ dktX4_isAtEnd_1
theorem dksX4_isAtEnd_0 : cX4_isAtEnd.data.toList.drop 0 = dktX4_isAtEnd_0 := by decide +kernel
theorem dksX4_isAtEnd_1 : cX4_isAtEnd.data.toList.drop 24 = dktX4_isAtEnd_1 := dk_seg dksX4_isAtEnd_0 24 rfl rfl
theorem dksX4_isAtEnd_2 : cX4_isAtEnd.data.toList.drop 48 = dktX4_isAtEnd_2 := dk_seg dksX4_isAtEnd_1 24 rfl rfl
theorem dX4_isAtEnd_0 : decode cX4_isAtEnd 0 = .ok (.aload_n 0, 1) := dk_42 (dk_at dksX4_isAtEnd_0 0 rfl rfl)
theorem dX4_isAtEnd_1 : decode cX4_isAtEnd 1 = .ok (.getfield 9, 3) := dk_180 0 9 (dk_at dksX4_isAtEnd_0 1 rfl rfl)
theorem dX4_isAtEnd_4 : decode cX4_isAtEnd 4 = .ok (.aload_n 0, 1) := dk_42 (dk_at dksX4_isAtEnd_0 4 rfl rfl)
theorem dX4_isAtEnd_5 : decode cX4_isAtEnd 5 = .ok (.getfield 35, 3) := dk_180 0 35 (dk_at dksX4_isAtEnd_0 5 rfl rfl)
theorem dX4_isAtEnd_8 : decode cX4_isAtEnd 8 = .ok (.iconst 1, 1) := dk_4 (dk_at dksX4_isAtEnd_0 8 rfl rfl)
theorem dX4_isAtEnd_9 : decode cX4_isAtEnd 9 = .ok (.isub, 1) := dk_100 (dk_at dksX4_isAtEnd_0 9 rfl rfl)
theorem dX4_isAtEnd_10 : decode cX4_isAtEnd 10 = .ok (.iaload, 1) := dk_46 (dk_at dksX4_isAtEnd_0 10 rfl rfl)
theorem dX4_isAtEnd_11 : decode cX4_isAtEnd 11 = .ok (.bipush (-2), 2) := dk_16 254 (dk_at dksX4_isAtEnd_0 11 rfl rfl)
theorem dX4_isAtEnd_13 : decode cX4_isAtEnd 13 = .ok (.if_icmp .ne 34, 3) := dk_160 0 34 (dk_at dksX4_isAtEnd_0 13 rfl rfl)
theorem dX4_isAtEnd_16 : decode cX4_isAtEnd 16 = .ok (.aload_n 0, 1) := dk_42 (dk_at dksX4_isAtEnd_0 16 rfl rfl)
theorem dX4_isAtEnd_17 : decode cX4_isAtEnd 17 = .ok (.getfield 21, 3) := dk_180 0 21 (dk_at dksX4_isAtEnd_0 17 rfl rfl)
theorem dX4_isAtEnd_20 : decode cX4_isAtEnd 20 = .ok (.aload_n 0, 1) := dk_42 (dk_at dksX4_isAtEnd_0 20 rfl rfl)
theorem dX4_isAtEnd_21 : decode cX4_isAtEnd 21 = .ok (.getfield 25, 3) := dk_180 0 25 (dk_at dksX4_isAtEnd_0 21 rfl rfl)
theorem dX4_isAtEnd_24 : decode cX4_isAtEnd 24 = .ok (.if_icmp .ge 19, 3) := dk_162 0 19 (dk_at dksX4_isAtEnd_1 0 rfl rfl)
theorem dX4_isAtEnd_27 : decode cX4_isAtEnd 27 = .ok (.aload_n 0, 1) := dk_42 (dk_at dksX4_isAtEnd_1 3 rfl rfl)
theorem dX4_isAtEnd_28 : decode cX4_isAtEnd 28 = .ok (.getfield 18, 3) := dk_180 0 18 (dk_at dksX4_isAtEnd_1 4 rfl rfl)
theorem dX4_isAtEnd_31 : decode cX4_isAtEnd 31 = .ok (.aload_n 0, 1) := dk_42 (dk_at dksX4_isAtEnd_1 7 rfl rfl)
theorem dX4_isAtEnd_32 : decode cX4_isAtEnd 32 = .ok (.getfield 21, 3) := dk_180 0 21 (dk_at dksX4_isAtEnd_1 8 rfl rfl)
theorem dX4_isAtEnd_35 : decode cX4_isAtEnd 35 = .ok (.iaload, 1) := dk_46 (dk_at dksX4_isAtEnd_1 11 rfl rfl)
theorem dX4_isAtEnd_36 : decode cX4_isAtEnd 36 = .ok (.ifCond .ne 7, 3) := dk_154 0 7 (dk_at dksX4_isAtEnd_1 12 rfl rfl)
theorem dX4_isAtEnd_39 : decode cX4_isAtEnd 39 = .ok (.iconst 1, 1) := dk_4 (dk_at dksX4_isAtEnd_1 15 rfl rfl)
theorem dX4_isAtEnd_40 : decode cX4_isAtEnd 40 = .ok (.goto 23, 3) := dk_167 0 23 (dk_at dksX4_isAtEnd_1 16 rfl rfl)
theorem dX4_isAtEnd_43 : decode cX4_isAtEnd 43 = .ok (.iconst 0, 1) := dk_3 (dk_at dksX4_isAtEnd_1 19 rfl rfl)
theorem dX4_isAtEnd_44 : decode cX4_isAtEnd 44 = .ok (.goto 19, 3) := dk_167 0 19 (dk_at dksX4_isAtEnd_1 20 rfl rfl)
theorem dX4_isAtEnd_47 : decode cX4_isAtEnd 47 = .ok (.aload_n 0, 1) := dk_42 (dk_at dksX4_isAtEnd_1 23 rfl rfl)
theorem dX4_isAtEnd_48 : decode cX4_isAtEnd 48 = .ok (.getfield 21, 3) := dk_180 0 21 (dk_at dksX4_isAtEnd_2 0 rfl rfl)
theorem dX4_isAtEnd_51 : decode cX4_isAtEnd 51 = .ok (.aload_n 0, 1) := dk_42 (dk_at dksX4_isAtEnd_2 3 rfl rfl)
theorem dX4_isAtEnd_52 : decode cX4_isAtEnd 52 = .ok (.getfield 25, 3) := dk_180 0 25 (dk_at dksX4_isAtEnd_2 4 rfl rfl)
theorem dX4_isAtEnd_55 : decode cX4_isAtEnd 55 = .ok (.if_icmp .ne 7, 3) := dk_160 0 7 (dk_at dksX4_isAtEnd_2 7 rfl rfl)
theorem dX4_isAtEnd_58 : decode cX4_isAtEnd 58 = .ok (.iconst 1, 1) := dk_4 (dk_at dksX4_isAtEnd_2 10 rfl rfl)
theorem dX4_isAtEnd_59 : decode cX4_isAtEnd 59 = .ok (.goto 4, 3) := dk_167 0 4 (dk_at dksX4_isAtEnd_2 11 rfl rfl)
theorem dX4_isAtEnd_62 : decode cX4_isAtEnd 62 = .ok (.iconst 0, 1) := dk_3 (dk_at dksX4_isAtEnd_2 14 rfl rfl)
theorem dX4_isAtEnd_63 : decode cX4_isAtEnd 63 = .ok (.ireturn, 1) := dk_172 (dk_at dksX4_isAtEnd_2 15 rfl rfl)
abbrev cX4_leave : ByteArray := prog_12_method_8_code
def yX4_leave : MethodName := ⟨RX4, "leave", "()Z"⟩
def dkwX4_leave_3 : List UInt8 := [180, 0, 35, 46, 181, 0, 25, 27, 172]
abbrev dktX4_leave_3 : List UInt8 := dkwX4_leave_3 ++ []
def dkwX4_leave_2 : List UInt8 := [180, 0, 21, 42, 180, 0, 25, 160, 0, 7, 4, 167, 0, 4, 3, 60, 42, 42, 180, 0, 15, 42]
abbrev dktX4_leave_2 : List UInt8 := dkwX4_leave_2 ++ dktX4_leave_3
def dkwX4_leave_1 : List UInt8 := [42, 182, 0, 38, 154, 0, 14, 42, 182, 0, 38, 154, 0, 7, 4, 167, 0, 23, 3, 167, 0, 19, 42]
abbrev dktX4_leave_1 : List UInt8 := dkwX4_leave_1 ++ dktX4_leave_2
def dkwX4_leave_0 : List UInt8 := [42, 89, 180, 0, 35, 4, 100, 181, 0, 35, 42, 180, 0, 9, 42, 180, 0, 35, 46, 16, 254, 160, 0, 25]
abbrev dktX4_leave_0 : List UInt8 := dkwX4_leave_0 ++ dktX4_leave_1
theorem dksX4_leave_0 : cX4_leave.data.toList.drop 0 = dktX4_leave_0 := by decide +kernel
theorem dksX4_leave_1 : cX4_leave.data.toList.drop 24 = dktX4_leave_1 := dk_seg dksX4_leave_0 24 rfl rfl
theorem dksX4_leave_2 : cX4_leave.data.toList.drop 47 = dktX4_leave_2 := dk_seg dksX4_leave_1 23 rfl rfl
theorem dksX4_leave_3 : cX4_leave.data.toList.drop 69 = dktX4_leave_3 := dk_seg dksX4_leave_2 22 rfl rfl
theorem dX4_leave_0 : decode cX4_leave 0 = .ok (.aload_n 0, 1) := dk_42 (dk_at dksX4_leave_0 0 rfl rfl)
theorem dX4_leave_1 : decode cX4_leave 1 = .ok (.dup, 1) := dk_89 (dk_at dksX4_leave_0 1 rfl rfl)
theorem dX4_leave_2 : decode cX4_leave 2 = .ok (.getfield 35, 3) := dk_180 0 35 (dk_at dksX4_leave_0 2 rfl rfl)
theorem dX4_leave_5 : decode cX4_leave 5 = .ok (.iconst 1, 1) := dk_4 (dk_at dksX4_leave_0 5 rfl rfl)
theorem dX4_leave_6 : decode cX4_leave 6 = .ok (.isub, 1) := dk_100 (dk_at dksX4_leave_0 6 rfl rfl)
theorem dX4_leave_7 : decode cX4_leave 7 = .ok (.putfield 35, 3) := dk_181 0 35 (dk_at dksX4_leave_0 7 rfl rfl)
theorem dX4_leave_10 : decode cX4_leave 10 = .ok (.aload_n 0, 1) := dk_42 (dk_at dksX4_leave_0 10 rfl rfl)
theorem dX4_leave_11 : decode cX4_leave 11 = .ok (.getfield 9, 3) := dk_180 0 9 (dk_at dksX4_leave_0 11 rfl rfl)
theorem dX4_leave_14 : decode cX4_leave 14 = .ok (.aload_n 0, 1) := dk_42 (dk_at dksX4_leave_0 14 rfl rfl)
theorem dX4_leave_15 : decode cX4_leave 15 = .ok (.getfield 35, 3) := dk_180 0 35 (dk_at dksX4_leave_0 15 rfl rfl)
theorem dX4_leave_18 : decode cX4_leave 18 = .ok (.iaload, 1) := dk_46 (dk_at dksX4_leave_0 18 rfl rfl)
theorem dX4_leave_19 : decode cX4_leave 19 = .ok (.bipush (-2), 2) := dk_16 254 (dk_at dksX4_leave_0 19 rfl rfl)
theorem dX4_leave_21 : decode cX4_leave 21 = .ok (.if_icmp .ne 25, 3) := dk_160 0 25 (dk_at dksX4_leave_0 21 rfl rfl)
theorem dX4_leave_24 : decode cX4_leave 24 = .ok (.aload_n 0, 1) := dk_42 (dk_at dksX4_leave_1 0 rfl rfl)
theorem dX4_leave_25 : decode cX4_leave 25 = .ok (.invokevirtual 38, 3) := dk_182 0 38 (dk_at dksX4_leave_1 1 rfl rfl)
theorem dX4_leave_28 : decode cX4_leave 28 = .ok (.ifCond .ne 14, 3) := dk_154 0 14 (dk_at dksX4_leave_1 4 rfl rfl)
theorem dX4_leave_31 : decode cX4_leave 31 = .ok (.aload_n 0, 1) := dk_42 (dk_at dksX4_leave_1 7 rfl rfl)
theorem dX4_leave_32 : decode cX4_leave 32 = .ok (.invokevirtual 38, 3) := dk_182 0 38 (dk_at dksX4_leave_1 8 rfl rfl)
theorem dX4_leave_35 : decode cX4_leave 35 = .ok (.ifCond .ne 7, 3) := dk_154 0 7 (dk_at dksX4_leave_1 11 rfl rfl)
theorem dX4_leave_38 : decode cX4_leave 38 = .ok (.iconst 1, 1) := dk_4 (dk_at dksX4_leave_1 14 rfl rfl)
theorem dX4_leave_39 : decode cX4_leave 39 = .ok (.goto 23, 3) := dk_167 0 23 (dk_at dksX4_leave_1 15 rfl rfl)
theorem dX4_leave_42 : decode cX4_leave 42 = .ok (.iconst 0, 1) := dk_3 (dk_at dksX4_leave_1 18 rfl rfl)
theorem dX4_leave_43 : decode cX4_leave 43 = .ok (.goto 19, 3) := dk_167 0 19 (dk_at dksX4_leave_1 19 rfl rfl)
theorem dX4_leave_46 : decode cX4_leave 46 = .ok (.aload_n 0, 1) := dk_42 (dk_at dksX4_leave_1 22 rfl rfl)
theorem dX4_leave_47 : decode cX4_leave 47 = .ok (.getfield 21, 3) := dk_180 0 21 (dk_at dksX4_leave_2 0 rfl rfl)
theorem dX4_leave_50 : decode cX4_leave 50 = .ok (.aload_n 0, 1) := dk_42 (dk_at dksX4_leave_2 3 rfl rfl)
theorem dX4_leave_51 : decode cX4_leave 51 = .ok (.getfield 25, 3) := dk_180 0 25 (dk_at dksX4_leave_2 4 rfl rfl)
theorem dX4_leave_54 : decode cX4_leave 54 = .ok (.if_icmp .ne 7, 3) := dk_160 0 7 (dk_at dksX4_leave_2 7 rfl rfl)
theorem dX4_leave_57 : decode cX4_leave 57 = .ok (.iconst 1, 1) := dk_4 (dk_at dksX4_leave_2 10 rfl rfl)
theorem dX4_leave_58 : decode cX4_leave 58 = .ok (.goto 4, 3) := dk_167 0 4 (dk_at dksX4_leave_2 11 rfl rfl)
theorem dX4_leave_61 : decode cX4_leave 61 = .ok (.iconst 0, 1) := dk_3 (dk_at dksX4_leave_2 14 rfl rfl)
theorem dX4_leave_62 : decode cX4_leave 62 = .ok (.istore_n 1, 1) := dk_60 (dk_at dksX4_leave_2 15 rfl rfl)
theorem dX4_leave_63 : decode cX4_leave 63 = .ok (.aload_n 0, 1) := dk_42 (dk_at dksX4_leave_2 16 rfl rfl)
theorem dX4_leave_64 : decode cX4_leave 64 = .ok (.aload_n 0, 1) := dk_42 (dk_at dksX4_leave_2 17 rfl rfl)
theorem dX4_leave_65 : decode cX4_leave 65 = .ok (.getfield 15, 3) := dk_180 0 15 (dk_at dksX4_leave_2 18 rfl rfl)
theorem dX4_leave_68 : decode cX4_leave 68 = .ok (.aload_n 0, 1) := dk_42 (dk_at dksX4_leave_2 21 rfl rfl)
theorem dX4_leave_69 : decode cX4_leave 69 = .ok (.getfield 35, 3) := dk_180 0 35 (dk_at dksX4_leave_3 0 rfl rfl)
theorem dX4_leave_72 : decode cX4_leave 72 = .ok (.iaload, 1) := dk_46 (dk_at dksX4_leave_3 3 rfl rfl)
theorem dX4_leave_73 : decode cX4_leave 73 = .ok (.putfield 25, 3) := dk_181 0 25 (dk_at dksX4_leave_3 4 rfl rfl)
theorem dX4_leave_76 : decode cX4_leave 76 = .ok (.iload_n 1, 1) := dk_27 (dk_at dksX4_leave_3 7 rfl rfl)
theorem dX4_leave_77 : decode cX4_leave 77 = .ok (.ireturn, 1) := dk_172 (dk_at dksX4_leave_3 8 rfl rfl)
theorem q89 : (Jvm.Cond.initialized "NotationDesk$Source") ∈ lw_all := lw_g (lw_at lw_m1 4 rfl) rfl
theorem q226 : (Jvm.Cond.instantiable "NotationDesk$Source" (8 : Nat)) ∈ lw_all := lw_g (lw_at lw_m1 141 rfl) rfl
theorem q228 : (Jvm.Cond.instanceMethod ({ cls := "NotationDesk$Source", name := "<init>", desc := "()V" } : Jvm.MethodName)) ∈ lw_all := lw_g (lw_at lw_m1 143 rfl) rfl
theorem q229 : (Jvm.Cond.code ({ cls := "NotationDesk$Source", name := "<init>", desc := "()V" } : Jvm.MethodName) prog_12_method_1_code (1 : Nat) (Option.none : Option Jvm.ClassFile.FieldType)) ∈ lw_all := lw_g (lw_at lw_m1 144 rfl) rfl
theorem q230 : (Jvm.Cond.methodLink "NotationDesk$Source" (3 : Nat) ({ cls := "java/lang/Object", name := "<init>", desc := "()V" } : Jvm.MethodName)) ∈ lw_all := lw_g (lw_at lw_m1 145 rfl) rfl
theorem q231 : (Jvm.Cond.fieldLink "NotationDesk$Source" (18 : Nat) "NotationDesk$Source" "bytes" "[I") ∈ lw_all := lw_g (lw_at lw_m1 146 rfl) rfl
theorem q232 : (Jvm.Cond.fieldLink "NotationDesk$Source" (21 : Nat) "NotationDesk$Source" "at" "I") ∈ lw_all := lw_g (lw_at lw_m1 147 rfl) rfl
theorem q234 : (Jvm.Cond.fieldLink "NotationDesk$Source" (25 : Nat) "NotationDesk$Source" "end" "I") ∈ lw_all := lw_g (lw_at lw_m1 149 rfl) rfl
theorem q236 : (Jvm.Cond.fieldLink "NotationDesk$Source" (28 : Nat) "NotationDesk$Source" "bit" "I") ∈ lw_all := lw_g (lw_at lw_m1 151 rfl) rfl
theorem q238 : (Jvm.Cond.fieldLink "NotationDesk$Source" (31 : Nat) "NotationDesk$Source" "store" "LNotationDesk$Store;") ∈ lw_all := lw_g (lw_at lw_m1 153 rfl) rfl
theorem q244 : (Jvm.Cond.fieldLink "NotationDesk$Source" (9 : Nat) "NotationDesk$Source" "lengths" "[I") ∈ lw_all := lw_g (lw_at lw_m1 159 rfl) rfl
theorem q245 : (Jvm.Cond.fieldLink "NotationDesk$Source" (15 : Nat) "NotationDesk$Source" "ends" "[I") ∈ lw_all := lw_g (lw_at lw_m1 160 rfl) rfl
theorem q246 : (Jvm.Cond.fieldLink "NotationDesk$Source" (35 : Nat) "NotationDesk$Source" "open" "I") ∈ lw_all := lw_g (lw_at lw_m1 161 rfl) rfl
theorem q247 : (Jvm.Cond.lays "NotationDesk$Source" "NotationDesk$Source" "bytes" "[I") ∈ lw_all := lw_g (lw_at lw_m1 162 rfl) rfl
theorem q248 : (Jvm.Cond.soleField "NotationDesk$Source" "bytes") ∈ lw_all := lw_g (lw_at lw_m1 163 rfl) rfl
theorem q249 : (Jvm.Cond.lays "NotationDesk$Source" "NotationDesk$Source" "at" "I") ∈ lw_all := lw_g (lw_at lw_m1 164 rfl) rfl
theorem q250 : (Jvm.Cond.soleField "NotationDesk$Source" "at") ∈ lw_all := lw_g (lw_at lw_m1 165 rfl) rfl
theorem q251 : (Jvm.Cond.lays "NotationDesk$Source" "NotationDesk$Source" "end" "I") ∈ lw_all := lw_g (lw_at lw_m1 166 rfl) rfl
theorem q252 : (Jvm.Cond.soleField "NotationDesk$Source" "end") ∈ lw_all := lw_g (lw_at lw_m1 167 rfl) rfl
theorem q253 : (Jvm.Cond.lays "NotationDesk$Source" "NotationDesk$Source" "bit" "I") ∈ lw_all := lw_g (lw_at lw_m1 168 rfl) rfl
theorem q254 : (Jvm.Cond.soleField "NotationDesk$Source" "bit") ∈ lw_all := lw_g (lw_at lw_m1 169 rfl) rfl
theorem q255 : (Jvm.Cond.lays "NotationDesk$Source" "NotationDesk$Source" "store" "LNotationDesk$Store;") ∈ lw_all := lw_g (lw_at lw_m1 170 rfl) rfl
theorem q256 : (Jvm.Cond.soleField "NotationDesk$Source" "store") ∈ lw_all := lw_g (lw_at lw_m1 171 rfl) rfl
theorem q257 : (Jvm.Cond.laysFinal "NotationDesk$Source" "NotationDesk$Source" "lengths" "[I") ∈ lw_all := lw_g (lw_at lw_m1 172 rfl) rfl
theorem q258 : (Jvm.Cond.soleField "NotationDesk$Source" "lengths") ∈ lw_all := lw_g (lw_at lw_m1 173 rfl) rfl
theorem q259 : (Jvm.Cond.laysFinal "NotationDesk$Source" "NotationDesk$Source" "ends" "[I") ∈ lw_all := lw_g (lw_at lw_m1 174 rfl) rfl
theorem q260 : (Jvm.Cond.soleField "NotationDesk$Source" "ends") ∈ lw_all := lw_g (lw_at lw_m1 175 rfl) rfl
theorem q261 : (Jvm.Cond.lays "NotationDesk$Source" "NotationDesk$Source" "open" "I") ∈ lw_all := lw_g (lw_at lw_m1 176 rfl) rfl
theorem q262 : (Jvm.Cond.soleField "NotationDesk$Source" "open") ∈ lw_all := lw_g (lw_at lw_m1 177 rfl) rfl
theorem q263 : (Jvm.Cond.superclass "NotationDesk$Source" "java/lang/Object") ∈ lw_all := lw_g (lw_at lw_m1 178 rfl) rfl
theorem q861 : (Jvm.Cond.instanceMethod ({ cls := "NotationDesk$Source", name := "begin", desc := "([IIILNotationDesk$Store;)V" } : Jvm.MethodName)) ∈ lw_all := lw_g (lw_at lw_m4 56 rfl) rfl
theorem q862 : (Jvm.Cond.selects "NotationDesk$Source" ({ cls := "NotationDesk$Source", name := "begin", desc := "([IIILNotationDesk$Store;)V" } : Jvm.MethodName) ({ cls := "NotationDesk$Source", name := "begin", desc := "([IIILNotationDesk$Store;)V" } : Jvm.MethodName)) ∈ lw_all := lw_g (lw_at lw_m4 57 rfl) rfl
theorem q863 : (Jvm.Cond.code ({ cls := "NotationDesk$Source", name := "begin", desc := "([IIILNotationDesk$Store;)V" } : Jvm.MethodName) prog_12_method_2_code (5 : Nat) (Option.none : Option Jvm.ClassFile.FieldType)) ∈ lw_all := lw_g (lw_at lw_m4 58 rfl) rfl
theorem q871 : (Jvm.Cond.instanceMethod ({ cls := "NotationDesk$Source", name := "takeNumber", desc := "(II)I" } : Jvm.MethodName)) ∈ lw_all := lw_g (lw_at lw_m4 66 rfl) rfl
theorem q872 : (Jvm.Cond.selects "NotationDesk$Source" ({ cls := "NotationDesk$Source", name := "takeNumber", desc := "(II)I" } : Jvm.MethodName) ({ cls := "NotationDesk$Source", name := "takeNumber", desc := "(II)I" } : Jvm.MethodName)) ∈ lw_all := lw_g (lw_at lw_m4 67 rfl) rfl
theorem q873 : (Jvm.Cond.code ({ cls := "NotationDesk$Source", name := "takeNumber", desc := "(II)I" } : Jvm.MethodName) prog_12_method_12_code (4 : Nat) (Option.some Jvm.ClassFile.FieldType.int)) ∈ lw_all := lw_g (lw_at lw_m4 68 rfl) rfl
theorem q874 : (Jvm.Cond.methodLink "NotationDesk$Source" (46 : Nat) ({ cls := "NotationDesk$Source", name := "align", desc := "()V" } : Jvm.MethodName)) ∈ lw_all := lw_g (lw_at lw_m4 69 rfl) rfl
theorem q875 : (Jvm.Cond.instanceMethod ({ cls := "NotationDesk$Source", name := "align", desc := "()V" } : Jvm.MethodName)) ∈ lw_all := lw_g (lw_at lw_m4 70 rfl) rfl
theorem q876 : (Jvm.Cond.selects "NotationDesk$Source" ({ cls := "NotationDesk$Source", name := "align", desc := "()V" } : Jvm.MethodName) ({ cls := "NotationDesk$Source", name := "align", desc := "()V" } : Jvm.MethodName)) ∈ lw_all := lw_g (lw_at lw_m4 71 rfl) rfl
theorem q877 : (Jvm.Cond.code ({ cls := "NotationDesk$Source", name := "align", desc := "()V" } : Jvm.MethodName) prog_12_method_10_code (1 : Nat) (Option.none : Option Jvm.ClassFile.FieldType)) ∈ lw_all := lw_g (lw_at lw_m4 72 rfl) rfl
theorem q878 : (Jvm.Cond.methodLink "NotationDesk$Source" (49 : Nat) ({ cls := "NotationDesk$Source", name := "take", desc := "(I)I" } : Jvm.MethodName)) ∈ lw_all := lw_g (lw_at lw_m4 73 rfl) rfl
theorem q879 : (Jvm.Cond.instanceMethod ({ cls := "NotationDesk$Source", name := "take", desc := "(I)I" } : Jvm.MethodName)) ∈ lw_all := lw_g (lw_at lw_m4 74 rfl) rfl
theorem q880 : (Jvm.Cond.selects "NotationDesk$Source" ({ cls := "NotationDesk$Source", name := "take", desc := "(I)I" } : Jvm.MethodName) ({ cls := "NotationDesk$Source", name := "take", desc := "(I)I" } : Jvm.MethodName)) ∈ lw_all := lw_g (lw_at lw_m4 75 rfl) rfl
theorem q881 : (Jvm.Cond.code ({ cls := "NotationDesk$Source", name := "take", desc := "(I)I" } : Jvm.MethodName) prog_12_method_9_code (5 : Nat) (Option.some Jvm.ClassFile.FieldType.int)) ∈ lw_all := lw_g (lw_at lw_m4 76 rfl) rfl
theorem q882 : (Jvm.Cond.methodLinkNest "NotationDesk$Source" (53 : Nat) ({ cls := "NotationDesk", name := "width", desc := "(I)I" } : Jvm.MethodName) "NotationDesk") ∈ lw_tbl := lw_at lw_m4 77 rfl
theorem q886 : (Jvm.Cond.instanceMethod ({ cls := "NotationDesk$Source", name := "isThere", desc := "()Z" } : Jvm.MethodName)) ∈ lw_all := lw_g (lw_at lw_m4 81 rfl) rfl
theorem q887 : (Jvm.Cond.selects "NotationDesk$Source" ({ cls := "NotationDesk$Source", name := "isThere", desc := "()Z" } : Jvm.MethodName) ({ cls := "NotationDesk$Source", name := "isThere", desc := "()Z" } : Jvm.MethodName)) ∈ lw_all := lw_g (lw_at lw_m4 82 rfl) rfl
theorem q888 : (Jvm.Cond.code ({ cls := "NotationDesk$Source", name := "isThere", desc := "()Z" } : Jvm.MethodName) prog_12_method_11_code (1 : Nat) (Option.some Jvm.ClassFile.FieldType.boolean)) ∈ lw_all := lw_g (lw_at lw_m4 83 rfl) rfl
theorem q1047 : (Jvm.Cond.instanceMethod ({ cls := "NotationDesk$Source", name := "tag", desc := "()I" } : Jvm.MethodName)) ∈ lw_all := lw_g (lw_at lw_m5 2 rfl) rfl
theorem q1048 : (Jvm.Cond.selects "NotationDesk$Source" ({ cls := "NotationDesk$Source", name := "tag", desc := "()I" } : Jvm.MethodName) ({ cls := "NotationDesk$Source", name := "tag", desc := "()I" } : Jvm.MethodName)) ∈ lw_all := lw_g (lw_at lw_m5 3 rfl) rfl
theorem q1049 : (Jvm.Cond.code ({ cls := "NotationDesk$Source", name := "tag", desc := "()I" } : Jvm.MethodName) prog_12_method_4_code (3 : Nat) (Option.some Jvm.ClassFile.FieldType.int)) ∈ lw_all := lw_g (lw_at lw_m5 4 rfl) rfl
theorem q1054 : (Jvm.Cond.instanceMethod ({ cls := "NotationDesk$Source", name := "next", desc := "()I" } : Jvm.MethodName)) ∈ lw_all := lw_g (lw_at lw_m5 9 rfl) rfl
theorem q1055 : (Jvm.Cond.selects "NotationDesk$Source" ({ cls := "NotationDesk$Source", name := "next", desc := "()I" } : Jvm.MethodName) ({ cls := "NotationDesk$Source", name := "next", desc := "()I" } : Jvm.MethodName)) ∈ lw_all := lw_g (lw_at lw_m5 10 rfl) rfl
theorem q1056 : (Jvm.Cond.code ({ cls := "NotationDesk$Source", name := "next", desc := "()I" } : Jvm.MethodName) prog_12_method_3_code (1 : Nat) (Option.some Jvm.ClassFile.FieldType.int)) ∈ lw_all := lw_g (lw_at lw_m5 11 rfl) rfl
theorem q1058 : (Jvm.Cond.instanceMethod ({ cls := "NotationDesk$Source", name := "length", desc := "(Z)I" } : Jvm.MethodName)) ∈ lw_all := lw_g (lw_at lw_m5 13 rfl) rfl
theorem q1059 : (Jvm.Cond.selects "NotationDesk$Source" ({ cls := "NotationDesk$Source", name := "length", desc := "(Z)I" } : Jvm.MethodName) ({ cls := "NotationDesk$Source", name := "length", desc := "(Z)I" } : Jvm.MethodName)) ∈ lw_all := lw_g (lw_at lw_m5 14 rfl) rfl
theorem q1060 : (Jvm.Cond.code ({ cls := "NotationDesk$Source", name := "length", desc := "(Z)I" } : Jvm.MethodName) prog_12_method_5_code (5 : Nat) (Option.some Jvm.ClassFile.FieldType.int)) ∈ lw_all := lw_g (lw_at lw_m5 15 rfl) rfl
theorem q1061 : (Jvm.Cond.methodLink "NotationDesk$Source" (38 : Nat) ({ cls := "NotationDesk$Source", name := "next", desc := "()I" } : Jvm.MethodName)) ∈ lw_all := lw_g (lw_at lw_m5 16 rfl) rfl
theorem q1076 : (Jvm.Cond.instanceMethod ({ cls := "NotationDesk$Source", name := "enter", desc := "(I)Z" } : Jvm.MethodName)) ∈ lw_all := lw_g (lw_at lw_m5 31 rfl) rfl
theorem q1077 : (Jvm.Cond.selects "NotationDesk$Source" ({ cls := "NotationDesk$Source", name := "enter", desc := "(I)Z" } : Jvm.MethodName) ({ cls := "NotationDesk$Source", name := "enter", desc := "(I)Z" } : Jvm.MethodName)) ∈ lw_all := lw_g (lw_at lw_m5 32 rfl) rfl
theorem q1078 : (Jvm.Cond.code ({ cls := "NotationDesk$Source", name := "enter", desc := "(I)Z" } : Jvm.MethodName) prog_12_method_6_code (3 : Nat) (Option.some Jvm.ClassFile.FieldType.boolean)) ∈ lw_all := lw_g (lw_at lw_m5 33 rfl) rfl
theorem q1079 : (Jvm.Cond.methodLink "NotationDesk$Source" (42 : Nat) ({ cls := "NotationDesk$Source", name := "length", desc := "(Z)I" } : Jvm.MethodName)) ∈ lw_all := lw_g (lw_at lw_m5 34 rfl) rfl
theorem q1086 : (Jvm.Cond.instanceMethod ({ cls := "NotationDesk$Source", name := "isAtEnd", desc := "()Z" } : Jvm.MethodName)) ∈ lw_all := lw_g (lw_at lw_m5 41 rfl) rfl
theorem q1087 : (Jvm.Cond.selects "NotationDesk$Source" ({ cls := "NotationDesk$Source", name := "isAtEnd", desc := "()Z" } : Jvm.MethodName) ({ cls := "NotationDesk$Source", name := "isAtEnd", desc := "()Z" } : Jvm.MethodName)) ∈ lw_all := lw_g (lw_at lw_m5 42 rfl) rfl
theorem q1088 : (Jvm.Cond.code ({ cls := "NotationDesk$Source", name := "isAtEnd", desc := "()Z" } : Jvm.MethodName) prog_12_method_7_code (1 : Nat) (Option.some Jvm.ClassFile.FieldType.boolean)) ∈ lw_all := lw_g (lw_at lw_m5 43 rfl) rfl
theorem q1095 : (Jvm.Cond.instanceMethod ({ cls := "NotationDesk$Source", name := "leave", desc := "()Z" } : Jvm.MethodName)) ∈ lw_all := lw_g (lw_at lw_m5 50 rfl) rfl
theorem q1096 : (Jvm.Cond.selects "NotationDesk$Source" ({ cls := "NotationDesk$Source", name := "leave", desc := "()Z" } : Jvm.MethodName) ({ cls := "NotationDesk$Source", name := "leave", desc := "()Z" } : Jvm.MethodName)) ∈ lw_all := lw_g (lw_at lw_m5 51 rfl) rfl
theorem q1097 : (Jvm.Cond.code ({ cls := "NotationDesk$Source", name := "leave", desc := "()Z" } : Jvm.MethodName) prog_12_method_8_code (2 : Nat) (Option.some Jvm.ClassFile.FieldType.boolean)) ∈ lw_all := lw_g (lw_at lw_m5 52 rfl) rfl
theorem q1814 : (Jvm.Cond.castable "NotationDesk$Source" "java/lang/Object") ∈ lw_tbl := lw_at lw_m8 49 rfl
theorem in_X4 : ∀ w ∈ wsX40, w ∈ lw_all := lw_in wsX40 [247, 249, 251, 253, 255, 257, 259, 261] (by decide +kernel) (by decide +kernel)
/-! NotationDesk$Writer -/
set_option maxRecDepth 100000
def RX5 : String := "NotationDesk$Writer"
def TX5 : u_T := fun k => match k with
  | 0 => ("NotationDesk$Writer", "bytes", "[I", true)
  | 1 => ("NotationDesk$Writer", "bits", "I", false)
  | _ => ("NotationDesk$Writer", "store", "LNotationDesk$Store;", false)
def tyX5 : Nat → FieldType := fun k => match k with
  | 0 => .array .int
  | 1 => .int
  | _ => .object "NotationDesk$Store"
abbrev wsX50 : List Cond := u_ws RX5 TX5 3
theorem nmX5 : ∀ a, a < 3 → ∀ b, b < 3 → a ≠ b → (TX5 a).2.1 ≠ (TX5 b).2.1 := by decide +kernel
theorem tyX5_ok : ∀ k, k < 3 → parseFieldDescriptor (TX5 k).2.2.1 = some (tyX5 k) := by decide +kernel
abbrev cX5_init : ByteArray := prog_16_method_1_code
def yX5_init : MethodName := ⟨RX5, "<init>", "()V"⟩
def dkwX5_init_0 : List UInt8 := [42, 183, 0, 1, 42, 17, 10, 40, 188, 10, 181, 0, 7, 177]
abbrev dktX5_init_0 : List UInt8 := dkwX5_init_0 ++ []
theorem dksX5_init_0 : cX5_init.data.toList.drop 0 = dktX5_init_0 := by decide +kernel
theorem dX5_init_0 : decode cX5_init 0 = .ok (.aload_n 0, 1) := dk_42 (dk_at dksX5_init_0 0 rfl rfl)
theorem dX5_init_1 : decode cX5_init 1 = .ok (.invokespecial 1, 3) := dk_183 0 1 (dk_at dksX5_init_0 1 rfl rfl)
theorem dX5_init_4 : decode cX5_init 4 = .ok (.aload_n 0, 1) := dk_42 (dk_at dksX5_init_0 4 rfl rfl)
theorem dX5_init_5 : decode cX5_init 5 = .ok (.sipush 2600, 3) := dk_17 10 40 (dk_at dksX5_init_0 5 rfl rfl)
theorem dX5_init_8 : decode cX5_init 8 = .ok (.newarray .int, 2) := dk_188_10 (dk_at dksX5_init_0 8 rfl rfl)
theorem dX5_init_10 : decode cX5_init 10 = .ok (.putfield 7, 3) := dk_181 0 7 (dk_at dksX5_init_0 10 rfl rfl)
theorem dX5_init_13 : decode cX5_init 13 = .ok (.return_, 1) := dk_177 (dk_at dksX5_init_0 13 rfl rfl)
abbrev cX5_begin : ByteArray := prog_16_method_2_code
def yX5_begin : MethodName := ⟨RX5, "begin", "(LNotationDesk$Store;)V"⟩
def dkwX5_begin_0 : List UInt8 := [42, 3, 181, 0, 13, 42, 43, 181, 0, 17, 177]
abbrev dktX5_begin_0 : List UInt8 := dkwX5_begin_0 ++ []
theorem dksX5_begin_0 : cX5_begin.data.toList.drop 0 = dktX5_begin_0 := by decide +kernel
theorem dX5_begin_0 : decode cX5_begin 0 = .ok (.aload_n 0, 1) := dk_42 (dk_at dksX5_begin_0 0 rfl rfl)
theorem dX5_begin_1 : decode cX5_begin 1 = .ok (.iconst 0, 1) := dk_3 (dk_at dksX5_begin_0 1 rfl rfl)
theorem dX5_begin_2 : decode cX5_begin 2 = .ok (.putfield 13, 3) := dk_181 0 13 (dk_at dksX5_begin_0 2 rfl rfl)
theorem dX5_begin_5 : decode cX5_begin 5 = .ok (.aload_n 0, 1) := dk_42 (dk_at dksX5_begin_0 5 rfl rfl)
theorem dX5_begin_6 : decode cX5_begin 6 = .ok (.aload_n 1, 1) := dk_43 (dk_at dksX5_begin_0 6 rfl rfl)
theorem dX5_begin_7 : decode cX5_begin 7 = .ok (.putfield 17, 3) := dk_181 0 17 (dk_at dksX5_begin_0 7 rfl rfl)
theorem dX5_begin_10 : decode cX5_begin 10 = .ok (.return_, 1) := dk_177 (dk_at dksX5_begin_0 10 rfl rfl)
abbrev cX5_header : ByteArray := prog_16_method_7_code
def yX5_header : MethodName := ⟨RX5, "header", "(II)V"⟩
def dkwX5_header_2 : List UInt8 := [126, 182, 0, 29, 177]
abbrev dktX5_header_2 : List UInt8 := dkwX5_header_2 ++ []
def dkwX5_header_1 : List UInt8 := [182, 0, 29, 167, 0, 16, 28, 16, 127, 164, 0, 10, 42, 17, 0, 129, 182, 0, 29, 42, 28, 17, 0, 255]
abbrev dktX5_header_1 : List UInt8 := dkwX5_header_1 ++ dktX5_header_2
def dkwX5_header_0 : List UInt8 := [42, 27, 182, 0, 29, 28, 17, 0, 255, 164, 0, 21, 42, 17, 0, 130, 182, 0, 29, 42, 28, 16, 8, 122]
abbrev dktX5_header_0 : List UInt8 := dkwX5_header_0 ++ dktX5_header_1
theorem dksX5_header_0 : cX5_header.data.toList.drop 0 = dktX5_header_0 := by decide +kernel
theorem dksX5_header_1 : cX5_header.data.toList.drop 24 = dktX5_header_1 := dk_seg dksX5_header_0 24 rfl rfl
theorem dksX5_header_2 : cX5_header.data.toList.drop 48 = dktX5_header_2 := dk_seg dksX5_header_1 24 rfl rfl
theorem dX5_header_0 : decode cX5_header 0 = .ok (.aload_n 0, 1) := dk_42 (dk_at dksX5_header_0 0 rfl rfl)
theorem dX5_header_1 : decode cX5_header 1 = .ok (.iload_n 1, 1) := dk_27 (dk_at dksX5_header_0 1 rfl rfl)
theorem dX5_header_2 : decode cX5_header 2 = .ok (.invokevirtual 29, 3) := dk_182 0 29 (dk_at dksX5_header_0 2 rfl rfl)
theorem dX5_header_5 : decode cX5_header 5 = .ok (.iload_n 2, 1) := dk_28 (dk_at dksX5_header_0 5 rfl rfl)
theorem dX5_header_6 : decode cX5_header 6 = .ok (.sipush 255, 3) := dk_17 0 255 (dk_at dksX5_header_0 6 rfl rfl)
theorem dX5_header_9 : decode cX5_header 9 = .ok (.if_icmp .le 21, 3) := dk_164 0 21 (dk_at dksX5_header_0 9 rfl rfl)
theorem dX5_header_12 : decode cX5_header 12 = .ok (.aload_n 0, 1) := dk_42 (dk_at dksX5_header_0 12 rfl rfl)
theorem dX5_header_13 : decode cX5_header 13 = .ok (.sipush 130, 3) := dk_17 0 130 (dk_at dksX5_header_0 13 rfl rfl)
theorem dX5_header_16 : decode cX5_header 16 = .ok (.invokevirtual 29, 3) := dk_182 0 29 (dk_at dksX5_header_0 16 rfl rfl)
theorem dX5_header_19 : decode cX5_header 19 = .ok (.aload_n 0, 1) := dk_42 (dk_at dksX5_header_0 19 rfl rfl)
theorem dX5_header_20 : decode cX5_header 20 = .ok (.iload_n 2, 1) := dk_28 (dk_at dksX5_header_0 20 rfl rfl)
theorem dX5_header_21 : decode cX5_header 21 = .ok (.bipush 8, 2) := dk_16 8 (dk_at dksX5_header_0 21 rfl rfl)
theorem dX5_header_23 : decode cX5_header 23 = .ok (.ishr, 1) := dk_122 (dk_at dksX5_header_0 23 rfl rfl)
theorem dX5_header_24 : decode cX5_header 24 = .ok (.invokevirtual 29, 3) := dk_182 0 29 (dk_at dksX5_header_1 0 rfl rfl)
theorem dX5_header_27 : decode cX5_header 27 = .ok (.goto 16, 3) := dk_167 0 16 (dk_at dksX5_header_1 3 rfl rfl)
theorem dX5_header_30 : decode cX5_header 30 = .ok (.iload_n 2, 1) := dk_28 (dk_at dksX5_header_1 6 rfl rfl)
theorem dX5_header_31 : decode cX5_header 31 = .ok (.bipush 127, 2) := dk_16 127 (dk_at dksX5_header_1 7 rfl rfl)
theorem dX5_header_33 : decode cX5_header 33 = .ok (.if_icmp .le 10, 3) := dk_164 0 10 (dk_at dksX5_header_1 9 rfl rfl)
theorem dX5_header_36 : decode cX5_header 36 = .ok (.aload_n 0, 1) := dk_42 (dk_at dksX5_header_1 12 rfl rfl)
theorem dX5_header_37 : decode cX5_header 37 = .ok (.sipush 129, 3) := dk_17 0 129 (dk_at dksX5_header_1 13 rfl rfl)
theorem dX5_header_40 : decode cX5_header 40 = .ok (.invokevirtual 29, 3) := dk_182 0 29 (dk_at dksX5_header_1 16 rfl rfl)
theorem dX5_header_43 : decode cX5_header 43 = .ok (.aload_n 0, 1) := dk_42 (dk_at dksX5_header_1 19 rfl rfl)
theorem dX5_header_44 : decode cX5_header 44 = .ok (.iload_n 2, 1) := dk_28 (dk_at dksX5_header_1 20 rfl rfl)
theorem dX5_header_45 : decode cX5_header 45 = .ok (.sipush 255, 3) := dk_17 0 255 (dk_at dksX5_header_1 21 rfl rfl)
theorem dX5_header_48 : decode cX5_header 48 = .ok (.iand, 1) := dk_126 (dk_at dksX5_header_2 0 rfl rfl)
theorem dX5_header_49 : decode cX5_header 49 = .ok (.invokevirtual 29, 3) := dk_182 0 29 (dk_at dksX5_header_2 1 rfl rfl)
theorem dX5_header_52 : decode cX5_header 52 = .ok (.return_, 1) := dk_177 (dk_at dksX5_header_2 4 rfl rfl)
abbrev cX5_add : ByteArray := prog_16_method_5_code
def yX5_add : MethodName := ⟨RX5, "add", "(I)V"⟩
def dkwX5_add_0 : List UInt8 := [42, 27, 16, 8, 182, 0, 21, 177]
abbrev dktX5_add_0 : List UInt8 := dkwX5_add_0 ++ []
theorem dksX5_add_0 : cX5_add.data.toList.drop 0 = dktX5_add_0 := by decide +kernel
theorem dX5_add_0 : decode cX5_add 0 = .ok (.aload_n 0, 1) := dk_42 (dk_at dksX5_add_0 0 rfl rfl)
theorem dX5_add_1 : decode cX5_add 1 = .ok (.iload_n 1, 1) := dk_27 (dk_at dksX5_add_0 1 rfl rfl)
theorem dX5_add_2 : decode cX5_add 2 = .ok (.bipush 8, 2) := dk_16 8 (dk_at dksX5_add_0 2 rfl rfl)
theorem dX5_add_4 : decode cX5_add 4 = .ok (.invokevirtual 21, 3) := dk_182 0 21 (dk_at dksX5_add_0 4 rfl rfl)
theorem dX5_add_7 : decode cX5_add 7 = .ok (.return_, 1) := dk_177 (dk_at dksX5_add_0 7 rfl rfl)
abbrev cX5_put : ByteArray := prog_16_method_4_code
def yX5_put : MethodName := ⟨RX5, "put", "(II)V"⟩
def dkwX5_put_3 : List UInt8 := [181, 0, 13, 132, 3, 255, 167, 255, 185, 177]
abbrev dktX5_put_3 : List UInt8 := dkwX5_put_3 ++ []
def dkwX5_put_2 : List UInt8 := [4, 126, 16, 7, 42, 180, 0, 13, 16, 8, 112, 100, 120, 128, 79, 42, 89, 180, 0, 13, 4, 96]
abbrev dktX5_put_2 : List UInt8 := dkwX5_put_2 ++ dktX5_put_3
def dkwX5_put_1 : List UInt8 := [180, 0, 13, 16, 8, 108, 3, 79, 42, 180, 0, 7, 42, 180, 0, 13, 16, 8, 108, 92, 46, 27, 29, 122]
abbrev dktX5_put_1 : List UInt8 := dkwX5_put_1 ++ dktX5_put_2
def dkwX5_put_0 : List UInt8 := [28, 4, 100, 62, 29, 155, 0, 73, 42, 180, 0, 13, 16, 8, 112, 154, 0, 16, 42, 180, 0, 7, 42]
abbrev dktX5_put_0 : List UInt8 := dkwX5_put_0 ++ dktX5_put_1
theorem dksX5_put_0 : cX5_put.data.toList.drop 0 = dktX5_put_0 := by decide +kernel
theorem dksX5_put_1 : cX5_put.data.toList.drop 23 = dktX5_put_1 := dk_seg dksX5_put_0 23 rfl rfl
theorem dksX5_put_2 : cX5_put.data.toList.drop 47 = dktX5_put_2 := dk_seg dksX5_put_1 24 rfl rfl
theorem dksX5_put_3 : cX5_put.data.toList.drop 69 = dktX5_put_3 := dk_seg dksX5_put_2 22 rfl rfl
theorem dX5_put_0 : decode cX5_put 0 = .ok (.iload_n 2, 1) := dk_28 (dk_at dksX5_put_0 0 rfl rfl)
theorem dX5_put_1 : decode cX5_put 1 = .ok (.iconst 1, 1) := dk_4 (dk_at dksX5_put_0 1 rfl rfl)
theorem dX5_put_2 : decode cX5_put 2 = .ok (.isub, 1) := dk_100 (dk_at dksX5_put_0 2 rfl rfl)
theorem dX5_put_3 : decode cX5_put 3 = .ok (.istore_n 3, 1) := dk_62 (dk_at dksX5_put_0 3 rfl rfl)
theorem dX5_put_4 : decode cX5_put 4 = .ok (.iload_n 3, 1) := dk_29 (dk_at dksX5_put_0 4 rfl rfl)
theorem dX5_put_5 : decode cX5_put 5 = .ok (.ifCond .lt 73, 3) := dk_155 0 73 (dk_at dksX5_put_0 5 rfl rfl)
theorem dX5_put_8 : decode cX5_put 8 = .ok (.aload_n 0, 1) := dk_42 (dk_at dksX5_put_0 8 rfl rfl)
theorem dX5_put_9 : decode cX5_put 9 = .ok (.getfield 13, 3) := dk_180 0 13 (dk_at dksX5_put_0 9 rfl rfl)
theorem dX5_put_12 : decode cX5_put 12 = .ok (.bipush 8, 2) := dk_16 8 (dk_at dksX5_put_0 12 rfl rfl)
theorem dX5_put_14 : decode cX5_put 14 = .ok (.irem, 1) := dk_112 (dk_at dksX5_put_0 14 rfl rfl)
theorem dX5_put_15 : decode cX5_put 15 = .ok (.ifCond .ne 16, 3) := dk_154 0 16 (dk_at dksX5_put_0 15 rfl rfl)
theorem dX5_put_18 : decode cX5_put 18 = .ok (.aload_n 0, 1) := dk_42 (dk_at dksX5_put_0 18 rfl rfl)
theorem dX5_put_19 : decode cX5_put 19 = .ok (.getfield 7, 3) := dk_180 0 7 (dk_at dksX5_put_0 19 rfl rfl)
theorem dX5_put_22 : decode cX5_put 22 = .ok (.aload_n 0, 1) := dk_42 (dk_at dksX5_put_0 22 rfl rfl)
theorem dX5_put_23 : decode cX5_put 23 = .ok (.getfield 13, 3) := dk_180 0 13 (dk_at dksX5_put_1 0 rfl rfl)
theorem dX5_put_26 : decode cX5_put 26 = .ok (.bipush 8, 2) := dk_16 8 (dk_at dksX5_put_1 3 rfl rfl)
theorem dX5_put_28 : decode cX5_put 28 = .ok (.idiv, 1) := dk_108 (dk_at dksX5_put_1 5 rfl rfl)
theorem dX5_put_29 : decode cX5_put 29 = .ok (.iconst 0, 1) := dk_3 (dk_at dksX5_put_1 6 rfl rfl)
theorem dX5_put_30 : decode cX5_put 30 = .ok (.iastore, 1) := dk_79 (dk_at dksX5_put_1 7 rfl rfl)
theorem dX5_put_31 : decode cX5_put 31 = .ok (.aload_n 0, 1) := dk_42 (dk_at dksX5_put_1 8 rfl rfl)
theorem dX5_put_32 : decode cX5_put 32 = .ok (.getfield 7, 3) := dk_180 0 7 (dk_at dksX5_put_1 9 rfl rfl)
theorem dX5_put_35 : decode cX5_put 35 = .ok (.aload_n 0, 1) := dk_42 (dk_at dksX5_put_1 12 rfl rfl)
theorem dX5_put_36 : decode cX5_put 36 = .ok (.getfield 13, 3) := dk_180 0 13 (dk_at dksX5_put_1 13 rfl rfl)
theorem dX5_put_39 : decode cX5_put 39 = .ok (.bipush 8, 2) := dk_16 8 (dk_at dksX5_put_1 16 rfl rfl)
theorem dX5_put_41 : decode cX5_put 41 = .ok (.idiv, 1) := dk_108 (dk_at dksX5_put_1 18 rfl rfl)
theorem dX5_put_42 : decode cX5_put 42 = .ok (.dup2, 1) := dk_92 (dk_at dksX5_put_1 19 rfl rfl)
theorem dX5_put_43 : decode cX5_put 43 = .ok (.iaload, 1) := dk_46 (dk_at dksX5_put_1 20 rfl rfl)
theorem dX5_put_44 : decode cX5_put 44 = .ok (.iload_n 1, 1) := dk_27 (dk_at dksX5_put_1 21 rfl rfl)
theorem dX5_put_45 : decode cX5_put 45 = .ok (.iload_n 3, 1) := dk_29 (dk_at dksX5_put_1 22 rfl rfl)
theorem dX5_put_46 : decode cX5_put 46 = .ok (.ishr, 1) := dk_122 (dk_at dksX5_put_1 23 rfl rfl)
theorem dX5_put_47 : decode cX5_put 47 = .ok (.iconst 1, 1) := dk_4 (dk_at dksX5_put_2 0 rfl rfl)
theorem dX5_put_48 : decode cX5_put 48 = .ok (.iand, 1) := dk_126 (dk_at dksX5_put_2 1 rfl rfl)
theorem dX5_put_49 : decode cX5_put 49 = .ok (.bipush 7, 2) := dk_16 7 (dk_at dksX5_put_2 2 rfl rfl)
theorem dX5_put_51 : decode cX5_put 51 = .ok (.aload_n 0, 1) := dk_42 (dk_at dksX5_put_2 4 rfl rfl)
theorem dX5_put_52 : decode cX5_put 52 = .ok (.getfield 13, 3) := dk_180 0 13 (dk_at dksX5_put_2 5 rfl rfl)
theorem dX5_put_55 : decode cX5_put 55 = .ok (.bipush 8, 2) := dk_16 8 (dk_at dksX5_put_2 8 rfl rfl)
theorem dX5_put_57 : decode cX5_put 57 = .ok (.irem, 1) := dk_112 (dk_at dksX5_put_2 10 rfl rfl)
theorem dX5_put_58 : decode cX5_put 58 = .ok (.isub, 1) := dk_100 (dk_at dksX5_put_2 11 rfl rfl)
theorem dX5_put_59 : decode cX5_put 59 = .ok (.ishl, 1) := dk_120 (dk_at dksX5_put_2 12 rfl rfl)
theorem dX5_put_60 : decode cX5_put 60 = .ok (.ior, 1) := dk_128 (dk_at dksX5_put_2 13 rfl rfl)
theorem dX5_put_61 : decode cX5_put 61 = .ok (.iastore, 1) := dk_79 (dk_at dksX5_put_2 14 rfl rfl)
theorem dX5_put_62 : decode cX5_put 62 = .ok (.aload_n 0, 1) := dk_42 (dk_at dksX5_put_2 15 rfl rfl)
theorem dX5_put_63 : decode cX5_put 63 = .ok (.dup, 1) := dk_89 (dk_at dksX5_put_2 16 rfl rfl)
theorem dX5_put_64 : decode cX5_put 64 = .ok (.getfield 13, 3) := dk_180 0 13 (dk_at dksX5_put_2 17 rfl rfl)
theorem dX5_put_67 : decode cX5_put 67 = .ok (.iconst 1, 1) := dk_4 (dk_at dksX5_put_2 20 rfl rfl)
theorem dX5_put_68 : decode cX5_put 68 = .ok (.iadd, 1) := dk_96 (dk_at dksX5_put_2 21 rfl rfl)
theorem dX5_put_69 : decode cX5_put 69 = .ok (.putfield 13, 3) := dk_181 0 13 (dk_at dksX5_put_3 0 rfl rfl)
theorem dX5_put_72 : decode cX5_put 72 = .ok (.iinc 3 (-1), 3) := dk_132 3 255 (dk_at dksX5_put_3 3 rfl rfl)
theorem dX5_put_75 : decode cX5_put 75 = .ok (.goto (-71), 3) := dk_167 255 185 (dk_at dksX5_put_3 6 rfl rfl)
theorem dX5_put_78 : decode cX5_put 78 = .ok (.return_, 1) := dk_177 (dk_at dksX5_put_3 9 rfl rfl)
abbrev cX5_putInt : ByteArray := prog_16_method_8_code
def yX5_putInt : MethodName := ⟨RX5, "putInt", "(I)V"⟩
def dkwX5_putInt_1 : List UInt8 := [182, 0, 29, 132, 3, 255, 167, 255, 235, 177]
abbrev dktX5_putInt_1 : List UInt8 := dkwX5_putInt_1 ++ []
def dkwX5_putInt_0 : List UInt8 := [27, 184, 0, 33, 61, 28, 4, 100, 62, 29, 155, 0, 23, 42, 27, 16, 8, 29, 104, 122, 17, 0, 255, 126]
abbrev dktX5_putInt_0 : List UInt8 := dkwX5_putInt_0 ++ dktX5_putInt_1
theorem dksX5_putInt_0 : cX5_putInt.data.toList.drop 0 = dktX5_putInt_0 := by decide +kernel
theorem dksX5_putInt_1 : cX5_putInt.data.toList.drop 24 = dktX5_putInt_1 := dk_seg dksX5_putInt_0 24 rfl rfl
theorem dX5_putInt_0 : decode cX5_putInt 0 = .ok (.iload_n 1, 1) := dk_27 (dk_at dksX5_putInt_0 0 rfl rfl)
theorem dX5_putInt_1 : decode cX5_putInt 1 = .ok (.invokestatic 33, 3) := dk_184 0 33 (dk_at dksX5_putInt_0 1 rfl rfl)
theorem dX5_putInt_4 : decode cX5_putInt 4 = .ok (.istore_n 2, 1) := dk_61 (dk_at dksX5_putInt_0 4 rfl rfl)
theorem dX5_putInt_5 : decode cX5_putInt 5 = .ok (.iload_n 2, 1) := dk_28 (dk_at dksX5_putInt_0 5 rfl rfl)
theorem dX5_putInt_6 : decode cX5_putInt 6 = .ok (.iconst 1, 1) := dk_4 (dk_at dksX5_putInt_0 6 rfl rfl)
theorem dX5_putInt_7 : decode cX5_putInt 7 = .ok (.isub, 1) := dk_100 (dk_at dksX5_putInt_0 7 rfl rfl)
theorem dX5_putInt_8 : decode cX5_putInt 8 = .ok (.istore_n 3, 1) := dk_62 (dk_at dksX5_putInt_0 8 rfl rfl)
theorem dX5_putInt_9 : decode cX5_putInt 9 = .ok (.iload_n 3, 1) := dk_29 (dk_at dksX5_putInt_0 9 rfl rfl)
theorem dX5_putInt_10 : decode cX5_putInt 10 = .ok (.ifCond .lt 23, 3) := dk_155 0 23 (dk_at dksX5_putInt_0 10 rfl rfl)
theorem dX5_putInt_13 : decode cX5_putInt 13 = .ok (.aload_n 0, 1) := dk_42 (dk_at dksX5_putInt_0 13 rfl rfl)
theorem dX5_putInt_14 : decode cX5_putInt 14 = .ok (.iload_n 1, 1) := dk_27 (dk_at dksX5_putInt_0 14 rfl rfl)
theorem dX5_putInt_15 : decode cX5_putInt 15 = .ok (.bipush 8, 2) := dk_16 8 (dk_at dksX5_putInt_0 15 rfl rfl)
theorem dX5_putInt_17 : decode cX5_putInt 17 = .ok (.iload_n 3, 1) := dk_29 (dk_at dksX5_putInt_0 17 rfl rfl)
theorem dX5_putInt_18 : decode cX5_putInt 18 = .ok (.imul, 1) := dk_104 (dk_at dksX5_putInt_0 18 rfl rfl)
theorem dX5_putInt_19 : decode cX5_putInt 19 = .ok (.ishr, 1) := dk_122 (dk_at dksX5_putInt_0 19 rfl rfl)
theorem dX5_putInt_20 : decode cX5_putInt 20 = .ok (.sipush 255, 3) := dk_17 0 255 (dk_at dksX5_putInt_0 20 rfl rfl)
theorem dX5_putInt_23 : decode cX5_putInt 23 = .ok (.iand, 1) := dk_126 (dk_at dksX5_putInt_0 23 rfl rfl)
theorem dX5_putInt_24 : decode cX5_putInt 24 = .ok (.invokevirtual 29, 3) := dk_182 0 29 (dk_at dksX5_putInt_1 0 rfl rfl)
theorem dX5_putInt_27 : decode cX5_putInt 27 = .ok (.iinc 3 (-1), 3) := dk_132 3 255 (dk_at dksX5_putInt_1 3 rfl rfl)
theorem dX5_putInt_30 : decode cX5_putInt 30 = .ok (.goto (-21), 3) := dk_167 255 235 (dk_at dksX5_putInt_1 6 rfl rfl)
theorem dX5_putInt_33 : decode cX5_putInt 33 = .ok (.return_, 1) := dk_177 (dk_at dksX5_putInt_1 9 rfl rfl)
abbrev cX5_putNumber : ByteArray := prog_16_method_9_code
def yX5_putNumber : MethodName := ⟨RX5, "putNumber", "(III)V"⟩
def dkwX5_putNumber_2 : List UInt8 := [100, 21, 4, 4, 100, 184, 0, 42, 182, 0, 21, 177]
abbrev dktX5_putNumber_2 : List UInt8 := dkwX5_putNumber_2 ++ []
def dkwX5_putNumber_1 : List UInt8 := [21, 4, 17, 1, 0, 160, 0, 8, 16, 8, 167, 0, 5, 16, 16, 182, 0, 21, 167, 0, 17, 42, 27, 28]
abbrev dktX5_putNumber_1 : List UInt8 := dkwX5_putNumber_1 ++ dktX5_putNumber_2
def dkwX5_putNumber_0 : List UInt8 := [29, 28, 100, 4, 96, 54, 4, 21, 4, 17, 0, 255, 164, 0, 32, 42, 182, 0, 39, 42, 27, 28, 100]
abbrev dktX5_putNumber_0 : List UInt8 := dkwX5_putNumber_0 ++ dktX5_putNumber_1
theorem dksX5_putNumber_0 : cX5_putNumber.data.toList.drop 0 = dktX5_putNumber_0 := by decide +kernel
theorem dksX5_putNumber_1 : cX5_putNumber.data.toList.drop 23 = dktX5_putNumber_1 := dk_seg dksX5_putNumber_0 23 rfl rfl
theorem dksX5_putNumber_2 : cX5_putNumber.data.toList.drop 47 = dktX5_putNumber_2 := dk_seg dksX5_putNumber_1 24 rfl rfl
theorem dX5_putNumber_0 : decode cX5_putNumber 0 = .ok (.iload_n 3, 1) := dk_29 (dk_at dksX5_putNumber_0 0 rfl rfl)
theorem dX5_putNumber_1 : decode cX5_putNumber 1 = .ok (.iload_n 2, 1) := dk_28 (dk_at dksX5_putNumber_0 1 rfl rfl)
theorem dX5_putNumber_2 : decode cX5_putNumber 2 = .ok (.isub, 1) := dk_100 (dk_at dksX5_putNumber_0 2 rfl rfl)
theorem dX5_putNumber_3 : decode cX5_putNumber 3 = .ok (.iconst 1, 1) := dk_4 (dk_at dksX5_putNumber_0 3 rfl rfl)
theorem dX5_putNumber_4 : decode cX5_putNumber 4 = .ok (.iadd, 1) := dk_96 (dk_at dksX5_putNumber_0 4 rfl rfl)
theorem dX5_putNumber_5 : decode cX5_putNumber 5 = .ok (.istore 4, 2) := dk_54 4 (dk_at dksX5_putNumber_0 5 rfl rfl)
theorem dX5_putNumber_7 : decode cX5_putNumber 7 = .ok (.iload 4, 2) := dk_21 4 (dk_at dksX5_putNumber_0 7 rfl rfl)
theorem dX5_putNumber_9 : decode cX5_putNumber 9 = .ok (.sipush 255, 3) := dk_17 0 255 (dk_at dksX5_putNumber_0 9 rfl rfl)
theorem dX5_putNumber_12 : decode cX5_putNumber 12 = .ok (.if_icmp .le 32, 3) := dk_164 0 32 (dk_at dksX5_putNumber_0 12 rfl rfl)
theorem dX5_putNumber_15 : decode cX5_putNumber 15 = .ok (.aload_n 0, 1) := dk_42 (dk_at dksX5_putNumber_0 15 rfl rfl)
theorem dX5_putNumber_16 : decode cX5_putNumber 16 = .ok (.invokevirtual 39, 3) := dk_182 0 39 (dk_at dksX5_putNumber_0 16 rfl rfl)
theorem dX5_putNumber_19 : decode cX5_putNumber 19 = .ok (.aload_n 0, 1) := dk_42 (dk_at dksX5_putNumber_0 19 rfl rfl)
theorem dX5_putNumber_20 : decode cX5_putNumber 20 = .ok (.iload_n 1, 1) := dk_27 (dk_at dksX5_putNumber_0 20 rfl rfl)
theorem dX5_putNumber_21 : decode cX5_putNumber 21 = .ok (.iload_n 2, 1) := dk_28 (dk_at dksX5_putNumber_0 21 rfl rfl)
theorem dX5_putNumber_22 : decode cX5_putNumber 22 = .ok (.isub, 1) := dk_100 (dk_at dksX5_putNumber_0 22 rfl rfl)
theorem dX5_putNumber_23 : decode cX5_putNumber 23 = .ok (.iload 4, 2) := dk_21 4 (dk_at dksX5_putNumber_1 0 rfl rfl)
theorem dX5_putNumber_25 : decode cX5_putNumber 25 = .ok (.sipush 256, 3) := dk_17 1 0 (dk_at dksX5_putNumber_1 2 rfl rfl)
theorem dX5_putNumber_28 : decode cX5_putNumber 28 = .ok (.if_icmp .ne 8, 3) := dk_160 0 8 (dk_at dksX5_putNumber_1 5 rfl rfl)
theorem dX5_putNumber_31 : decode cX5_putNumber 31 = .ok (.bipush 8, 2) := dk_16 8 (dk_at dksX5_putNumber_1 8 rfl rfl)
theorem dX5_putNumber_33 : decode cX5_putNumber 33 = .ok (.goto 5, 3) := dk_167 0 5 (dk_at dksX5_putNumber_1 10 rfl rfl)
theorem dX5_putNumber_36 : decode cX5_putNumber 36 = .ok (.bipush 16, 2) := dk_16 16 (dk_at dksX5_putNumber_1 13 rfl rfl)
theorem dX5_putNumber_38 : decode cX5_putNumber 38 = .ok (.invokevirtual 21, 3) := dk_182 0 21 (dk_at dksX5_putNumber_1 15 rfl rfl)
theorem dX5_putNumber_41 : decode cX5_putNumber 41 = .ok (.goto 17, 3) := dk_167 0 17 (dk_at dksX5_putNumber_1 18 rfl rfl)
theorem dX5_putNumber_44 : decode cX5_putNumber 44 = .ok (.aload_n 0, 1) := dk_42 (dk_at dksX5_putNumber_1 21 rfl rfl)
theorem dX5_putNumber_45 : decode cX5_putNumber 45 = .ok (.iload_n 1, 1) := dk_27 (dk_at dksX5_putNumber_1 22 rfl rfl)
theorem dX5_putNumber_46 : decode cX5_putNumber 46 = .ok (.iload_n 2, 1) := dk_28 (dk_at dksX5_putNumber_1 23 rfl rfl)
theorem dX5_putNumber_47 : decode cX5_putNumber 47 = .ok (.isub, 1) := dk_100 (dk_at dksX5_putNumber_2 0 rfl rfl)
theorem dX5_putNumber_48 : decode cX5_putNumber 48 = .ok (.iload 4, 2) := dk_21 4 (dk_at dksX5_putNumber_2 1 rfl rfl)
theorem dX5_putNumber_50 : decode cX5_putNumber 50 = .ok (.iconst 1, 1) := dk_4 (dk_at dksX5_putNumber_2 3 rfl rfl)
theorem dX5_putNumber_51 : decode cX5_putNumber 51 = .ok (.isub, 1) := dk_100 (dk_at dksX5_putNumber_2 4 rfl rfl)
theorem dX5_putNumber_52 : decode cX5_putNumber 52 = .ok (.invokestatic 42, 3) := dk_184 0 42 (dk_at dksX5_putNumber_2 5 rfl rfl)
theorem dX5_putNumber_55 : decode cX5_putNumber 55 = .ok (.invokevirtual 21, 3) := dk_182 0 21 (dk_at dksX5_putNumber_2 8 rfl rfl)
theorem dX5_putNumber_58 : decode cX5_putNumber 58 = .ok (.return_, 1) := dk_177 (dk_at dksX5_putNumber_2 11 rfl rfl)
abbrev cX5_align : ByteArray := prog_16_method_6_code
def yX5_align : MethodName := ⟨RX5, "align", "()V"⟩
def dkwX5_align_0 : List UInt8 := [42, 16, 8, 42, 182, 0, 25, 104, 181, 0, 13, 177]
abbrev dktX5_align_0 : List UInt8 := dkwX5_align_0 ++ []
theorem dksX5_align_0 : cX5_align.data.toList.drop 0 = dktX5_align_0 := by decide +kernel
theorem dX5_align_0 : decode cX5_align 0 = .ok (.aload_n 0, 1) := dk_42 (dk_at dksX5_align_0 0 rfl rfl)
theorem dX5_align_1 : decode cX5_align 1 = .ok (.bipush 8, 2) := dk_16 8 (dk_at dksX5_align_0 1 rfl rfl)
theorem dX5_align_3 : decode cX5_align 3 = .ok (.aload_n 0, 1) := dk_42 (dk_at dksX5_align_0 3 rfl rfl)
theorem dX5_align_4 : decode cX5_align 4 = .ok (.invokevirtual 25, 3) := dk_182 0 25 (dk_at dksX5_align_0 4 rfl rfl)
theorem dX5_align_7 : decode cX5_align 7 = .ok (.imul, 1) := dk_104 (dk_at dksX5_align_0 7 rfl rfl)
theorem dX5_align_8 : decode cX5_align 8 = .ok (.putfield 13, 3) := dk_181 0 13 (dk_at dksX5_align_0 8 rfl rfl)
theorem dX5_align_11 : decode cX5_align 11 = .ok (.return_, 1) := dk_177 (dk_at dksX5_align_0 11 rfl rfl)
abbrev cX5_size : ByteArray := prog_16_method_3_code
def yX5_size : MethodName := ⟨RX5, "size", "()I"⟩
def dkwX5_size_0 : List UInt8 := [42, 180, 0, 13, 16, 7, 96, 16, 8, 108, 172]
abbrev dktX5_size_0 : List UInt8 := dkwX5_size_0 ++ []
theorem dksX5_size_0 : cX5_size.data.toList.drop 0 = dktX5_size_0 := by decide +kernel
theorem dX5_size_0 : decode cX5_size 0 = .ok (.aload_n 0, 1) := dk_42 (dk_at dksX5_size_0 0 rfl rfl)
theorem dX5_size_1 : decode cX5_size 1 = .ok (.getfield 13, 3) := dk_180 0 13 (dk_at dksX5_size_0 1 rfl rfl)
theorem dX5_size_4 : decode cX5_size 4 = .ok (.bipush 7, 2) := dk_16 7 (dk_at dksX5_size_0 4 rfl rfl)
theorem dX5_size_6 : decode cX5_size 6 = .ok (.iadd, 1) := dk_96 (dk_at dksX5_size_0 6 rfl rfl)
theorem dX5_size_7 : decode cX5_size 7 = .ok (.bipush 8, 2) := dk_16 8 (dk_at dksX5_size_0 7 rfl rfl)
theorem dX5_size_9 : decode cX5_size 9 = .ok (.idiv, 1) := dk_108 (dk_at dksX5_size_0 9 rfl rfl)
theorem dX5_size_10 : decode cX5_size 10 = .ok (.ireturn, 1) := dk_172 (dk_at dksX5_size_0 10 rfl rfl)
theorem q90 : (Jvm.Cond.initialized "NotationDesk$Writer") ∈ lw_all := lw_g (lw_at lw_m1 5 rfl) rfl
theorem q265 : (Jvm.Cond.instantiable "NotationDesk$Writer" (3 : Nat)) ∈ lw_all := lw_g (lw_at lw_m1 180 rfl) rfl
theorem q267 : (Jvm.Cond.instanceMethod ({ cls := "NotationDesk$Writer", name := "<init>", desc := "()V" } : Jvm.MethodName)) ∈ lw_all := lw_g (lw_at lw_m1 182 rfl) rfl
theorem q268 : (Jvm.Cond.code ({ cls := "NotationDesk$Writer", name := "<init>", desc := "()V" } : Jvm.MethodName) prog_16_method_1_code (1 : Nat) (Option.none : Option Jvm.ClassFile.FieldType)) ∈ lw_all := lw_g (lw_at lw_m1 183 rfl) rfl
theorem q269 : (Jvm.Cond.methodLink "NotationDesk$Writer" (1 : Nat) ({ cls := "java/lang/Object", name := "<init>", desc := "()V" } : Jvm.MethodName)) ∈ lw_all := lw_g (lw_at lw_m1 184 rfl) rfl
theorem q270 : (Jvm.Cond.fieldLink "NotationDesk$Writer" (7 : Nat) "NotationDesk$Writer" "bytes" "[I") ∈ lw_all := lw_g (lw_at lw_m1 185 rfl) rfl
theorem q272 : (Jvm.Cond.fieldLink "NotationDesk$Writer" (13 : Nat) "NotationDesk$Writer" "bits" "I") ∈ lw_all := lw_g (lw_at lw_m1 187 rfl) rfl
theorem q274 : (Jvm.Cond.fieldLink "NotationDesk$Writer" (17 : Nat) "NotationDesk$Writer" "store" "LNotationDesk$Store;") ∈ lw_all := lw_g (lw_at lw_m1 189 rfl) rfl
theorem q276 : (Jvm.Cond.laysFinal "NotationDesk$Writer" "NotationDesk$Writer" "bytes" "[I") ∈ lw_all := lw_g (lw_at lw_m1 191 rfl) rfl
theorem q277 : (Jvm.Cond.soleField "NotationDesk$Writer" "bytes") ∈ lw_all := lw_g (lw_at lw_m1 192 rfl) rfl
theorem q278 : (Jvm.Cond.lays "NotationDesk$Writer" "NotationDesk$Writer" "bits" "I") ∈ lw_all := lw_g (lw_at lw_m1 193 rfl) rfl
theorem q279 : (Jvm.Cond.soleField "NotationDesk$Writer" "bits") ∈ lw_all := lw_g (lw_at lw_m1 194 rfl) rfl
theorem q280 : (Jvm.Cond.lays "NotationDesk$Writer" "NotationDesk$Writer" "store" "LNotationDesk$Store;") ∈ lw_all := lw_g (lw_at lw_m1 195 rfl) rfl
theorem q281 : (Jvm.Cond.soleField "NotationDesk$Writer" "store") ∈ lw_all := lw_g (lw_at lw_m1 196 rfl) rfl
theorem q282 : (Jvm.Cond.superclass "NotationDesk$Writer" "java/lang/Object") ∈ lw_all := lw_g (lw_at lw_m1 197 rfl) rfl
theorem q1110 : (Jvm.Cond.instanceMethod ({ cls := "NotationDesk$Writer", name := "begin", desc := "(LNotationDesk$Store;)V" } : Jvm.MethodName)) ∈ lw_all := lw_g (lw_at lw_m5 65 rfl) rfl
theorem q1111 : (Jvm.Cond.selects "NotationDesk$Writer" ({ cls := "NotationDesk$Writer", name := "begin", desc := "(LNotationDesk$Store;)V" } : Jvm.MethodName) ({ cls := "NotationDesk$Writer", name := "begin", desc := "(LNotationDesk$Store;)V" } : Jvm.MethodName)) ∈ lw_all := lw_g (lw_at lw_m5 66 rfl) rfl
theorem q1112 : (Jvm.Cond.code ({ cls := "NotationDesk$Writer", name := "begin", desc := "(LNotationDesk$Store;)V" } : Jvm.MethodName) prog_16_method_2_code (2 : Nat) (Option.none : Option Jvm.ClassFile.FieldType)) ∈ lw_all := lw_g (lw_at lw_m5 67 rfl) rfl
theorem q1132 : (Jvm.Cond.instanceMethod ({ cls := "NotationDesk$Writer", name := "header", desc := "(II)V" } : Jvm.MethodName)) ∈ lw_all := lw_g (lw_at lw_m5 87 rfl) rfl
theorem q1133 : (Jvm.Cond.selects "NotationDesk$Writer" ({ cls := "NotationDesk$Writer", name := "header", desc := "(II)V" } : Jvm.MethodName) ({ cls := "NotationDesk$Writer", name := "header", desc := "(II)V" } : Jvm.MethodName)) ∈ lw_all := lw_g (lw_at lw_m5 88 rfl) rfl
theorem q1134 : (Jvm.Cond.code ({ cls := "NotationDesk$Writer", name := "header", desc := "(II)V" } : Jvm.MethodName) prog_16_method_7_code (3 : Nat) (Option.none : Option Jvm.ClassFile.FieldType)) ∈ lw_all := lw_g (lw_at lw_m5 89 rfl) rfl
theorem q1135 : (Jvm.Cond.methodLink "NotationDesk$Writer" (29 : Nat) ({ cls := "NotationDesk$Writer", name := "add", desc := "(I)V" } : Jvm.MethodName)) ∈ lw_all := lw_g (lw_at lw_m5 90 rfl) rfl
theorem q1136 : (Jvm.Cond.instanceMethod ({ cls := "NotationDesk$Writer", name := "add", desc := "(I)V" } : Jvm.MethodName)) ∈ lw_all := lw_g (lw_at lw_m5 91 rfl) rfl
theorem q1137 : (Jvm.Cond.selects "NotationDesk$Writer" ({ cls := "NotationDesk$Writer", name := "add", desc := "(I)V" } : Jvm.MethodName) ({ cls := "NotationDesk$Writer", name := "add", desc := "(I)V" } : Jvm.MethodName)) ∈ lw_all := lw_g (lw_at lw_m5 92 rfl) rfl
theorem q1138 : (Jvm.Cond.code ({ cls := "NotationDesk$Writer", name := "add", desc := "(I)V" } : Jvm.MethodName) prog_16_method_5_code (2 : Nat) (Option.none : Option Jvm.ClassFile.FieldType)) ∈ lw_all := lw_g (lw_at lw_m5 93 rfl) rfl
theorem q1139 : (Jvm.Cond.methodLink "NotationDesk$Writer" (21 : Nat) ({ cls := "NotationDesk$Writer", name := "put", desc := "(II)V" } : Jvm.MethodName)) ∈ lw_all := lw_g (lw_at lw_m5 94 rfl) rfl
theorem q1140 : (Jvm.Cond.instanceMethod ({ cls := "NotationDesk$Writer", name := "put", desc := "(II)V" } : Jvm.MethodName)) ∈ lw_all := lw_g (lw_at lw_m5 95 rfl) rfl
theorem q1141 : (Jvm.Cond.selects "NotationDesk$Writer" ({ cls := "NotationDesk$Writer", name := "put", desc := "(II)V" } : Jvm.MethodName) ({ cls := "NotationDesk$Writer", name := "put", desc := "(II)V" } : Jvm.MethodName)) ∈ lw_all := lw_g (lw_at lw_m5 96 rfl) rfl
theorem q1142 : (Jvm.Cond.code ({ cls := "NotationDesk$Writer", name := "put", desc := "(II)V" } : Jvm.MethodName) prog_16_method_4_code (4 : Nat) (Option.none : Option Jvm.ClassFile.FieldType)) ∈ lw_all := lw_g (lw_at lw_m5 97 rfl) rfl
theorem q1151 : (Jvm.Cond.instanceMethod ({ cls := "NotationDesk$Writer", name := "putInt", desc := "(I)V" } : Jvm.MethodName)) ∈ lw_all := lw_g (lw_at lw_m5 106 rfl) rfl
theorem q1152 : (Jvm.Cond.selects "NotationDesk$Writer" ({ cls := "NotationDesk$Writer", name := "putInt", desc := "(I)V" } : Jvm.MethodName) ({ cls := "NotationDesk$Writer", name := "putInt", desc := "(I)V" } : Jvm.MethodName)) ∈ lw_all := lw_g (lw_at lw_m5 107 rfl) rfl
theorem q1153 : (Jvm.Cond.code ({ cls := "NotationDesk$Writer", name := "putInt", desc := "(I)V" } : Jvm.MethodName) prog_16_method_8_code (4 : Nat) (Option.none : Option Jvm.ClassFile.FieldType)) ∈ lw_all := lw_g (lw_at lw_m5 108 rfl) rfl
theorem q1154 : (Jvm.Cond.methodLinkNest "NotationDesk$Writer" (33 : Nat) ({ cls := "NotationDesk", name := "bytesOf", desc := "(I)I" } : Jvm.MethodName) "NotationDesk") ∈ lw_tbl := lw_at lw_m5 109 rfl
theorem q1227 : (Jvm.Cond.instanceMethod ({ cls := "NotationDesk$Writer", name := "putNumber", desc := "(III)V" } : Jvm.MethodName)) ∈ lw_all := lw_g (lw_at lw_m5 182 rfl) rfl
theorem q1228 : (Jvm.Cond.selects "NotationDesk$Writer" ({ cls := "NotationDesk$Writer", name := "putNumber", desc := "(III)V" } : Jvm.MethodName) ({ cls := "NotationDesk$Writer", name := "putNumber", desc := "(III)V" } : Jvm.MethodName)) ∈ lw_all := lw_g (lw_at lw_m5 183 rfl) rfl
theorem q1229 : (Jvm.Cond.code ({ cls := "NotationDesk$Writer", name := "putNumber", desc := "(III)V" } : Jvm.MethodName) prog_16_method_9_code (5 : Nat) (Option.none : Option Jvm.ClassFile.FieldType)) ∈ lw_all := lw_g (lw_at lw_m5 184 rfl) rfl
theorem q1230 : (Jvm.Cond.methodLink "NotationDesk$Writer" (39 : Nat) ({ cls := "NotationDesk$Writer", name := "align", desc := "()V" } : Jvm.MethodName)) ∈ lw_all := lw_g (lw_at lw_m5 185 rfl) rfl
theorem q1231 : (Jvm.Cond.instanceMethod ({ cls := "NotationDesk$Writer", name := "align", desc := "()V" } : Jvm.MethodName)) ∈ lw_all := lw_g (lw_at lw_m5 186 rfl) rfl
theorem q1232 : (Jvm.Cond.selects "NotationDesk$Writer" ({ cls := "NotationDesk$Writer", name := "align", desc := "()V" } : Jvm.MethodName) ({ cls := "NotationDesk$Writer", name := "align", desc := "()V" } : Jvm.MethodName)) ∈ lw_all := lw_g (lw_at lw_m5 187 rfl) rfl
theorem q1233 : (Jvm.Cond.code ({ cls := "NotationDesk$Writer", name := "align", desc := "()V" } : Jvm.MethodName) prog_16_method_6_code (1 : Nat) (Option.none : Option Jvm.ClassFile.FieldType)) ∈ lw_all := lw_g (lw_at lw_m5 188 rfl) rfl
theorem q1234 : (Jvm.Cond.methodLink "NotationDesk$Writer" (25 : Nat) ({ cls := "NotationDesk$Writer", name := "size", desc := "()I" } : Jvm.MethodName)) ∈ lw_all := lw_g (lw_at lw_m5 189 rfl) rfl
theorem q1235 : (Jvm.Cond.instanceMethod ({ cls := "NotationDesk$Writer", name := "size", desc := "()I" } : Jvm.MethodName)) ∈ lw_all := lw_g (lw_at lw_m5 190 rfl) rfl
theorem q1236 : (Jvm.Cond.selects "NotationDesk$Writer" ({ cls := "NotationDesk$Writer", name := "size", desc := "()I" } : Jvm.MethodName) ({ cls := "NotationDesk$Writer", name := "size", desc := "()I" } : Jvm.MethodName)) ∈ lw_all := lw_g (lw_at lw_m5 191 rfl) rfl
theorem q1237 : (Jvm.Cond.code ({ cls := "NotationDesk$Writer", name := "size", desc := "()I" } : Jvm.MethodName) prog_16_method_3_code (1 : Nat) (Option.some Jvm.ClassFile.FieldType.int)) ∈ lw_all := lw_g (lw_at lw_m5 192 rfl) rfl
theorem q1238 : (Jvm.Cond.methodLinkNest "NotationDesk$Writer" (42 : Nat) ({ cls := "NotationDesk", name := "width", desc := "(I)I" } : Jvm.MethodName) "NotationDesk") ∈ lw_tbl := lw_at lw_m5 193 rfl
theorem q1815 : (Jvm.Cond.castable "NotationDesk$Writer" "java/lang/Object") ∈ lw_tbl := lw_at lw_m8 50 rfl
theorem in_X5 : ∀ w ∈ wsX50, w ∈ lw_all := lw_in wsX50 [276, 278, 280] (by decide +kernel) (by decide +kernel)
/-! NotationDesk$Type -/
set_option maxRecDepth 100000
def RX7 : String := "NotationDesk$Type"
abbrev cX7_init : ByteArray := prog_15_method_1_code
def yX7_init : MethodName := ⟨RX7, "<init>", "()V"⟩
theorem dX7_init_0 : decode cX7_init 0 = .ok (.aload_n 0, 1) := by decide +kernel
theorem dX7_init_1 : decode cX7_init 1 = .ok (.invokespecial 1, 3) := by decide +kernel
theorem dX7_init_4 : decode cX7_init 4 = .ok (.return_, 1) := by decide +kernel
abbrev cX7_holds : ByteArray := prog_15_method_9_code
def yX7_holds : MethodName := ⟨RX7, "holds", "(I)Z"⟩
theorem dX7_holds_0 : decode cX7_holds 0 = .ok (.iconst 0, 1) := by decide +kernel
theorem dX7_holds_1 : decode cX7_holds 1 = .ok (.ireturn, 1) := by decide +kernel
abbrev cX7_isChoice : ByteArray := prog_15_method_11_code
def yX7_isChoice : MethodName := ⟨RX7, "isChoice", "()Z"⟩
theorem dX7_isChoice_0 : decode cX7_isChoice 0 = .ok (.iconst 0, 1) := by decide +kernel
theorem dX7_isChoice_1 : decode cX7_isChoice 1 = .ok (.ireturn, 1) := by decide +kernel
abbrev cX7_given : ByteArray := prog_15_method_10_code
def yX7_given : MethodName := ⟨RX7, "given", "(LNotationDesk$Store;I)LNotationDesk$Part;"⟩
theorem dX7_given_0 : decode cX7_given 0 = .ok (.aconst_null, 1) := by decide +kernel
theorem dX7_given_1 : decode cX7_given 1 = .ok (.areturn, 1) := by decide +kernel
theorem q92 : (Jvm.Cond.initialized "NotationDesk$Type") ∈ lw_all := lw_g (lw_at lw_m1 7 rfl) rfl
theorem q387 : (Jvm.Cond.declares ({ cls := "NotationDesk$Type", name := "height", desc := "()I" } : Jvm.MethodName)) ∈ lw_tbl := lw_at lw_m2 62 rfl
theorem q388 : (Jvm.Cond.sameMethod "NotationDesk$Type" "NotationDesk$Type" "height" "()I") ∈ lw_all := lw_g (lw_at lw_m2 63 rfl) rfl
theorem q421 : (Jvm.Cond.instanceMethod ({ cls := "NotationDesk$Type", name := "<init>", desc := "()V" } : Jvm.MethodName)) ∈ lw_all := lw_g (lw_at lw_m2 96 rfl) rfl
theorem q422 : (Jvm.Cond.code ({ cls := "NotationDesk$Type", name := "<init>", desc := "()V" } : Jvm.MethodName) prog_15_method_1_code (1 : Nat) (Option.none : Option Jvm.ClassFile.FieldType)) ∈ lw_all := lw_g (lw_at lw_m2 97 rfl) rfl
theorem q423 : (Jvm.Cond.methodLink "NotationDesk$Type" (1 : Nat) ({ cls := "java/lang/Object", name := "<init>", desc := "()V" } : Jvm.MethodName)) ∈ lw_all := lw_g (lw_at lw_m2 98 rfl) rfl
theorem q505 : (Jvm.Cond.instanceMethod ({ cls := "NotationDesk$Type", name := "holds", desc := "(I)Z" } : Jvm.MethodName)) ∈ lw_all := lw_g (lw_at lw_m2 180 rfl) rfl
theorem q506 : (Jvm.Cond.sameMethod "NotationDesk$Type" "NotationDesk$Type" "holds" "(I)Z") ∈ lw_all := lw_g (lw_at lw_m2 181 rfl) rfl
theorem q525 : (Jvm.Cond.code ({ cls := "NotationDesk$Type", name := "holds", desc := "(I)Z" } : Jvm.MethodName) prog_15_method_9_code (2 : Nat) (Option.some Jvm.ClassFile.FieldType.boolean)) ∈ lw_all := lw_g (lw_at lw_m2 200 rfl) rfl
theorem q541 : (Jvm.Cond.declares ({ cls := "NotationDesk$Type", name := "tags", desc := "()I" } : Jvm.MethodName)) ∈ lw_tbl := lw_at lw_m2 216 rfl
theorem q542 : (Jvm.Cond.sameMethod "NotationDesk$Type" "NotationDesk$Type" "tags" "()I") ∈ lw_all := lw_g (lw_at lw_m2 217 rfl) rfl
theorem q661 : (Jvm.Cond.instanceMethod ({ cls := "NotationDesk$Type", name := "isChoice", desc := "()Z" } : Jvm.MethodName)) ∈ lw_all := lw_g (lw_at lw_m3 96 rfl) rfl
theorem q662 : (Jvm.Cond.sameMethod "NotationDesk$Type" "NotationDesk$Type" "isChoice" "()Z") ∈ lw_all := lw_g (lw_at lw_m3 97 rfl) rfl
theorem q671 : (Jvm.Cond.code ({ cls := "NotationDesk$Type", name := "isChoice", desc := "()Z" } : Jvm.MethodName) prog_15_method_11_code (1 : Nat) (Option.some Jvm.ClassFile.FieldType.boolean)) ∈ lw_all := lw_g (lw_at lw_m3 106 rfl) rfl
theorem q865 : (Jvm.Cond.declares ({ cls := "NotationDesk$Type", name := "unpack", desc := "(LNotationDesk$Source;)LNotationDesk$Part;" } : Jvm.MethodName)) ∈ lw_tbl := lw_at lw_m4 60 rfl
theorem q866 : (Jvm.Cond.sameMethod "NotationDesk$Type" "NotationDesk$Type" "unpack" "(LNotationDesk$Source;)LNotationDesk$Part;") ∈ lw_all := lw_g (lw_at lw_m4 61 rfl) rfl
theorem q1018 : (Jvm.Cond.instanceMethod ({ cls := "NotationDesk$Type", name := "given", desc := "(LNotationDesk$Store;I)LNotationDesk$Part;" } : Jvm.MethodName)) ∈ lw_all := lw_g (lw_at lw_m4 213 rfl) rfl
theorem q1019 : (Jvm.Cond.sameMethod "NotationDesk$Type" "NotationDesk$Type" "given" "(LNotationDesk$Store;I)LNotationDesk$Part;") ∈ lw_all := lw_g (lw_at lw_m4 214 rfl) rfl
theorem q1029 : (Jvm.Cond.code ({ cls := "NotationDesk$Type", name := "given", desc := "(LNotationDesk$Store;I)LNotationDesk$Part;" } : Jvm.MethodName) prog_15_method_10_code (3 : Nat) (Option.some (Jvm.ClassFile.FieldType.object "NotationDesk$Part"))) ∈ lw_all := lw_g (lw_at lw_m4 224 rfl) rfl
theorem q1041 : (Jvm.Cond.declares ({ cls := "NotationDesk$Type", name := "read", desc := "(LNotationDesk$Source;I)LNotationDesk$Part;" } : Jvm.MethodName)) ∈ lw_tbl := lw_at lw_m4 236 rfl
theorem q1042 : (Jvm.Cond.sameMethod "NotationDesk$Type" "NotationDesk$Type" "read" "(LNotationDesk$Source;I)LNotationDesk$Part;") ∈ lw_all := lw_g (lw_at lw_m4 237 rfl) rfl
theorem q1114 : (Jvm.Cond.declares ({ cls := "NotationDesk$Type", name := "write", desc := "(LNotationDesk$Part;LNotationDesk$Writer;I)V" } : Jvm.MethodName)) ∈ lw_tbl := lw_at lw_m5 69 rfl
theorem q1115 : (Jvm.Cond.sameMethod "NotationDesk$Type" "NotationDesk$Type" "write" "(LNotationDesk$Part;LNotationDesk$Writer;I)V") ∈ lw_all := lw_g (lw_at lw_m5 70 rfl) rfl
theorem q1174 : (Jvm.Cond.declares ({ cls := "NotationDesk$Type", name := "size", desc := "(LNotationDesk$Part;)I" } : Jvm.MethodName)) ∈ lw_tbl := lw_at lw_m5 129 rfl
theorem q1175 : (Jvm.Cond.sameMethod "NotationDesk$Type" "NotationDesk$Type" "size" "(LNotationDesk$Part;)I") ∈ lw_all := lw_g (lw_at lw_m5 130 rfl) rfl
theorem q1221 : (Jvm.Cond.declares ({ cls := "NotationDesk$Type", name := "pack", desc := "(LNotationDesk$Part;LNotationDesk$Writer;)V" } : Jvm.MethodName)) ∈ lw_tbl := lw_at lw_m5 176 rfl
theorem q1222 : (Jvm.Cond.sameMethod "NotationDesk$Type" "NotationDesk$Type" "pack" "(LNotationDesk$Part;LNotationDesk$Writer;)V") ∈ lw_all := lw_g (lw_at lw_m5 177 rfl) rfl
/-! NotationDesk$Simple -/
set_option maxRecDepth 100000
def RX8 : String := "NotationDesk$Simple"
abbrev cX8_height : ByteArray := prog_10_method_4_code
def yX8_height : MethodName := ⟨RX8, "height", "()I"⟩
theorem dX8_height_0 : decode cX8_height 0 = .ok (.iconst 0, 1) := by decide +kernel
theorem dX8_height_1 : decode cX8_height 1 = .ok (.ireturn, 1) := by decide +kernel
abbrev cX8_init : ByteArray := prog_10_method_1_code
def yX8_init : MethodName := ⟨RX8, "<init>", "()V"⟩
theorem dX8_init_0 : decode cX8_init 0 = .ok (.aload_n 0, 1) := by decide +kernel
theorem dX8_init_1 : decode cX8_init 1 = .ok (.invokespecial 3, 3) := by decide +kernel
theorem dX8_init_4 : decode cX8_init 4 = .ok (.return_, 1) := by decide +kernel
abbrev cX8_marked : ByteArray := prog_10_method_2_code
def yX8_marked : MethodName := ⟨RX8, "marked", "(I)V"⟩
def dkwX8_marked_0 : List UInt8 := [42, 27, 181, 0, 9, 177]
abbrev dktX8_marked_0 : List UInt8 := dkwX8_marked_0 ++ []
theorem dksX8_marked_0 : cX8_marked.data.toList.drop 0 = dktX8_marked_0 := by decide +kernel
theorem dX8_marked_0 : decode cX8_marked 0 = .ok (.aload_n 0, 1) := dk_42 (dk_at dksX8_marked_0 0 rfl rfl)
theorem dX8_marked_1 : decode cX8_marked 1 = .ok (.iload_n 1, 1) := dk_27 (dk_at dksX8_marked_0 1 rfl rfl)
theorem dX8_marked_2 : decode cX8_marked 2 = .ok (.putfield 9, 3) := dk_181 0 9 (dk_at dksX8_marked_0 2 rfl rfl)
theorem dX8_marked_5 : decode cX8_marked 5 = .ok (.return_, 1) := dk_177 (dk_at dksX8_marked_0 5 rfl rfl)
abbrev cX8_tags : ByteArray := prog_10_method_3_code
def yX8_tags : MethodName := ⟨RX8, "tags", "()I"⟩
def dkwX8_tags_0 : List UInt8 := [4, 42, 180, 0, 9, 120, 172]
abbrev dktX8_tags_0 : List UInt8 := dkwX8_tags_0 ++ []
theorem dksX8_tags_0 : cX8_tags.data.toList.drop 0 = dktX8_tags_0 := by decide +kernel
theorem dX8_tags_0 : decode cX8_tags 0 = .ok (.iconst 1, 1) := dk_4 (dk_at dksX8_tags_0 0 rfl rfl)
theorem dX8_tags_1 : decode cX8_tags 1 = .ok (.aload_n 0, 1) := dk_42 (dk_at dksX8_tags_0 1 rfl rfl)
theorem dX8_tags_2 : decode cX8_tags 2 = .ok (.getfield 9, 3) := dk_180 0 9 (dk_at dksX8_tags_0 2 rfl rfl)
theorem dX8_tags_5 : decode cX8_tags 5 = .ok (.ishl, 1) := dk_120 (dk_at dksX8_tags_0 5 rfl rfl)
theorem dX8_tags_6 : decode cX8_tags 6 = .ok (.ireturn, 1) := dk_172 (dk_at dksX8_tags_0 6 rfl rfl)
abbrev cX8_read : ByteArray := prog_10_method_8_code
def yX8_read : MethodName := ⟨RX8, "read", "(LNotationDesk$Source;I)LNotationDesk$Part;"⟩
def dkwX8_read_1 : List UInt8 := [1, 176, 43, 3, 182, 0, 21, 62, 29, 2, 160, 0, 7, 1, 167, 0, 9, 42, 43, 29, 182, 0, 25, 176]
abbrev dktX8_read_1 : List UInt8 := dkwX8_read_1 ++ []
def dkwX8_read_0 : List UInt8 := [43, 182, 0, 15, 28, 2, 160, 0, 10, 42, 180, 0, 9, 167, 0, 8, 17, 0, 128, 28, 96, 159, 0, 5]
abbrev dktX8_read_0 : List UInt8 := dkwX8_read_0 ++ dktX8_read_1
theorem dksX8_read_0 : cX8_read.data.toList.drop 0 = dktX8_read_0 := by decide +kernel
theorem dksX8_read_1 : cX8_read.data.toList.drop 24 = dktX8_read_1 := dk_seg dksX8_read_0 24 rfl rfl
theorem dX8_read_0 : decode cX8_read 0 = .ok (.aload_n 1, 1) := dk_43 (dk_at dksX8_read_0 0 rfl rfl)
theorem dX8_read_1 : decode cX8_read 1 = .ok (.invokevirtual 15, 3) := dk_182 0 15 (dk_at dksX8_read_0 1 rfl rfl)
theorem dX8_read_4 : decode cX8_read 4 = .ok (.iload_n 2, 1) := dk_28 (dk_at dksX8_read_0 4 rfl rfl)
theorem dX8_read_5 : decode cX8_read 5 = .ok (.iconst (-1), 1) := dk_2 (dk_at dksX8_read_0 5 rfl rfl)
theorem dX8_read_6 : decode cX8_read 6 = .ok (.if_icmp .ne 10, 3) := dk_160 0 10 (dk_at dksX8_read_0 6 rfl rfl)
theorem dX8_read_9 : decode cX8_read 9 = .ok (.aload_n 0, 1) := dk_42 (dk_at dksX8_read_0 9 rfl rfl)
theorem dX8_read_10 : decode cX8_read 10 = .ok (.getfield 9, 3) := dk_180 0 9 (dk_at dksX8_read_0 10 rfl rfl)
theorem dX8_read_13 : decode cX8_read 13 = .ok (.goto 8, 3) := dk_167 0 8 (dk_at dksX8_read_0 13 rfl rfl)
theorem dX8_read_16 : decode cX8_read 16 = .ok (.sipush 128, 3) := dk_17 0 128 (dk_at dksX8_read_0 16 rfl rfl)
theorem dX8_read_19 : decode cX8_read 19 = .ok (.iload_n 2, 1) := dk_28 (dk_at dksX8_read_0 19 rfl rfl)
theorem dX8_read_20 : decode cX8_read 20 = .ok (.iadd, 1) := dk_96 (dk_at dksX8_read_0 20 rfl rfl)
theorem dX8_read_21 : decode cX8_read 21 = .ok (.if_icmp .eq 5, 3) := dk_159 0 5 (dk_at dksX8_read_0 21 rfl rfl)
theorem dX8_read_24 : decode cX8_read 24 = .ok (.aconst_null, 1) := dk_1 (dk_at dksX8_read_1 0 rfl rfl)
theorem dX8_read_25 : decode cX8_read 25 = .ok (.areturn, 1) := dk_176 (dk_at dksX8_read_1 1 rfl rfl)
theorem dX8_read_26 : decode cX8_read 26 = .ok (.aload_n 1, 1) := dk_43 (dk_at dksX8_read_1 2 rfl rfl)
theorem dX8_read_27 : decode cX8_read 27 = .ok (.iconst 0, 1) := dk_3 (dk_at dksX8_read_1 3 rfl rfl)
theorem dX8_read_28 : decode cX8_read 28 = .ok (.invokevirtual 21, 3) := dk_182 0 21 (dk_at dksX8_read_1 4 rfl rfl)
theorem dX8_read_31 : decode cX8_read 31 = .ok (.istore_n 3, 1) := dk_62 (dk_at dksX8_read_1 7 rfl rfl)
theorem dX8_read_32 : decode cX8_read 32 = .ok (.iload_n 3, 1) := dk_29 (dk_at dksX8_read_1 8 rfl rfl)
theorem dX8_read_33 : decode cX8_read 33 = .ok (.iconst (-1), 1) := dk_2 (dk_at dksX8_read_1 9 rfl rfl)
theorem dX8_read_34 : decode cX8_read 34 = .ok (.if_icmp .ne 7, 3) := dk_160 0 7 (dk_at dksX8_read_1 10 rfl rfl)
theorem dX8_read_37 : decode cX8_read 37 = .ok (.aconst_null, 1) := dk_1 (dk_at dksX8_read_1 13 rfl rfl)
theorem dX8_read_38 : decode cX8_read 38 = .ok (.goto 9, 3) := dk_167 0 9 (dk_at dksX8_read_1 14 rfl rfl)
theorem dX8_read_41 : decode cX8_read 41 = .ok (.aload_n 0, 1) := dk_42 (dk_at dksX8_read_1 17 rfl rfl)
theorem dX8_read_42 : decode cX8_read 42 = .ok (.aload_n 1, 1) := dk_43 (dk_at dksX8_read_1 18 rfl rfl)
theorem dX8_read_43 : decode cX8_read 43 = .ok (.iload_n 3, 1) := dk_29 (dk_at dksX8_read_1 19 rfl rfl)
theorem dX8_read_44 : decode cX8_read 44 = .ok (.invokevirtual 25, 3) := dk_182 0 25 (dk_at dksX8_read_1 20 rfl rfl)
theorem dX8_read_47 : decode cX8_read 47 = .ok (.areturn, 1) := dk_176 (dk_at dksX8_read_1 23 rfl rfl)
abbrev cX8_write : ByteArray := prog_10_method_10_code
def yX8_write : MethodName := ⟨RX8, "write", "(LNotationDesk$Part;LNotationDesk$Writer;I)V"⟩
def dkwX8_write_1 : List UInt8 := [182, 0, 37, 42, 43, 44, 182, 0, 43, 177]
abbrev dktX8_write_1 : List UInt8 := dkwX8_write_1 ++ []
def dkwX8_write_0 : List UInt8 := [44, 29, 2, 160, 0, 10, 42, 180, 0, 9, 167, 0, 8, 17, 0, 128, 29, 96, 42, 43, 182, 0, 29]
abbrev dktX8_write_0 : List UInt8 := dkwX8_write_0 ++ dktX8_write_1
theorem dksX8_write_0 : cX8_write.data.toList.drop 0 = dktX8_write_0 := by decide +kernel
theorem dksX8_write_1 : cX8_write.data.toList.drop 23 = dktX8_write_1 := dk_seg dksX8_write_0 23 rfl rfl
theorem dX8_write_0 : decode cX8_write 0 = .ok (.aload_n 2, 1) := dk_44 (dk_at dksX8_write_0 0 rfl rfl)
theorem dX8_write_1 : decode cX8_write 1 = .ok (.iload_n 3, 1) := dk_29 (dk_at dksX8_write_0 1 rfl rfl)
theorem dX8_write_2 : decode cX8_write 2 = .ok (.iconst (-1), 1) := dk_2 (dk_at dksX8_write_0 2 rfl rfl)
theorem dX8_write_3 : decode cX8_write 3 = .ok (.if_icmp .ne 10, 3) := dk_160 0 10 (dk_at dksX8_write_0 3 rfl rfl)
theorem dX8_write_6 : decode cX8_write 6 = .ok (.aload_n 0, 1) := dk_42 (dk_at dksX8_write_0 6 rfl rfl)
theorem dX8_write_7 : decode cX8_write 7 = .ok (.getfield 9, 3) := dk_180 0 9 (dk_at dksX8_write_0 7 rfl rfl)
theorem dX8_write_10 : decode cX8_write 10 = .ok (.goto 8, 3) := dk_167 0 8 (dk_at dksX8_write_0 10 rfl rfl)
theorem dX8_write_13 : decode cX8_write 13 = .ok (.sipush 128, 3) := dk_17 0 128 (dk_at dksX8_write_0 13 rfl rfl)
theorem dX8_write_16 : decode cX8_write 16 = .ok (.iload_n 3, 1) := dk_29 (dk_at dksX8_write_0 16 rfl rfl)
theorem dX8_write_17 : decode cX8_write 17 = .ok (.iadd, 1) := dk_96 (dk_at dksX8_write_0 17 rfl rfl)
theorem dX8_write_18 : decode cX8_write 18 = .ok (.aload_n 0, 1) := dk_42 (dk_at dksX8_write_0 18 rfl rfl)
theorem dX8_write_19 : decode cX8_write 19 = .ok (.aload_n 1, 1) := dk_43 (dk_at dksX8_write_0 19 rfl rfl)
theorem dX8_write_20 : decode cX8_write 20 = .ok (.invokevirtual 29, 3) := dk_182 0 29 (dk_at dksX8_write_0 20 rfl rfl)
theorem dX8_write_23 : decode cX8_write 23 = .ok (.invokevirtual 37, 3) := dk_182 0 37 (dk_at dksX8_write_1 0 rfl rfl)
theorem dX8_write_26 : decode cX8_write 26 = .ok (.aload_n 0, 1) := dk_42 (dk_at dksX8_write_1 3 rfl rfl)
theorem dX8_write_27 : decode cX8_write 27 = .ok (.aload_n 1, 1) := dk_43 (dk_at dksX8_write_1 4 rfl rfl)
theorem dX8_write_28 : decode cX8_write 28 = .ok (.aload_n 2, 1) := dk_44 (dk_at dksX8_write_1 5 rfl rfl)
theorem dX8_write_29 : decode cX8_write 29 = .ok (.invokevirtual 43, 3) := dk_182 0 43 (dk_at dksX8_write_1 6 rfl rfl)
theorem dX8_write_32 : decode cX8_write 32 = .ok (.return_, 1) := dk_177 (dk_at dksX8_write_1 9 rfl rfl)
abbrev cX8_size : ByteArray := prog_10_method_9_code
def yX8_size : MethodName := ⟨RX8, "size", "(LNotationDesk$Part;)I"⟩
def dkwX8_size_0 : List UInt8 := [42, 43, 182, 0, 29, 184, 0, 33, 172]
abbrev dktX8_size_0 : List UInt8 := dkwX8_size_0 ++ []
theorem dksX8_size_0 : cX8_size.data.toList.drop 0 = dktX8_size_0 := by decide +kernel
theorem dX8_size_0 : decode cX8_size 0 = .ok (.aload_n 0, 1) := dk_42 (dk_at dksX8_size_0 0 rfl rfl)
theorem dX8_size_1 : decode cX8_size 1 = .ok (.aload_n 1, 1) := dk_43 (dk_at dksX8_size_0 1 rfl rfl)
theorem dX8_size_2 : decode cX8_size 2 = .ok (.invokevirtual 29, 3) := dk_182 0 29 (dk_at dksX8_size_0 2 rfl rfl)
theorem dX8_size_5 : decode cX8_size 5 = .ok (.invokestatic 33, 3) := dk_184 0 33 (dk_at dksX8_size_0 5 rfl rfl)
theorem dX8_size_8 : decode cX8_size 8 = .ok (.ireturn, 1) := dk_172 (dk_at dksX8_size_0 8 rfl rfl)
theorem q93 : (Jvm.Cond.initialized "NotationDesk$Simple") ∈ lw_all := lw_g (lw_at lw_m1 8 rfl) rfl
theorem q393 : (Jvm.Cond.instanceMethod ({ cls := "NotationDesk$Simple", name := "height", desc := "()I" } : Jvm.MethodName)) ∈ lw_all := lw_g (lw_at lw_m2 68 rfl) rfl
theorem q394 : (Jvm.Cond.code ({ cls := "NotationDesk$Simple", name := "height", desc := "()I" } : Jvm.MethodName) prog_10_method_4_code (1 : Nat) (Option.some Jvm.ClassFile.FieldType.int)) ∈ lw_all := lw_g (lw_at lw_m2 69 rfl) rfl
theorem q418 : (Jvm.Cond.instanceMethod ({ cls := "NotationDesk$Simple", name := "<init>", desc := "()V" } : Jvm.MethodName)) ∈ lw_all := lw_g (lw_at lw_m2 93 rfl) rfl
theorem q419 : (Jvm.Cond.code ({ cls := "NotationDesk$Simple", name := "<init>", desc := "()V" } : Jvm.MethodName) prog_10_method_1_code (1 : Nat) (Option.none : Option Jvm.ClassFile.FieldType)) ∈ lw_all := lw_g (lw_at lw_m2 94 rfl) rfl
theorem q420 : (Jvm.Cond.methodLinkNest "NotationDesk$Simple" (3 : Nat) ({ cls := "NotationDesk$Type", name := "<init>", desc := "()V" } : Jvm.MethodName) "NotationDesk") ∈ lw_tbl := lw_at lw_m2 95 rfl
theorem q428 : (Jvm.Cond.fieldLink "NotationDesk$Simple" (9 : Nat) "NotationDesk$Simple" "tag" "I") ∈ lw_all := lw_g (lw_at lw_m2 103 rfl) rfl
theorem q438 : (Jvm.Cond.soleField "NotationDesk$Simple" "tag") ∈ lw_all := lw_g (lw_at lw_m2 113 rfl) rfl
theorem q446 : (Jvm.Cond.declares ({ cls := "NotationDesk$Simple", name := "marked", desc := "(I)V" } : Jvm.MethodName)) ∈ lw_tbl := lw_at lw_m2 121 rfl
theorem q448 : (Jvm.Cond.instanceMethod ({ cls := "NotationDesk$Simple", name := "marked", desc := "(I)V" } : Jvm.MethodName)) ∈ lw_all := lw_g (lw_at lw_m2 123 rfl) rfl
theorem q449 : (Jvm.Cond.code ({ cls := "NotationDesk$Simple", name := "marked", desc := "(I)V" } : Jvm.MethodName) prog_10_method_2_code (2 : Nat) (Option.none : Option Jvm.ClassFile.FieldType)) ∈ lw_all := lw_g (lw_at lw_m2 124 rfl) rfl
theorem q547 : (Jvm.Cond.instanceMethod ({ cls := "NotationDesk$Simple", name := "tags", desc := "()I" } : Jvm.MethodName)) ∈ lw_all := lw_g (lw_at lw_m2 222 rfl) rfl
theorem q548 : (Jvm.Cond.code ({ cls := "NotationDesk$Simple", name := "tags", desc := "()I" } : Jvm.MethodName) prog_10_method_3_code (1 : Nat) (Option.some Jvm.ClassFile.FieldType.int)) ∈ lw_all := lw_g (lw_at lw_m2 223 rfl) rfl
theorem q1051 : (Jvm.Cond.instanceMethod ({ cls := "NotationDesk$Simple", name := "read", desc := "(LNotationDesk$Source;I)LNotationDesk$Part;" } : Jvm.MethodName)) ∈ lw_all := lw_g (lw_at lw_m5 6 rfl) rfl
theorem q1052 : (Jvm.Cond.code ({ cls := "NotationDesk$Simple", name := "read", desc := "(LNotationDesk$Source;I)LNotationDesk$Part;" } : Jvm.MethodName) prog_10_method_8_code (4 : Nat) (Option.some (Jvm.ClassFile.FieldType.object "NotationDesk$Part"))) ∈ lw_all := lw_g (lw_at lw_m5 7 rfl) rfl
theorem q1053 : (Jvm.Cond.methodLink "NotationDesk$Simple" (15 : Nat) ({ cls := "NotationDesk$Source", name := "next", desc := "()I" } : Jvm.MethodName)) ∈ lw_all := lw_g (lw_at lw_m5 8 rfl) rfl
theorem q1057 : (Jvm.Cond.methodLink "NotationDesk$Simple" (21 : Nat) ({ cls := "NotationDesk$Source", name := "length", desc := "(Z)I" } : Jvm.MethodName)) ∈ lw_all := lw_g (lw_at lw_m5 12 rfl) rfl
theorem q1062 : (Jvm.Cond.methodLink "NotationDesk$Simple" (25 : Nat) ({ cls := "NotationDesk$Simple", name := "readContent", desc := "(LNotationDesk$Source;I)LNotationDesk$Part;" } : Jvm.MethodName)) ∈ lw_all := lw_g (lw_at lw_m5 17 rfl) rfl
theorem q1063 : (Jvm.Cond.declares ({ cls := "NotationDesk$Simple", name := "readContent", desc := "(LNotationDesk$Source;I)LNotationDesk$Part;" } : Jvm.MethodName)) ∈ lw_tbl := lw_at lw_m5 18 rfl
theorem q1064 : (Jvm.Cond.sameMethod "NotationDesk$Simple" "NotationDesk$Simple" "readContent" "(LNotationDesk$Source;I)LNotationDesk$Part;") ∈ lw_all := lw_g (lw_at lw_m5 19 rfl) rfl
theorem q1120 : (Jvm.Cond.instanceMethod ({ cls := "NotationDesk$Simple", name := "write", desc := "(LNotationDesk$Part;LNotationDesk$Writer;I)V" } : Jvm.MethodName)) ∈ lw_all := lw_g (lw_at lw_m5 75 rfl) rfl
theorem q1121 : (Jvm.Cond.code ({ cls := "NotationDesk$Simple", name := "write", desc := "(LNotationDesk$Part;LNotationDesk$Writer;I)V" } : Jvm.MethodName) prog_10_method_10_code (4 : Nat) (Option.none : Option Jvm.ClassFile.FieldType)) ∈ lw_all := lw_g (lw_at lw_m5 76 rfl) rfl
theorem q1122 : (Jvm.Cond.methodLink "NotationDesk$Simple" (29 : Nat) ({ cls := "NotationDesk$Simple", name := "content", desc := "(LNotationDesk$Part;)I" } : Jvm.MethodName)) ∈ lw_all := lw_g (lw_at lw_m5 77 rfl) rfl
theorem q1123 : (Jvm.Cond.declares ({ cls := "NotationDesk$Simple", name := "content", desc := "(LNotationDesk$Part;)I" } : Jvm.MethodName)) ∈ lw_tbl := lw_at lw_m5 78 rfl
theorem q1124 : (Jvm.Cond.sameMethod "NotationDesk$Simple" "NotationDesk$Simple" "content" "(LNotationDesk$Part;)I") ∈ lw_all := lw_g (lw_at lw_m5 79 rfl) rfl
theorem q1131 : (Jvm.Cond.methodLink "NotationDesk$Simple" (37 : Nat) ({ cls := "NotationDesk$Writer", name := "header", desc := "(II)V" } : Jvm.MethodName)) ∈ lw_all := lw_g (lw_at lw_m5 86 rfl) rfl
theorem q1143 : (Jvm.Cond.methodLink "NotationDesk$Simple" (43 : Nat) ({ cls := "NotationDesk$Simple", name := "writeContent", desc := "(LNotationDesk$Part;LNotationDesk$Writer;)V" } : Jvm.MethodName)) ∈ lw_all := lw_g (lw_at lw_m5 98 rfl) rfl
theorem q1144 : (Jvm.Cond.declares ({ cls := "NotationDesk$Simple", name := "writeContent", desc := "(LNotationDesk$Part;LNotationDesk$Writer;)V" } : Jvm.MethodName)) ∈ lw_tbl := lw_at lw_m5 99 rfl
theorem q1145 : (Jvm.Cond.sameMethod "NotationDesk$Simple" "NotationDesk$Simple" "writeContent" "(LNotationDesk$Part;LNotationDesk$Writer;)V") ∈ lw_all := lw_g (lw_at lw_m5 100 rfl) rfl
theorem q1180 : (Jvm.Cond.instanceMethod ({ cls := "NotationDesk$Simple", name := "size", desc := "(LNotationDesk$Part;)I" } : Jvm.MethodName)) ∈ lw_all := lw_g (lw_at lw_m5 135 rfl) rfl
theorem q1181 : (Jvm.Cond.code ({ cls := "NotationDesk$Simple", name := "size", desc := "(LNotationDesk$Part;)I" } : Jvm.MethodName) prog_10_method_9_code (2 : Nat) (Option.some Jvm.ClassFile.FieldType.int)) ∈ lw_all := lw_g (lw_at lw_m5 136 rfl) rfl
theorem q1182 : (Jvm.Cond.methodLinkNest "NotationDesk$Simple" (33 : Nat) ({ cls := "NotationDesk", name := "headed", desc := "(I)I" } : Jvm.MethodName) "NotationDesk") ∈ lw_tbl := lw_at lw_m5 137 rfl
/-! NotationDesk$Numeric -/
set_option maxRecDepth 100000
def RX9 : String := "NotationDesk$Numeric"
def TX9 : u_T := fun k => match k with
  | 0 => ("NotationDesk$Simple", "tag", "I", false)
  | 1 => ("NotationDesk$Numeric", "kind", "I", false)
  | 2 => ("NotationDesk$Numeric", "isBound", "Z", false)
  | 3 => ("NotationDesk$Numeric", "low", "I", false)
  | _ => ("NotationDesk$Numeric", "high", "I", false)
def tyX9 : Nat → FieldType := fun k => match k with
  | 0 => .int
  | 1 => .int
  | 2 => .boolean
  | 3 => .int
  | _ => .int
abbrev wsX90 : List Cond := u_ws RX9 TX9 5
theorem nmX9 : ∀ a, a < 5 → ∀ b, b < 5 → a ≠ b → (TX9 a).2.1 ≠ (TX9 b).2.1 := by decide +kernel
theorem tyX9_ok : ∀ k, k < 5 → parseFieldDescriptor (TX9 k).2.2.1 = some (tyX9 k) := by decide +kernel
abbrev cX9_init : ByteArray := prog_5_method_1_code
def yX9_init : MethodName := ⟨RX9, "<init>", "()V"⟩
theorem dX9_init_0 : decode cX9_init 0 = .ok (.aload_n 0, 1) := by decide +kernel
theorem dX9_init_1 : decode cX9_init 1 = .ok (.invokespecial 3, 3) := by decide +kernel
theorem dX9_init_4 : decode cX9_init 4 = .ok (.return_, 1) := by decide +kernel
abbrev cX9_become : ByteArray := prog_5_method_2_code
def yX9_become : MethodName := ⟨RX9, "become", "(IIZII)LNotationDesk$Numeric;"⟩
def dkwX9_become_1 : List UInt8 := [181, 0, 26, 42, 176]
abbrev dktX9_become_1 : List UInt8 := dkwX9_become_1 ++ []
def dkwX9_become_0 : List UInt8 := [42, 27, 181, 0, 9, 42, 28, 182, 0, 15, 42, 29, 181, 0, 19, 42, 21, 4, 181, 0, 23, 42, 21, 5]
abbrev dktX9_become_0 : List UInt8 := dkwX9_become_0 ++ dktX9_become_1
theorem dksX9_become_0 : cX9_become.data.toList.drop 0 = dktX9_become_0 := by decide +kernel
theorem dksX9_become_1 : cX9_become.data.toList.drop 24 = dktX9_become_1 := dk_seg dksX9_become_0 24 rfl rfl
theorem dX9_become_0 : decode cX9_become 0 = .ok (.aload_n 0, 1) := dk_42 (dk_at dksX9_become_0 0 rfl rfl)
theorem dX9_become_1 : decode cX9_become 1 = .ok (.iload_n 1, 1) := dk_27 (dk_at dksX9_become_0 1 rfl rfl)
theorem dX9_become_2 : decode cX9_become 2 = .ok (.putfield 9, 3) := dk_181 0 9 (dk_at dksX9_become_0 2 rfl rfl)
theorem dX9_become_5 : decode cX9_become 5 = .ok (.aload_n 0, 1) := dk_42 (dk_at dksX9_become_0 5 rfl rfl)
theorem dX9_become_6 : decode cX9_become 6 = .ok (.iload_n 2, 1) := dk_28 (dk_at dksX9_become_0 6 rfl rfl)
theorem dX9_become_7 : decode cX9_become 7 = .ok (.invokevirtual 15, 3) := dk_182 0 15 (dk_at dksX9_become_0 7 rfl rfl)
theorem dX9_become_10 : decode cX9_become 10 = .ok (.aload_n 0, 1) := dk_42 (dk_at dksX9_become_0 10 rfl rfl)
theorem dX9_become_11 : decode cX9_become 11 = .ok (.iload_n 3, 1) := dk_29 (dk_at dksX9_become_0 11 rfl rfl)
theorem dX9_become_12 : decode cX9_become 12 = .ok (.putfield 19, 3) := dk_181 0 19 (dk_at dksX9_become_0 12 rfl rfl)
theorem dX9_become_15 : decode cX9_become 15 = .ok (.aload_n 0, 1) := dk_42 (dk_at dksX9_become_0 15 rfl rfl)
theorem dX9_become_16 : decode cX9_become 16 = .ok (.iload 4, 2) := dk_21 4 (dk_at dksX9_become_0 16 rfl rfl)
theorem dX9_become_18 : decode cX9_become 18 = .ok (.putfield 23, 3) := dk_181 0 23 (dk_at dksX9_become_0 18 rfl rfl)
theorem dX9_become_21 : decode cX9_become 21 = .ok (.aload_n 0, 1) := dk_42 (dk_at dksX9_become_0 21 rfl rfl)
theorem dX9_become_22 : decode cX9_become 22 = .ok (.iload 5, 2) := dk_21 5 (dk_at dksX9_become_0 22 rfl rfl)
theorem dX9_become_24 : decode cX9_become 24 = .ok (.putfield 26, 3) := dk_181 0 26 (dk_at dksX9_become_1 0 rfl rfl)
theorem dX9_become_27 : decode cX9_become 27 = .ok (.aload_n 0, 1) := dk_42 (dk_at dksX9_become_1 3 rfl rfl)
theorem dX9_become_28 : decode cX9_become 28 = .ok (.areturn, 1) := dk_176 (dk_at dksX9_become_1 4 rfl rfl)
abbrev cX9_holds : ByteArray := prog_5_method_3_code
def yX9_holds : MethodName := ⟨RX9, "holds", "(I)Z"⟩
def dkwX9_holds_0 : List UInt8 := [42, 180, 0, 9, 8, 159, 0, 15, 42, 27, 182, 0, 29, 153, 0, 7, 4, 167, 0, 4, 3, 172]
abbrev dktX9_holds_0 : List UInt8 := dkwX9_holds_0 ++ []
theorem dksX9_holds_0 : cX9_holds.data.toList.drop 0 = dktX9_holds_0 := by decide +kernel
theorem dX9_holds_0 : decode cX9_holds 0 = .ok (.aload_n 0, 1) := dk_42 (dk_at dksX9_holds_0 0 rfl rfl)
theorem dX9_holds_1 : decode cX9_holds 1 = .ok (.getfield 9, 3) := dk_180 0 9 (dk_at dksX9_holds_0 1 rfl rfl)
theorem dX9_holds_4 : decode cX9_holds 4 = .ok (.iconst 5, 1) := dk_8 (dk_at dksX9_holds_0 4 rfl rfl)
theorem dX9_holds_5 : decode cX9_holds 5 = .ok (.if_icmp .eq 15, 3) := dk_159 0 15 (dk_at dksX9_holds_0 5 rfl rfl)
theorem dX9_holds_8 : decode cX9_holds 8 = .ok (.aload_n 0, 1) := dk_42 (dk_at dksX9_holds_0 8 rfl rfl)
theorem dX9_holds_9 : decode cX9_holds 9 = .ok (.iload_n 1, 1) := dk_27 (dk_at dksX9_holds_0 9 rfl rfl)
theorem dX9_holds_10 : decode cX9_holds 10 = .ok (.invokevirtual 29, 3) := dk_182 0 29 (dk_at dksX9_holds_0 10 rfl rfl)
theorem dX9_holds_13 : decode cX9_holds 13 = .ok (.ifCond .eq 7, 3) := dk_153 0 7 (dk_at dksX9_holds_0 13 rfl rfl)
theorem dX9_holds_16 : decode cX9_holds 16 = .ok (.iconst 1, 1) := dk_4 (dk_at dksX9_holds_0 16 rfl rfl)
theorem dX9_holds_17 : decode cX9_holds 17 = .ok (.goto 4, 3) := dk_167 0 4 (dk_at dksX9_holds_0 17 rfl rfl)
theorem dX9_holds_20 : decode cX9_holds 20 = .ok (.iconst 0, 1) := dk_3 (dk_at dksX9_holds_0 20 rfl rfl)
theorem dX9_holds_21 : decode cX9_holds 21 = .ok (.ireturn, 1) := dk_172 (dk_at dksX9_holds_0 21 rfl rfl)
abbrev cX9_isRight : ByteArray := prog_5_method_4_code
def yX9_isRight : MethodName := ⟨RX9, "isRight", "(I)Z"⟩
def dkwX9_isRight_1 : List UInt8 := [167, 0, 4, 3, 172]
abbrev dktX9_isRight_1 : List UInt8 := dkwX9_isRight_1 ++ []
def dkwX9_isRight_0 : List UInt8 := [42, 180, 0, 19, 153, 0, 18, 27, 42, 180, 0, 23, 42, 180, 0, 26, 184, 0, 33, 154, 0, 7, 4]
abbrev dktX9_isRight_0 : List UInt8 := dkwX9_isRight_0 ++ dktX9_isRight_1
theorem dksX9_isRight_0 : cX9_isRight.data.toList.drop 0 = dktX9_isRight_0 := by decide +kernel
theorem dksX9_isRight_1 : cX9_isRight.data.toList.drop 23 = dktX9_isRight_1 := dk_seg dksX9_isRight_0 23 rfl rfl
theorem dX9_isRight_0 : decode cX9_isRight 0 = .ok (.aload_n 0, 1) := dk_42 (dk_at dksX9_isRight_0 0 rfl rfl)
theorem dX9_isRight_1 : decode cX9_isRight 1 = .ok (.getfield 19, 3) := dk_180 0 19 (dk_at dksX9_isRight_0 1 rfl rfl)
theorem dX9_isRight_4 : decode cX9_isRight 4 = .ok (.ifCond .eq 18, 3) := dk_153 0 18 (dk_at dksX9_isRight_0 4 rfl rfl)
theorem dX9_isRight_7 : decode cX9_isRight 7 = .ok (.iload_n 1, 1) := dk_27 (dk_at dksX9_isRight_0 7 rfl rfl)
theorem dX9_isRight_8 : decode cX9_isRight 8 = .ok (.aload_n 0, 1) := dk_42 (dk_at dksX9_isRight_0 8 rfl rfl)
theorem dX9_isRight_9 : decode cX9_isRight 9 = .ok (.getfield 23, 3) := dk_180 0 23 (dk_at dksX9_isRight_0 9 rfl rfl)
theorem dX9_isRight_12 : decode cX9_isRight 12 = .ok (.aload_n 0, 1) := dk_42 (dk_at dksX9_isRight_0 12 rfl rfl)
theorem dX9_isRight_13 : decode cX9_isRight 13 = .ok (.getfield 26, 3) := dk_180 0 26 (dk_at dksX9_isRight_0 13 rfl rfl)
theorem dX9_isRight_16 : decode cX9_isRight 16 = .ok (.invokestatic 33, 3) := dk_184 0 33 (dk_at dksX9_isRight_0 16 rfl rfl)
theorem dX9_isRight_19 : decode cX9_isRight 19 = .ok (.ifCond .ne 7, 3) := dk_154 0 7 (dk_at dksX9_isRight_0 19 rfl rfl)
theorem dX9_isRight_22 : decode cX9_isRight 22 = .ok (.iconst 1, 1) := dk_4 (dk_at dksX9_isRight_0 22 rfl rfl)
theorem dX9_isRight_23 : decode cX9_isRight 23 = .ok (.goto 4, 3) := dk_167 0 4 (dk_at dksX9_isRight_1 0 rfl rfl)
theorem dX9_isRight_26 : decode cX9_isRight 26 = .ok (.iconst 0, 1) := dk_3 (dk_at dksX9_isRight_1 3 rfl rfl)
theorem dX9_isRight_27 : decode cX9_isRight 27 = .ok (.ireturn, 1) := dk_172 (dk_at dksX9_isRight_1 4 rfl rfl)
abbrev cX9_unpack : ByteArray := prog_5_method_9_code
def yX9_unpack : MethodName := ⟨RX9, "unpack", "(LNotationDesk$Source;)LNotationDesk$Part;"⟩
def dkwX9_unpack_5 : List UInt8 := [43, 180, 0, 43, 29, 182, 0, 49, 167, 0, 4, 1, 176]
abbrev dktX9_unpack_5 : List UInt8 := dkwX9_unpack_5 ++ []
def dkwX9_unpack_4 : List UInt8 := [128, 62, 132, 4, 1, 167, 255, 235, 43, 182, 0, 78, 153, 0, 23, 29, 184, 0, 57, 28, 160, 0, 15, 42]
abbrev dktX9_unpack_4 : List UInt8 := dkwX9_unpack_4 ++ dktX9_unpack_5
def dkwX9_unpack_3 : List UInt8 := [182, 0, 82, 145, 62, 4, 54, 4, 21, 4, 28, 162, 0, 21, 29, 16, 8, 120, 43, 16, 8, 182, 0, 82]
abbrev dktX9_unpack_3 : List UInt8 := dkwX9_unpack_3 ++ dktX9_unpack_4
def dkwX9_unpack_2 : List UInt8 := [176, 43, 3, 17, 0, 255, 182, 0, 74, 61, 28, 4, 7, 184, 0, 33, 153, 0, 5, 1, 176, 43, 16, 8]
abbrev dktX9_unpack_2 : List UInt8 := dkwX9_unpack_2 ++ dktX9_unpack_3
def dkwX9_unpack_1 : List UInt8 := [153, 0, 23, 42, 28, 182, 0, 29, 153, 0, 15, 42, 43, 180, 0, 43, 28, 182, 0, 49, 167, 0, 4, 1]
abbrev dktX9_unpack_1 : List UInt8 := dkwX9_unpack_1 ++ dktX9_unpack_2
def dkwX9_unpack_0 : List UInt8 := [42, 180, 0, 19, 153, 0, 45, 43, 42, 180, 0, 23, 42, 180, 0, 26, 182, 0, 74, 61, 43, 182, 0, 78]
abbrev dktX9_unpack_0 : List UInt8 := dkwX9_unpack_0 ++ dktX9_unpack_1
theorem dksX9_unpack_0 : cX9_unpack.data.toList.drop 0 = dktX9_unpack_0 := by decide +kernel
theorem dksX9_unpack_1 : cX9_unpack.data.toList.drop 24 = dktX9_unpack_1 := dk_seg dksX9_unpack_0 24 rfl rfl
theorem dksX9_unpack_2 : cX9_unpack.data.toList.drop 48 = dktX9_unpack_2 := dk_seg dksX9_unpack_1 24 rfl rfl
theorem dksX9_unpack_3 : cX9_unpack.data.toList.drop 72 = dktX9_unpack_3 := dk_seg dksX9_unpack_2 24 rfl rfl
theorem dksX9_unpack_4 : cX9_unpack.data.toList.drop 96 = dktX9_unpack_4 := dk_seg dksX9_unpack_3 24 rfl rfl
theorem dksX9_unpack_5 : cX9_unpack.data.toList.drop 120 = dktX9_unpack_5 := dk_seg dksX9_unpack_4 24 rfl rfl
theorem dX9_unpack_0 : decode cX9_unpack 0 = .ok (.aload_n 0, 1) := dk_42 (dk_at dksX9_unpack_0 0 rfl rfl)
theorem dX9_unpack_1 : decode cX9_unpack 1 = .ok (.getfield 19, 3) := dk_180 0 19 (dk_at dksX9_unpack_0 1 rfl rfl)
theorem dX9_unpack_4 : decode cX9_unpack 4 = .ok (.ifCond .eq 45, 3) := dk_153 0 45 (dk_at dksX9_unpack_0 4 rfl rfl)
theorem dX9_unpack_7 : decode cX9_unpack 7 = .ok (.aload_n 1, 1) := dk_43 (dk_at dksX9_unpack_0 7 rfl rfl)
theorem dX9_unpack_8 : decode cX9_unpack 8 = .ok (.aload_n 0, 1) := dk_42 (dk_at dksX9_unpack_0 8 rfl rfl)
theorem dX9_unpack_9 : decode cX9_unpack 9 = .ok (.getfield 23, 3) := dk_180 0 23 (dk_at dksX9_unpack_0 9 rfl rfl)
theorem dX9_unpack_12 : decode cX9_unpack 12 = .ok (.aload_n 0, 1) := dk_42 (dk_at dksX9_unpack_0 12 rfl rfl)
theorem dX9_unpack_13 : decode cX9_unpack 13 = .ok (.getfield 26, 3) := dk_180 0 26 (dk_at dksX9_unpack_0 13 rfl rfl)
theorem dX9_unpack_16 : decode cX9_unpack 16 = .ok (.invokevirtual 74, 3) := dk_182 0 74 (dk_at dksX9_unpack_0 16 rfl rfl)
theorem dX9_unpack_19 : decode cX9_unpack 19 = .ok (.istore_n 2, 1) := dk_61 (dk_at dksX9_unpack_0 19 rfl rfl)
theorem dX9_unpack_20 : decode cX9_unpack 20 = .ok (.aload_n 1, 1) := dk_43 (dk_at dksX9_unpack_0 20 rfl rfl)
theorem dX9_unpack_21 : decode cX9_unpack 21 = .ok (.invokevirtual 78, 3) := dk_182 0 78 (dk_at dksX9_unpack_0 21 rfl rfl)
theorem dX9_unpack_24 : decode cX9_unpack 24 = .ok (.ifCond .eq 23, 3) := dk_153 0 23 (dk_at dksX9_unpack_1 0 rfl rfl)
theorem dX9_unpack_27 : decode cX9_unpack 27 = .ok (.aload_n 0, 1) := dk_42 (dk_at dksX9_unpack_1 3 rfl rfl)
theorem dX9_unpack_28 : decode cX9_unpack 28 = .ok (.iload_n 2, 1) := dk_28 (dk_at dksX9_unpack_1 4 rfl rfl)
theorem dX9_unpack_29 : decode cX9_unpack 29 = .ok (.invokevirtual 29, 3) := dk_182 0 29 (dk_at dksX9_unpack_1 5 rfl rfl)
theorem dX9_unpack_32 : decode cX9_unpack 32 = .ok (.ifCond .eq 15, 3) := dk_153 0 15 (dk_at dksX9_unpack_1 8 rfl rfl)
theorem dX9_unpack_35 : decode cX9_unpack 35 = .ok (.aload_n 0, 1) := dk_42 (dk_at dksX9_unpack_1 11 rfl rfl)
theorem dX9_unpack_36 : decode cX9_unpack 36 = .ok (.aload_n 1, 1) := dk_43 (dk_at dksX9_unpack_1 12 rfl rfl)
theorem dX9_unpack_37 : decode cX9_unpack 37 = .ok (.getfield 43, 3) := dk_180 0 43 (dk_at dksX9_unpack_1 13 rfl rfl)
theorem dX9_unpack_40 : decode cX9_unpack 40 = .ok (.iload_n 2, 1) := dk_28 (dk_at dksX9_unpack_1 16 rfl rfl)
theorem dX9_unpack_41 : decode cX9_unpack 41 = .ok (.invokevirtual 49, 3) := dk_182 0 49 (dk_at dksX9_unpack_1 17 rfl rfl)
theorem dX9_unpack_44 : decode cX9_unpack 44 = .ok (.goto 4, 3) := dk_167 0 4 (dk_at dksX9_unpack_1 20 rfl rfl)
theorem dX9_unpack_47 : decode cX9_unpack 47 = .ok (.aconst_null, 1) := dk_1 (dk_at dksX9_unpack_1 23 rfl rfl)
theorem dX9_unpack_48 : decode cX9_unpack 48 = .ok (.areturn, 1) := dk_176 (dk_at dksX9_unpack_2 0 rfl rfl)
theorem dX9_unpack_49 : decode cX9_unpack 49 = .ok (.aload_n 1, 1) := dk_43 (dk_at dksX9_unpack_2 1 rfl rfl)
theorem dX9_unpack_50 : decode cX9_unpack 50 = .ok (.iconst 0, 1) := dk_3 (dk_at dksX9_unpack_2 2 rfl rfl)
theorem dX9_unpack_51 : decode cX9_unpack 51 = .ok (.sipush 255, 3) := dk_17 0 255 (dk_at dksX9_unpack_2 3 rfl rfl)
theorem dX9_unpack_54 : decode cX9_unpack 54 = .ok (.invokevirtual 74, 3) := dk_182 0 74 (dk_at dksX9_unpack_2 6 rfl rfl)
theorem dX9_unpack_57 : decode cX9_unpack 57 = .ok (.istore_n 2, 1) := dk_61 (dk_at dksX9_unpack_2 9 rfl rfl)
theorem dX9_unpack_58 : decode cX9_unpack 58 = .ok (.iload_n 2, 1) := dk_28 (dk_at dksX9_unpack_2 10 rfl rfl)
theorem dX9_unpack_59 : decode cX9_unpack 59 = .ok (.iconst 1, 1) := dk_4 (dk_at dksX9_unpack_2 11 rfl rfl)
theorem dX9_unpack_60 : decode cX9_unpack 60 = .ok (.iconst 4, 1) := dk_7 (dk_at dksX9_unpack_2 12 rfl rfl)
theorem dX9_unpack_61 : decode cX9_unpack 61 = .ok (.invokestatic 33, 3) := dk_184 0 33 (dk_at dksX9_unpack_2 13 rfl rfl)
theorem dX9_unpack_64 : decode cX9_unpack 64 = .ok (.ifCond .eq 5, 3) := dk_153 0 5 (dk_at dksX9_unpack_2 16 rfl rfl)
theorem dX9_unpack_67 : decode cX9_unpack 67 = .ok (.aconst_null, 1) := dk_1 (dk_at dksX9_unpack_2 19 rfl rfl)
theorem dX9_unpack_68 : decode cX9_unpack 68 = .ok (.areturn, 1) := dk_176 (dk_at dksX9_unpack_2 20 rfl rfl)
theorem dX9_unpack_69 : decode cX9_unpack 69 = .ok (.aload_n 1, 1) := dk_43 (dk_at dksX9_unpack_2 21 rfl rfl)
theorem dX9_unpack_70 : decode cX9_unpack 70 = .ok (.bipush 8, 2) := dk_16 8 (dk_at dksX9_unpack_2 22 rfl rfl)
theorem dX9_unpack_72 : decode cX9_unpack 72 = .ok (.invokevirtual 82, 3) := dk_182 0 82 (dk_at dksX9_unpack_3 0 rfl rfl)
theorem dX9_unpack_75 : decode cX9_unpack 75 = .ok (.i2b, 1) := dk_145 (dk_at dksX9_unpack_3 3 rfl rfl)
theorem dX9_unpack_76 : decode cX9_unpack 76 = .ok (.istore_n 3, 1) := dk_62 (dk_at dksX9_unpack_3 4 rfl rfl)
theorem dX9_unpack_77 : decode cX9_unpack 77 = .ok (.iconst 1, 1) := dk_4 (dk_at dksX9_unpack_3 5 rfl rfl)
theorem dX9_unpack_78 : decode cX9_unpack 78 = .ok (.istore 4, 2) := dk_54 4 (dk_at dksX9_unpack_3 6 rfl rfl)
theorem dX9_unpack_80 : decode cX9_unpack 80 = .ok (.iload 4, 2) := dk_21 4 (dk_at dksX9_unpack_3 8 rfl rfl)
theorem dX9_unpack_82 : decode cX9_unpack 82 = .ok (.iload_n 2, 1) := dk_28 (dk_at dksX9_unpack_3 10 rfl rfl)
theorem dX9_unpack_83 : decode cX9_unpack 83 = .ok (.if_icmp .ge 21, 3) := dk_162 0 21 (dk_at dksX9_unpack_3 11 rfl rfl)
theorem dX9_unpack_86 : decode cX9_unpack 86 = .ok (.iload_n 3, 1) := dk_29 (dk_at dksX9_unpack_3 14 rfl rfl)
theorem dX9_unpack_87 : decode cX9_unpack 87 = .ok (.bipush 8, 2) := dk_16 8 (dk_at dksX9_unpack_3 15 rfl rfl)
theorem dX9_unpack_89 : decode cX9_unpack 89 = .ok (.ishl, 1) := dk_120 (dk_at dksX9_unpack_3 17 rfl rfl)
theorem dX9_unpack_90 : decode cX9_unpack 90 = .ok (.aload_n 1, 1) := dk_43 (dk_at dksX9_unpack_3 18 rfl rfl)
theorem dX9_unpack_91 : decode cX9_unpack 91 = .ok (.bipush 8, 2) := dk_16 8 (dk_at dksX9_unpack_3 19 rfl rfl)
theorem dX9_unpack_93 : decode cX9_unpack 93 = .ok (.invokevirtual 82, 3) := dk_182 0 82 (dk_at dksX9_unpack_3 21 rfl rfl)
theorem dX9_unpack_96 : decode cX9_unpack 96 = .ok (.ior, 1) := dk_128 (dk_at dksX9_unpack_4 0 rfl rfl)
theorem dX9_unpack_97 : decode cX9_unpack 97 = .ok (.istore_n 3, 1) := dk_62 (dk_at dksX9_unpack_4 1 rfl rfl)
theorem dX9_unpack_98 : decode cX9_unpack 98 = .ok (.iinc 4 1, 3) := dk_132 4 1 (dk_at dksX9_unpack_4 2 rfl rfl)
theorem dX9_unpack_101 : decode cX9_unpack 101 = .ok (.goto (-21), 3) := dk_167 255 235 (dk_at dksX9_unpack_4 5 rfl rfl)
theorem dX9_unpack_104 : decode cX9_unpack 104 = .ok (.aload_n 1, 1) := dk_43 (dk_at dksX9_unpack_4 8 rfl rfl)
theorem dX9_unpack_105 : decode cX9_unpack 105 = .ok (.invokevirtual 78, 3) := dk_182 0 78 (dk_at dksX9_unpack_4 9 rfl rfl)
theorem dX9_unpack_108 : decode cX9_unpack 108 = .ok (.ifCond .eq 23, 3) := dk_153 0 23 (dk_at dksX9_unpack_4 12 rfl rfl)
theorem dX9_unpack_111 : decode cX9_unpack 111 = .ok (.iload_n 3, 1) := dk_29 (dk_at dksX9_unpack_4 15 rfl rfl)
theorem dX9_unpack_112 : decode cX9_unpack 112 = .ok (.invokestatic 57, 3) := dk_184 0 57 (dk_at dksX9_unpack_4 16 rfl rfl)
theorem dX9_unpack_115 : decode cX9_unpack 115 = .ok (.iload_n 2, 1) := dk_28 (dk_at dksX9_unpack_4 19 rfl rfl)
theorem dX9_unpack_116 : decode cX9_unpack 116 = .ok (.if_icmp .ne 15, 3) := dk_160 0 15 (dk_at dksX9_unpack_4 20 rfl rfl)
theorem dX9_unpack_119 : decode cX9_unpack 119 = .ok (.aload_n 0, 1) := dk_42 (dk_at dksX9_unpack_4 23 rfl rfl)
theorem dX9_unpack_120 : decode cX9_unpack 120 = .ok (.aload_n 1, 1) := dk_43 (dk_at dksX9_unpack_5 0 rfl rfl)
theorem dX9_unpack_121 : decode cX9_unpack 121 = .ok (.getfield 43, 3) := dk_180 0 43 (dk_at dksX9_unpack_5 1 rfl rfl)
theorem dX9_unpack_124 : decode cX9_unpack 124 = .ok (.iload_n 3, 1) := dk_29 (dk_at dksX9_unpack_5 4 rfl rfl)
theorem dX9_unpack_125 : decode cX9_unpack 125 = .ok (.invokevirtual 49, 3) := dk_182 0 49 (dk_at dksX9_unpack_5 5 rfl rfl)
theorem dX9_unpack_128 : decode cX9_unpack 128 = .ok (.goto 4, 3) := dk_167 0 4 (dk_at dksX9_unpack_5 8 rfl rfl)
theorem dX9_unpack_131 : decode cX9_unpack 131 = .ok (.aconst_null, 1) := dk_1 (dk_at dksX9_unpack_5 11 rfl rfl)
theorem dX9_unpack_132 : decode cX9_unpack 132 = .ok (.areturn, 1) := dk_176 (dk_at dksX9_unpack_5 12 rfl rfl)
abbrev cX9_given : ByteArray := prog_5_method_5_code
def yX9_given : MethodName := ⟨RX9, "given", "(LNotationDesk$Store;I)LNotationDesk$Part;"⟩
def dkwX9_given_0 : List UInt8 := [43, 42, 180, 0, 9, 28, 182, 0, 37, 176]
abbrev dktX9_given_0 : List UInt8 := dkwX9_given_0 ++ []
theorem dksX9_given_0 : cX9_given.data.toList.drop 0 = dktX9_given_0 := by decide +kernel
theorem dX9_given_0 : decode cX9_given 0 = .ok (.aload_n 1, 1) := dk_43 (dk_at dksX9_given_0 0 rfl rfl)
theorem dX9_given_1 : decode cX9_given 1 = .ok (.aload_n 0, 1) := dk_42 (dk_at dksX9_given_0 1 rfl rfl)
theorem dX9_given_2 : decode cX9_given 2 = .ok (.getfield 9, 3) := dk_180 0 9 (dk_at dksX9_given_0 2 rfl rfl)
theorem dX9_given_5 : decode cX9_given 5 = .ok (.iload_n 2, 1) := dk_28 (dk_at dksX9_given_0 5 rfl rfl)
theorem dX9_given_6 : decode cX9_given 6 = .ok (.invokevirtual 37, 3) := dk_182 0 37 (dk_at dksX9_given_0 6 rfl rfl)
theorem dX9_given_9 : decode cX9_given 9 = .ok (.areturn, 1) := dk_176 (dk_at dksX9_given_0 9 rfl rfl)
abbrev cX9_readContent : ByteArray := prog_5_method_6_code
def yX9_readContent : MethodName := ⟨RX9, "readContent", "(LNotationDesk$Source;I)LNotationDesk$Part;"⟩
def dkwX9_readContent_5 : List UInt8 := [43, 180, 0, 43, 29, 182, 0, 49, 167, 0, 4, 1, 176]
abbrev dktX9_readContent_5 : List UInt8 := dkwX9_readContent_5 ++ []
def dkwX9_readContent_4 : List UInt8 := [4, 62, 167, 0, 13, 29, 184, 0, 57, 28, 159, 0, 5, 1, 176, 42, 29, 182, 0, 29, 153, 0, 15, 42]
abbrev dktX9_readContent_4 : List UInt8 := dkwX9_readContent_4 ++ dktX9_readContent_5
def dkwX9_readContent_3 : List UInt8 := [128, 62, 132, 4, 1, 167, 255, 237, 42, 180, 0, 9, 4, 160, 0, 16, 29, 154, 0, 7, 3, 167, 0, 4]
abbrev dktX9_readContent_3 : List UInt8 := dkwX9_readContent_3 ++ dktX9_readContent_4
def dkwX9_readContent_2 : List UInt8 := [176, 43, 182, 0, 53, 145, 62, 4, 54, 4, 21, 4, 28, 162, 0, 19, 29, 16, 8, 120, 43, 182, 0, 53]
abbrev dktX9_readContent_2 : List UInt8 := dkwX9_readContent_2 ++ dktX9_readContent_3
def dkwX9_readContent_1 : List UInt8 := [1, 176, 28, 4, 42, 180, 0, 9, 4, 160, 0, 7, 4, 167, 0, 4, 7, 184, 0, 33, 153, 0, 5, 1]
abbrev dktX9_readContent_1 : List UInt8 := dkwX9_readContent_1 ++ dktX9_readContent_2
def dkwX9_readContent_0 : List UInt8 := [42, 180, 0, 9, 8, 160, 0, 21, 28, 154, 0, 15, 42, 43, 180, 0, 43, 3, 182, 0, 49, 167, 0, 4]
abbrev dktX9_readContent_0 : List UInt8 := dkwX9_readContent_0 ++ dktX9_readContent_1
theorem dksX9_readContent_0 : cX9_readContent.data.toList.drop 0 = dktX9_readContent_0 := by decide +kernel
theorem dksX9_readContent_1 : cX9_readContent.data.toList.drop 24 = dktX9_readContent_1 := dk_seg dksX9_readContent_0 24 rfl rfl
theorem dksX9_readContent_2 : cX9_readContent.data.toList.drop 48 = dktX9_readContent_2 := dk_seg dksX9_readContent_1 24 rfl rfl
theorem dksX9_readContent_3 : cX9_readContent.data.toList.drop 72 = dktX9_readContent_3 := dk_seg dksX9_readContent_2 24 rfl rfl
theorem dksX9_readContent_4 : cX9_readContent.data.toList.drop 96 = dktX9_readContent_4 := dk_seg dksX9_readContent_3 24 rfl rfl
theorem dksX9_readContent_5 : cX9_readContent.data.toList.drop 120 = dktX9_readContent_5 := dk_seg dksX9_readContent_4 24 rfl rfl
theorem dX9_readContent_0 : decode cX9_readContent 0 = .ok (.aload_n 0, 1) := dk_42 (dk_at dksX9_readContent_0 0 rfl rfl)
theorem dX9_readContent_1 : decode cX9_readContent 1 = .ok (.getfield 9, 3) := dk_180 0 9 (dk_at dksX9_readContent_0 1 rfl rfl)
theorem dX9_readContent_4 : decode cX9_readContent 4 = .ok (.iconst 5, 1) := dk_8 (dk_at dksX9_readContent_0 4 rfl rfl)
theorem dX9_readContent_5 : decode cX9_readContent 5 = .ok (.if_icmp .ne 21, 3) := dk_160 0 21 (dk_at dksX9_readContent_0 5 rfl rfl)
theorem dX9_readContent_8 : decode cX9_readContent 8 = .ok (.iload_n 2, 1) := dk_28 (dk_at dksX9_readContent_0 8 rfl rfl)
theorem dX9_readContent_9 : decode cX9_readContent 9 = .ok (.ifCond .ne 15, 3) := dk_154 0 15 (dk_at dksX9_readContent_0 9 rfl rfl)
theorem dX9_readContent_12 : decode cX9_readContent 12 = .ok (.aload_n 0, 1) := dk_42 (dk_at dksX9_readContent_0 12 rfl rfl)
theorem dX9_readContent_13 : decode cX9_readContent 13 = .ok (.aload_n 1, 1) := dk_43 (dk_at dksX9_readContent_0 13 rfl rfl)
theorem dX9_readContent_14 : decode cX9_readContent 14 = .ok (.getfield 43, 3) := dk_180 0 43 (dk_at dksX9_readContent_0 14 rfl rfl)
theorem dX9_readContent_17 : decode cX9_readContent 17 = .ok (.iconst 0, 1) := dk_3 (dk_at dksX9_readContent_0 17 rfl rfl)
theorem dX9_readContent_18 : decode cX9_readContent 18 = .ok (.invokevirtual 49, 3) := dk_182 0 49 (dk_at dksX9_readContent_0 18 rfl rfl)
theorem dX9_readContent_21 : decode cX9_readContent 21 = .ok (.goto 4, 3) := dk_167 0 4 (dk_at dksX9_readContent_0 21 rfl rfl)
theorem dX9_readContent_24 : decode cX9_readContent 24 = .ok (.aconst_null, 1) := dk_1 (dk_at dksX9_readContent_1 0 rfl rfl)
theorem dX9_readContent_25 : decode cX9_readContent 25 = .ok (.areturn, 1) := dk_176 (dk_at dksX9_readContent_1 1 rfl rfl)
theorem dX9_readContent_26 : decode cX9_readContent 26 = .ok (.iload_n 2, 1) := dk_28 (dk_at dksX9_readContent_1 2 rfl rfl)
theorem dX9_readContent_27 : decode cX9_readContent 27 = .ok (.iconst 1, 1) := dk_4 (dk_at dksX9_readContent_1 3 rfl rfl)
theorem dX9_readContent_28 : decode cX9_readContent 28 = .ok (.aload_n 0, 1) := dk_42 (dk_at dksX9_readContent_1 4 rfl rfl)
theorem dX9_readContent_29 : decode cX9_readContent 29 = .ok (.getfield 9, 3) := dk_180 0 9 (dk_at dksX9_readContent_1 5 rfl rfl)
theorem dX9_readContent_32 : decode cX9_readContent 32 = .ok (.iconst 1, 1) := dk_4 (dk_at dksX9_readContent_1 8 rfl rfl)
theorem dX9_readContent_33 : decode cX9_readContent 33 = .ok (.if_icmp .ne 7, 3) := dk_160 0 7 (dk_at dksX9_readContent_1 9 rfl rfl)
theorem dX9_readContent_36 : decode cX9_readContent 36 = .ok (.iconst 1, 1) := dk_4 (dk_at dksX9_readContent_1 12 rfl rfl)
theorem dX9_readContent_37 : decode cX9_readContent 37 = .ok (.goto 4, 3) := dk_167 0 4 (dk_at dksX9_readContent_1 13 rfl rfl)
theorem dX9_readContent_40 : decode cX9_readContent 40 = .ok (.iconst 4, 1) := dk_7 (dk_at dksX9_readContent_1 16 rfl rfl)
theorem dX9_readContent_41 : decode cX9_readContent 41 = .ok (.invokestatic 33, 3) := dk_184 0 33 (dk_at dksX9_readContent_1 17 rfl rfl)
theorem dX9_readContent_44 : decode cX9_readContent 44 = .ok (.ifCond .eq 5, 3) := dk_153 0 5 (dk_at dksX9_readContent_1 20 rfl rfl)
theorem dX9_readContent_47 : decode cX9_readContent 47 = .ok (.aconst_null, 1) := dk_1 (dk_at dksX9_readContent_1 23 rfl rfl)
theorem dX9_readContent_48 : decode cX9_readContent 48 = .ok (.areturn, 1) := dk_176 (dk_at dksX9_readContent_2 0 rfl rfl)
theorem dX9_readContent_49 : decode cX9_readContent 49 = .ok (.aload_n 1, 1) := dk_43 (dk_at dksX9_readContent_2 1 rfl rfl)
theorem dX9_readContent_50 : decode cX9_readContent 50 = .ok (.invokevirtual 53, 3) := dk_182 0 53 (dk_at dksX9_readContent_2 2 rfl rfl)
theorem dX9_readContent_53 : decode cX9_readContent 53 = .ok (.i2b, 1) := dk_145 (dk_at dksX9_readContent_2 5 rfl rfl)
theorem dX9_readContent_54 : decode cX9_readContent 54 = .ok (.istore_n 3, 1) := dk_62 (dk_at dksX9_readContent_2 6 rfl rfl)
theorem dX9_readContent_55 : decode cX9_readContent 55 = .ok (.iconst 1, 1) := dk_4 (dk_at dksX9_readContent_2 7 rfl rfl)
theorem dX9_readContent_56 : decode cX9_readContent 56 = .ok (.istore 4, 2) := dk_54 4 (dk_at dksX9_readContent_2 8 rfl rfl)
theorem dX9_readContent_58 : decode cX9_readContent 58 = .ok (.iload 4, 2) := dk_21 4 (dk_at dksX9_readContent_2 10 rfl rfl)
theorem dX9_readContent_60 : decode cX9_readContent 60 = .ok (.iload_n 2, 1) := dk_28 (dk_at dksX9_readContent_2 12 rfl rfl)
theorem dX9_readContent_61 : decode cX9_readContent 61 = .ok (.if_icmp .ge 19, 3) := dk_162 0 19 (dk_at dksX9_readContent_2 13 rfl rfl)
theorem dX9_readContent_64 : decode cX9_readContent 64 = .ok (.iload_n 3, 1) := dk_29 (dk_at dksX9_readContent_2 16 rfl rfl)
theorem dX9_readContent_65 : decode cX9_readContent 65 = .ok (.bipush 8, 2) := dk_16 8 (dk_at dksX9_readContent_2 17 rfl rfl)
theorem dX9_readContent_67 : decode cX9_readContent 67 = .ok (.ishl, 1) := dk_120 (dk_at dksX9_readContent_2 19 rfl rfl)
theorem dX9_readContent_68 : decode cX9_readContent 68 = .ok (.aload_n 1, 1) := dk_43 (dk_at dksX9_readContent_2 20 rfl rfl)
theorem dX9_readContent_69 : decode cX9_readContent 69 = .ok (.invokevirtual 53, 3) := dk_182 0 53 (dk_at dksX9_readContent_2 21 rfl rfl)
theorem dX9_readContent_72 : decode cX9_readContent 72 = .ok (.ior, 1) := dk_128 (dk_at dksX9_readContent_3 0 rfl rfl)
theorem dX9_readContent_73 : decode cX9_readContent 73 = .ok (.istore_n 3, 1) := dk_62 (dk_at dksX9_readContent_3 1 rfl rfl)
theorem dX9_readContent_74 : decode cX9_readContent 74 = .ok (.iinc 4 1, 3) := dk_132 4 1 (dk_at dksX9_readContent_3 2 rfl rfl)
theorem dX9_readContent_77 : decode cX9_readContent 77 = .ok (.goto (-19), 3) := dk_167 255 237 (dk_at dksX9_readContent_3 5 rfl rfl)
theorem dX9_readContent_80 : decode cX9_readContent 80 = .ok (.aload_n 0, 1) := dk_42 (dk_at dksX9_readContent_3 8 rfl rfl)
theorem dX9_readContent_81 : decode cX9_readContent 81 = .ok (.getfield 9, 3) := dk_180 0 9 (dk_at dksX9_readContent_3 9 rfl rfl)
theorem dX9_readContent_84 : decode cX9_readContent 84 = .ok (.iconst 1, 1) := dk_4 (dk_at dksX9_readContent_3 12 rfl rfl)
theorem dX9_readContent_85 : decode cX9_readContent 85 = .ok (.if_icmp .ne 16, 3) := dk_160 0 16 (dk_at dksX9_readContent_3 13 rfl rfl)
theorem dX9_readContent_88 : decode cX9_readContent 88 = .ok (.iload_n 3, 1) := dk_29 (dk_at dksX9_readContent_3 16 rfl rfl)
theorem dX9_readContent_89 : decode cX9_readContent 89 = .ok (.ifCond .ne 7, 3) := dk_154 0 7 (dk_at dksX9_readContent_3 17 rfl rfl)
theorem dX9_readContent_92 : decode cX9_readContent 92 = .ok (.iconst 0, 1) := dk_3 (dk_at dksX9_readContent_3 20 rfl rfl)
theorem dX9_readContent_93 : decode cX9_readContent 93 = .ok (.goto 4, 3) := dk_167 0 4 (dk_at dksX9_readContent_3 21 rfl rfl)
theorem dX9_readContent_96 : decode cX9_readContent 96 = .ok (.iconst 1, 1) := dk_4 (dk_at dksX9_readContent_4 0 rfl rfl)
theorem dX9_readContent_97 : decode cX9_readContent 97 = .ok (.istore_n 3, 1) := dk_62 (dk_at dksX9_readContent_4 1 rfl rfl)
theorem dX9_readContent_98 : decode cX9_readContent 98 = .ok (.goto 13, 3) := dk_167 0 13 (dk_at dksX9_readContent_4 2 rfl rfl)
theorem dX9_readContent_101 : decode cX9_readContent 101 = .ok (.iload_n 3, 1) := dk_29 (dk_at dksX9_readContent_4 5 rfl rfl)
theorem dX9_readContent_102 : decode cX9_readContent 102 = .ok (.invokestatic 57, 3) := dk_184 0 57 (dk_at dksX9_readContent_4 6 rfl rfl)
theorem dX9_readContent_105 : decode cX9_readContent 105 = .ok (.iload_n 2, 1) := dk_28 (dk_at dksX9_readContent_4 9 rfl rfl)
theorem dX9_readContent_106 : decode cX9_readContent 106 = .ok (.if_icmp .eq 5, 3) := dk_159 0 5 (dk_at dksX9_readContent_4 10 rfl rfl)
theorem dX9_readContent_109 : decode cX9_readContent 109 = .ok (.aconst_null, 1) := dk_1 (dk_at dksX9_readContent_4 13 rfl rfl)
theorem dX9_readContent_110 : decode cX9_readContent 110 = .ok (.areturn, 1) := dk_176 (dk_at dksX9_readContent_4 14 rfl rfl)
theorem dX9_readContent_111 : decode cX9_readContent 111 = .ok (.aload_n 0, 1) := dk_42 (dk_at dksX9_readContent_4 15 rfl rfl)
theorem dX9_readContent_112 : decode cX9_readContent 112 = .ok (.iload_n 3, 1) := dk_29 (dk_at dksX9_readContent_4 16 rfl rfl)
theorem dX9_readContent_113 : decode cX9_readContent 113 = .ok (.invokevirtual 29, 3) := dk_182 0 29 (dk_at dksX9_readContent_4 17 rfl rfl)
theorem dX9_readContent_116 : decode cX9_readContent 116 = .ok (.ifCond .eq 15, 3) := dk_153 0 15 (dk_at dksX9_readContent_4 20 rfl rfl)
theorem dX9_readContent_119 : decode cX9_readContent 119 = .ok (.aload_n 0, 1) := dk_42 (dk_at dksX9_readContent_4 23 rfl rfl)
theorem dX9_readContent_120 : decode cX9_readContent 120 = .ok (.aload_n 1, 1) := dk_43 (dk_at dksX9_readContent_5 0 rfl rfl)
theorem dX9_readContent_121 : decode cX9_readContent 121 = .ok (.getfield 43, 3) := dk_180 0 43 (dk_at dksX9_readContent_5 1 rfl rfl)
theorem dX9_readContent_124 : decode cX9_readContent 124 = .ok (.iload_n 3, 1) := dk_29 (dk_at dksX9_readContent_5 4 rfl rfl)
theorem dX9_readContent_125 : decode cX9_readContent 125 = .ok (.invokevirtual 49, 3) := dk_182 0 49 (dk_at dksX9_readContent_5 5 rfl rfl)
theorem dX9_readContent_128 : decode cX9_readContent 128 = .ok (.goto 4, 3) := dk_167 0 4 (dk_at dksX9_readContent_5 8 rfl rfl)
theorem dX9_readContent_131 : decode cX9_readContent 131 = .ok (.aconst_null, 1) := dk_1 (dk_at dksX9_readContent_5 11 rfl rfl)
theorem dX9_readContent_132 : decode cX9_readContent 132 = .ok (.areturn, 1) := dk_176 (dk_at dksX9_readContent_5 12 rfl rfl)
abbrev cX9_content : ByteArray := prog_5_method_7_code
def yX9_content : MethodName := ⟨RX9, "content", "(LNotationDesk$Part;)I"⟩
def dkwX9_content_1 : List UInt8 := [43, 180, 0, 61, 184, 0, 57, 172]
abbrev dktX9_content_1 : List UInt8 := dkwX9_content_1 ++ []
def dkwX9_content_0 : List UInt8 := [42, 180, 0, 9, 8, 160, 0, 7, 3, 167, 0, 22, 42, 180, 0, 9, 4, 160, 0, 7, 4, 167, 0, 10]
abbrev dktX9_content_0 : List UInt8 := dkwX9_content_0 ++ dktX9_content_1
theorem dksX9_content_0 : cX9_content.data.toList.drop 0 = dktX9_content_0 := by decide +kernel
theorem dksX9_content_1 : cX9_content.data.toList.drop 24 = dktX9_content_1 := dk_seg dksX9_content_0 24 rfl rfl
theorem dX9_content_0 : decode cX9_content 0 = .ok (.aload_n 0, 1) := dk_42 (dk_at dksX9_content_0 0 rfl rfl)
theorem dX9_content_1 : decode cX9_content 1 = .ok (.getfield 9, 3) := dk_180 0 9 (dk_at dksX9_content_0 1 rfl rfl)
theorem dX9_content_4 : decode cX9_content 4 = .ok (.iconst 5, 1) := dk_8 (dk_at dksX9_content_0 4 rfl rfl)
theorem dX9_content_5 : decode cX9_content 5 = .ok (.if_icmp .ne 7, 3) := dk_160 0 7 (dk_at dksX9_content_0 5 rfl rfl)
theorem dX9_content_8 : decode cX9_content 8 = .ok (.iconst 0, 1) := dk_3 (dk_at dksX9_content_0 8 rfl rfl)
theorem dX9_content_9 : decode cX9_content 9 = .ok (.goto 22, 3) := dk_167 0 22 (dk_at dksX9_content_0 9 rfl rfl)
theorem dX9_content_12 : decode cX9_content 12 = .ok (.aload_n 0, 1) := dk_42 (dk_at dksX9_content_0 12 rfl rfl)
theorem dX9_content_13 : decode cX9_content 13 = .ok (.getfield 9, 3) := dk_180 0 9 (dk_at dksX9_content_0 13 rfl rfl)
theorem dX9_content_16 : decode cX9_content 16 = .ok (.iconst 1, 1) := dk_4 (dk_at dksX9_content_0 16 rfl rfl)
theorem dX9_content_17 : decode cX9_content 17 = .ok (.if_icmp .ne 7, 3) := dk_160 0 7 (dk_at dksX9_content_0 17 rfl rfl)
theorem dX9_content_20 : decode cX9_content 20 = .ok (.iconst 1, 1) := dk_4 (dk_at dksX9_content_0 20 rfl rfl)
theorem dX9_content_21 : decode cX9_content 21 = .ok (.goto 10, 3) := dk_167 0 10 (dk_at dksX9_content_0 21 rfl rfl)
theorem dX9_content_24 : decode cX9_content 24 = .ok (.aload_n 1, 1) := dk_43 (dk_at dksX9_content_1 0 rfl rfl)
theorem dX9_content_25 : decode cX9_content 25 = .ok (.getfield 61, 3) := dk_180 0 61 (dk_at dksX9_content_1 1 rfl rfl)
theorem dX9_content_28 : decode cX9_content 28 = .ok (.invokestatic 57, 3) := dk_184 0 57 (dk_at dksX9_content_1 4 rfl rfl)
theorem dX9_content_31 : decode cX9_content 31 = .ok (.ireturn, 1) := dk_172 (dk_at dksX9_content_1 7 rfl rfl)
abbrev cX9_writeContent : ByteArray := prog_5_method_8_code
def yX9_writeContent : MethodName := ⟨RX9, "writeContent", "(LNotationDesk$Part;LNotationDesk$Writer;)V"⟩
def dkwX9_writeContent_1 : List UInt8 := [180, 0, 9, 8, 159, 0, 11, 44, 43, 180, 0, 61, 182, 0, 71, 177]
abbrev dktX9_writeContent_1 : List UInt8 := dkwX9_writeContent_1 ++ []
def dkwX9_writeContent_0 : List UInt8 := [42, 180, 0, 9, 4, 160, 0, 18, 44, 17, 0, 255, 43, 180, 0, 61, 104, 182, 0, 66, 167, 0, 19, 42]
abbrev dktX9_writeContent_0 : List UInt8 := dkwX9_writeContent_0 ++ dktX9_writeContent_1
theorem dksX9_writeContent_0 : cX9_writeContent.data.toList.drop 0 = dktX9_writeContent_0 := by decide +kernel
theorem dksX9_writeContent_1 : cX9_writeContent.data.toList.drop 24 = dktX9_writeContent_1 := dk_seg dksX9_writeContent_0 24 rfl rfl
theorem dX9_writeContent_0 : decode cX9_writeContent 0 = .ok (.aload_n 0, 1) := dk_42 (dk_at dksX9_writeContent_0 0 rfl rfl)
theorem dX9_writeContent_1 : decode cX9_writeContent 1 = .ok (.getfield 9, 3) := dk_180 0 9 (dk_at dksX9_writeContent_0 1 rfl rfl)
theorem dX9_writeContent_4 : decode cX9_writeContent 4 = .ok (.iconst 1, 1) := dk_4 (dk_at dksX9_writeContent_0 4 rfl rfl)
theorem dX9_writeContent_5 : decode cX9_writeContent 5 = .ok (.if_icmp .ne 18, 3) := dk_160 0 18 (dk_at dksX9_writeContent_0 5 rfl rfl)
theorem dX9_writeContent_8 : decode cX9_writeContent 8 = .ok (.aload_n 2, 1) := dk_44 (dk_at dksX9_writeContent_0 8 rfl rfl)
theorem dX9_writeContent_9 : decode cX9_writeContent 9 = .ok (.sipush 255, 3) := dk_17 0 255 (dk_at dksX9_writeContent_0 9 rfl rfl)
theorem dX9_writeContent_12 : decode cX9_writeContent 12 = .ok (.aload_n 1, 1) := dk_43 (dk_at dksX9_writeContent_0 12 rfl rfl)
theorem dX9_writeContent_13 : decode cX9_writeContent 13 = .ok (.getfield 61, 3) := dk_180 0 61 (dk_at dksX9_writeContent_0 13 rfl rfl)
theorem dX9_writeContent_16 : decode cX9_writeContent 16 = .ok (.imul, 1) := dk_104 (dk_at dksX9_writeContent_0 16 rfl rfl)
theorem dX9_writeContent_17 : decode cX9_writeContent 17 = .ok (.invokevirtual 66, 3) := dk_182 0 66 (dk_at dksX9_writeContent_0 17 rfl rfl)
theorem dX9_writeContent_20 : decode cX9_writeContent 20 = .ok (.goto 19, 3) := dk_167 0 19 (dk_at dksX9_writeContent_0 20 rfl rfl)
theorem dX9_writeContent_23 : decode cX9_writeContent 23 = .ok (.aload_n 0, 1) := dk_42 (dk_at dksX9_writeContent_0 23 rfl rfl)
theorem dX9_writeContent_24 : decode cX9_writeContent 24 = .ok (.getfield 9, 3) := dk_180 0 9 (dk_at dksX9_writeContent_1 0 rfl rfl)
theorem dX9_writeContent_27 : decode cX9_writeContent 27 = .ok (.iconst 5, 1) := dk_8 (dk_at dksX9_writeContent_1 3 rfl rfl)
theorem dX9_writeContent_28 : decode cX9_writeContent 28 = .ok (.if_icmp .eq 11, 3) := dk_159 0 11 (dk_at dksX9_writeContent_1 4 rfl rfl)
theorem dX9_writeContent_31 : decode cX9_writeContent 31 = .ok (.aload_n 2, 1) := dk_44 (dk_at dksX9_writeContent_1 7 rfl rfl)
theorem dX9_writeContent_32 : decode cX9_writeContent 32 = .ok (.aload_n 1, 1) := dk_43 (dk_at dksX9_writeContent_1 8 rfl rfl)
theorem dX9_writeContent_33 : decode cX9_writeContent 33 = .ok (.getfield 61, 3) := dk_180 0 61 (dk_at dksX9_writeContent_1 9 rfl rfl)
theorem dX9_writeContent_36 : decode cX9_writeContent 36 = .ok (.invokevirtual 71, 3) := dk_182 0 71 (dk_at dksX9_writeContent_1 12 rfl rfl)
theorem dX9_writeContent_39 : decode cX9_writeContent 39 = .ok (.return_, 1) := dk_177 (dk_at dksX9_writeContent_1 15 rfl rfl)
abbrev cX9_pack : ByteArray := prog_5_method_10_code
def yX9_pack : MethodName := ⟨RX9, "pack", "(LNotationDesk$Part;LNotationDesk$Writer;)V"⟩
def dkwX9_pack_1 : List UInt8 := [44, 43, 180, 0, 61, 184, 0, 57, 3, 17, 0, 255, 182, 0, 85, 44, 43, 180, 0, 61, 182, 0, 71, 177]
abbrev dktX9_pack_1 : List UInt8 := dkwX9_pack_1 ++ []
def dkwX9_pack_0 : List UInt8 := [42, 180, 0, 19, 153, 0, 20, 44, 43, 180, 0, 61, 42, 180, 0, 23, 42, 180, 0, 26, 182, 0, 85, 177]
abbrev dktX9_pack_0 : List UInt8 := dkwX9_pack_0 ++ dktX9_pack_1
theorem dksX9_pack_0 : cX9_pack.data.toList.drop 0 = dktX9_pack_0 := by decide +kernel
theorem dksX9_pack_1 : cX9_pack.data.toList.drop 24 = dktX9_pack_1 := dk_seg dksX9_pack_0 24 rfl rfl
theorem dX9_pack_0 : decode cX9_pack 0 = .ok (.aload_n 0, 1) := dk_42 (dk_at dksX9_pack_0 0 rfl rfl)
theorem dX9_pack_1 : decode cX9_pack 1 = .ok (.getfield 19, 3) := dk_180 0 19 (dk_at dksX9_pack_0 1 rfl rfl)
theorem dX9_pack_4 : decode cX9_pack 4 = .ok (.ifCond .eq 20, 3) := dk_153 0 20 (dk_at dksX9_pack_0 4 rfl rfl)
theorem dX9_pack_7 : decode cX9_pack 7 = .ok (.aload_n 2, 1) := dk_44 (dk_at dksX9_pack_0 7 rfl rfl)
theorem dX9_pack_8 : decode cX9_pack 8 = .ok (.aload_n 1, 1) := dk_43 (dk_at dksX9_pack_0 8 rfl rfl)
theorem dX9_pack_9 : decode cX9_pack 9 = .ok (.getfield 61, 3) := dk_180 0 61 (dk_at dksX9_pack_0 9 rfl rfl)
theorem dX9_pack_12 : decode cX9_pack 12 = .ok (.aload_n 0, 1) := dk_42 (dk_at dksX9_pack_0 12 rfl rfl)
theorem dX9_pack_13 : decode cX9_pack 13 = .ok (.getfield 23, 3) := dk_180 0 23 (dk_at dksX9_pack_0 13 rfl rfl)
theorem dX9_pack_16 : decode cX9_pack 16 = .ok (.aload_n 0, 1) := dk_42 (dk_at dksX9_pack_0 16 rfl rfl)
theorem dX9_pack_17 : decode cX9_pack 17 = .ok (.getfield 26, 3) := dk_180 0 26 (dk_at dksX9_pack_0 17 rfl rfl)
theorem dX9_pack_20 : decode cX9_pack 20 = .ok (.invokevirtual 85, 3) := dk_182 0 85 (dk_at dksX9_pack_0 20 rfl rfl)
theorem dX9_pack_23 : decode cX9_pack 23 = .ok (.return_, 1) := dk_177 (dk_at dksX9_pack_0 23 rfl rfl)
theorem dX9_pack_24 : decode cX9_pack 24 = .ok (.aload_n 2, 1) := dk_44 (dk_at dksX9_pack_1 0 rfl rfl)
theorem dX9_pack_25 : decode cX9_pack 25 = .ok (.aload_n 1, 1) := dk_43 (dk_at dksX9_pack_1 1 rfl rfl)
theorem dX9_pack_26 : decode cX9_pack 26 = .ok (.getfield 61, 3) := dk_180 0 61 (dk_at dksX9_pack_1 2 rfl rfl)
theorem dX9_pack_29 : decode cX9_pack 29 = .ok (.invokestatic 57, 3) := dk_184 0 57 (dk_at dksX9_pack_1 5 rfl rfl)
theorem dX9_pack_32 : decode cX9_pack 32 = .ok (.iconst 0, 1) := dk_3 (dk_at dksX9_pack_1 8 rfl rfl)
theorem dX9_pack_33 : decode cX9_pack 33 = .ok (.sipush 255, 3) := dk_17 0 255 (dk_at dksX9_pack_1 9 rfl rfl)
theorem dX9_pack_36 : decode cX9_pack 36 = .ok (.invokevirtual 85, 3) := dk_182 0 85 (dk_at dksX9_pack_1 12 rfl rfl)
theorem dX9_pack_39 : decode cX9_pack 39 = .ok (.aload_n 2, 1) := dk_44 (dk_at dksX9_pack_1 15 rfl rfl)
theorem dX9_pack_40 : decode cX9_pack 40 = .ok (.aload_n 1, 1) := dk_43 (dk_at dksX9_pack_1 16 rfl rfl)
theorem dX9_pack_41 : decode cX9_pack 41 = .ok (.getfield 61, 3) := dk_180 0 61 (dk_at dksX9_pack_1 17 rfl rfl)
theorem dX9_pack_44 : decode cX9_pack 44 = .ok (.invokevirtual 71, 3) := dk_182 0 71 (dk_at dksX9_pack_1 20 rfl rfl)
theorem dX9_pack_47 : decode cX9_pack 47 = .ok (.return_, 1) := dk_177 (dk_at dksX9_pack_1 23 rfl rfl)
theorem q94 : (Jvm.Cond.initialized "NotationDesk$Numeric") ∈ lw_all := lw_g (lw_at lw_m1 9 rfl) rfl
theorem q241 : (Jvm.Cond.fieldLinkNest "NotationDesk$Numeric" (43 : Nat) "NotationDesk$Source" "store" "LNotationDesk$Store;" "NotationDesk") ∈ lw_tbl := lw_at lw_m1 156 rfl
theorem q401 : (Jvm.Cond.selects "NotationDesk$Numeric" ({ cls := "NotationDesk$Type", name := "height", desc := "()I" } : Jvm.MethodName) ({ cls := "NotationDesk$Simple", name := "height", desc := "()I" } : Jvm.MethodName)) ∈ lw_all := lw_g (lw_at lw_m2 76 rfl) rfl
theorem q413 : (Jvm.Cond.instantiable "NotationDesk$Numeric" (5 : Nat)) ∈ lw_all := lw_g (lw_at lw_m2 88 rfl) rfl
theorem q415 : (Jvm.Cond.instanceMethod ({ cls := "NotationDesk$Numeric", name := "<init>", desc := "()V" } : Jvm.MethodName)) ∈ lw_all := lw_g (lw_at lw_m2 90 rfl) rfl
theorem q416 : (Jvm.Cond.code ({ cls := "NotationDesk$Numeric", name := "<init>", desc := "()V" } : Jvm.MethodName) prog_5_method_1_code (1 : Nat) (Option.none : Option Jvm.ClassFile.FieldType)) ∈ lw_all := lw_g (lw_at lw_m2 91 rfl) rfl
theorem q417 : (Jvm.Cond.methodLinkNest "NotationDesk$Numeric" (3 : Nat) ({ cls := "NotationDesk$Simple", name := "<init>", desc := "()V" } : Jvm.MethodName) "NotationDesk") ∈ lw_tbl := lw_at lw_m2 92 rfl
theorem q424 : (Jvm.Cond.fieldLink "NotationDesk$Numeric" (9 : Nat) "NotationDesk$Numeric" "kind" "I") ∈ lw_all := lw_g (lw_at lw_m2 99 rfl) rfl
theorem q425 : (Jvm.Cond.fieldLink "NotationDesk$Numeric" (19 : Nat) "NotationDesk$Numeric" "isBound" "Z") ∈ lw_all := lw_g (lw_at lw_m2 100 rfl) rfl
theorem q426 : (Jvm.Cond.fieldLink "NotationDesk$Numeric" (23 : Nat) "NotationDesk$Numeric" "low" "I") ∈ lw_all := lw_g (lw_at lw_m2 101 rfl) rfl
theorem q427 : (Jvm.Cond.fieldLink "NotationDesk$Numeric" (26 : Nat) "NotationDesk$Numeric" "high" "I") ∈ lw_all := lw_g (lw_at lw_m2 102 rfl) rfl
theorem q429 : (Jvm.Cond.lays "NotationDesk$Numeric" "NotationDesk$Numeric" "kind" "I") ∈ lw_all := lw_g (lw_at lw_m2 104 rfl) rfl
theorem q430 : (Jvm.Cond.soleField "NotationDesk$Numeric" "kind") ∈ lw_all := lw_g (lw_at lw_m2 105 rfl) rfl
theorem q431 : (Jvm.Cond.lays "NotationDesk$Numeric" "NotationDesk$Numeric" "isBound" "Z") ∈ lw_all := lw_g (lw_at lw_m2 106 rfl) rfl
theorem q432 : (Jvm.Cond.soleField "NotationDesk$Numeric" "isBound") ∈ lw_all := lw_g (lw_at lw_m2 107 rfl) rfl
theorem q433 : (Jvm.Cond.lays "NotationDesk$Numeric" "NotationDesk$Numeric" "low" "I") ∈ lw_all := lw_g (lw_at lw_m2 108 rfl) rfl
theorem q434 : (Jvm.Cond.soleField "NotationDesk$Numeric" "low") ∈ lw_all := lw_g (lw_at lw_m2 109 rfl) rfl
theorem q435 : (Jvm.Cond.lays "NotationDesk$Numeric" "NotationDesk$Numeric" "high" "I") ∈ lw_all := lw_g (lw_at lw_m2 110 rfl) rfl
theorem q436 : (Jvm.Cond.soleField "NotationDesk$Numeric" "high") ∈ lw_all := lw_g (lw_at lw_m2 111 rfl) rfl
theorem q437 : (Jvm.Cond.lays "NotationDesk$Numeric" "NotationDesk$Simple" "tag" "I") ∈ lw_all := lw_g (lw_at lw_m2 112 rfl) rfl
theorem q439 : (Jvm.Cond.superclass "NotationDesk$Numeric" "NotationDesk$Simple") ∈ lw_all := lw_g (lw_at lw_m2 114 rfl) rfl
theorem q441 : (Jvm.Cond.instanceMethod ({ cls := "NotationDesk$Numeric", name := "become", desc := "(IIZII)LNotationDesk$Numeric;" } : Jvm.MethodName)) ∈ lw_all := lw_g (lw_at lw_m2 116 rfl) rfl
theorem q442 : (Jvm.Cond.selects "NotationDesk$Numeric" ({ cls := "NotationDesk$Numeric", name := "become", desc := "(IIZII)LNotationDesk$Numeric;" } : Jvm.MethodName) ({ cls := "NotationDesk$Numeric", name := "become", desc := "(IIZII)LNotationDesk$Numeric;" } : Jvm.MethodName)) ∈ lw_all := lw_g (lw_at lw_m2 117 rfl) rfl
theorem q443 : (Jvm.Cond.code ({ cls := "NotationDesk$Numeric", name := "become", desc := "(IIZII)LNotationDesk$Numeric;" } : Jvm.MethodName) prog_5_method_2_code (6 : Nat) (Option.some (Jvm.ClassFile.FieldType.object "NotationDesk$Numeric"))) ∈ lw_all := lw_g (lw_at lw_m2 118 rfl) rfl
theorem q444 : (Jvm.Cond.methodLink "NotationDesk$Numeric" (15 : Nat) ({ cls := "NotationDesk$Numeric", name := "marked", desc := "(I)V" } : Jvm.MethodName)) ∈ lw_all := lw_g (lw_at lw_m2 119 rfl) rfl
theorem q445 : (Jvm.Cond.sameMethod "NotationDesk$Numeric" "NotationDesk$Simple" "marked" "(I)V") ∈ lw_all := lw_g (lw_at lw_m2 120 rfl) rfl
theorem q447 : (Jvm.Cond.selects "NotationDesk$Numeric" ({ cls := "NotationDesk$Numeric", name := "marked", desc := "(I)V" } : Jvm.MethodName) ({ cls := "NotationDesk$Simple", name := "marked", desc := "(I)V" } : Jvm.MethodName)) ∈ lw_all := lw_g (lw_at lw_m2 122 rfl) rfl
theorem q508 : (Jvm.Cond.selects "NotationDesk$Numeric" ({ cls := "NotationDesk$Type", name := "holds", desc := "(I)Z" } : Jvm.MethodName) ({ cls := "NotationDesk$Numeric", name := "holds", desc := "(I)Z" } : Jvm.MethodName)) ∈ lw_all := lw_g (lw_at lw_m2 183 rfl) rfl
theorem q509 : (Jvm.Cond.instanceMethod ({ cls := "NotationDesk$Numeric", name := "holds", desc := "(I)Z" } : Jvm.MethodName)) ∈ lw_all := lw_g (lw_at lw_m2 184 rfl) rfl
theorem q510 : (Jvm.Cond.code ({ cls := "NotationDesk$Numeric", name := "holds", desc := "(I)Z" } : Jvm.MethodName) prog_5_method_3_code (2 : Nat) (Option.some Jvm.ClassFile.FieldType.boolean)) ∈ lw_all := lw_g (lw_at lw_m2 185 rfl) rfl
theorem q511 : (Jvm.Cond.methodLink "NotationDesk$Numeric" (29 : Nat) ({ cls := "NotationDesk$Numeric", name := "isRight", desc := "(I)Z" } : Jvm.MethodName)) ∈ lw_all := lw_g (lw_at lw_m2 186 rfl) rfl
theorem q512 : (Jvm.Cond.privateMethod ({ cls := "NotationDesk$Numeric", name := "isRight", desc := "(I)Z" } : Jvm.MethodName)) ∈ lw_tbl := lw_at lw_m2 187 rfl
theorem q513 : (Jvm.Cond.instanceMethod ({ cls := "NotationDesk$Numeric", name := "isRight", desc := "(I)Z" } : Jvm.MethodName)) ∈ lw_all := lw_g (lw_at lw_m2 188 rfl) rfl
theorem q514 : (Jvm.Cond.code ({ cls := "NotationDesk$Numeric", name := "isRight", desc := "(I)Z" } : Jvm.MethodName) prog_5_method_4_code (2 : Nat) (Option.some Jvm.ClassFile.FieldType.boolean)) ∈ lw_all := lw_g (lw_at lw_m2 189 rfl) rfl
theorem q515 : (Jvm.Cond.methodLinkNest "NotationDesk$Numeric" (33 : Nat) ({ cls := "NotationDesk", name := "outside", desc := "(III)Z" } : Jvm.MethodName) "NotationDesk") ∈ lw_tbl := lw_at lw_m2 190 rfl
theorem q557 : (Jvm.Cond.selects "NotationDesk$Numeric" ({ cls := "NotationDesk$Type", name := "tags", desc := "()I" } : Jvm.MethodName) ({ cls := "NotationDesk$Simple", name := "tags", desc := "()I" } : Jvm.MethodName)) ∈ lw_all := lw_g (lw_at lw_m2 232 rfl) rfl
theorem q666 : (Jvm.Cond.selects "NotationDesk$Numeric" ({ cls := "NotationDesk$Type", name := "isChoice", desc := "()Z" } : Jvm.MethodName) ({ cls := "NotationDesk$Type", name := "isChoice", desc := "()Z" } : Jvm.MethodName)) ∈ lw_all := lw_g (lw_at lw_m3 101 rfl) rfl
theorem q911 : (Jvm.Cond.fieldLinkNest "NotationDesk$Numeric" (61 : Nat) "NotationDesk$Part" "number" "I" "NotationDesk") ∈ lw_tbl := lw_at lw_m4 106 rfl
theorem q952 : (Jvm.Cond.instanceMethod ({ cls := "NotationDesk$Numeric", name := "unpack", desc := "(LNotationDesk$Source;)LNotationDesk$Part;" } : Jvm.MethodName)) ∈ lw_all := lw_g (lw_at lw_m4 147 rfl) rfl
theorem q953 : (Jvm.Cond.code ({ cls := "NotationDesk$Numeric", name := "unpack", desc := "(LNotationDesk$Source;)LNotationDesk$Part;" } : Jvm.MethodName) prog_5_method_9_code (5 : Nat) (Option.some (Jvm.ClassFile.FieldType.object "NotationDesk$Part"))) ∈ lw_all := lw_g (lw_at lw_m4 148 rfl) rfl
theorem q954 : (Jvm.Cond.methodLink "NotationDesk$Numeric" (74 : Nat) ({ cls := "NotationDesk$Source", name := "takeNumber", desc := "(II)I" } : Jvm.MethodName)) ∈ lw_all := lw_g (lw_at lw_m4 149 rfl) rfl
theorem q955 : (Jvm.Cond.methodLink "NotationDesk$Numeric" (78 : Nat) ({ cls := "NotationDesk$Source", name := "isThere", desc := "()Z" } : Jvm.MethodName)) ∈ lw_all := lw_g (lw_at lw_m4 150 rfl) rfl
theorem q956 : (Jvm.Cond.methodLink "NotationDesk$Numeric" (49 : Nat) ({ cls := "NotationDesk$Numeric", name := "given", desc := "(LNotationDesk$Store;I)LNotationDesk$Part;" } : Jvm.MethodName)) ∈ lw_all := lw_g (lw_at lw_m4 151 rfl) rfl
theorem q957 : (Jvm.Cond.instanceMethod ({ cls := "NotationDesk$Numeric", name := "given", desc := "(LNotationDesk$Store;I)LNotationDesk$Part;" } : Jvm.MethodName)) ∈ lw_all := lw_g (lw_at lw_m4 152 rfl) rfl
theorem q958 : (Jvm.Cond.selects "NotationDesk$Numeric" ({ cls := "NotationDesk$Numeric", name := "given", desc := "(LNotationDesk$Store;I)LNotationDesk$Part;" } : Jvm.MethodName) ({ cls := "NotationDesk$Numeric", name := "given", desc := "(LNotationDesk$Store;I)LNotationDesk$Part;" } : Jvm.MethodName)) ∈ lw_all := lw_g (lw_at lw_m4 153 rfl) rfl
theorem q959 : (Jvm.Cond.code ({ cls := "NotationDesk$Numeric", name := "given", desc := "(LNotationDesk$Store;I)LNotationDesk$Part;" } : Jvm.MethodName) prog_5_method_5_code (3 : Nat) (Option.some (Jvm.ClassFile.FieldType.object "NotationDesk$Part"))) ∈ lw_all := lw_g (lw_at lw_m4 154 rfl) rfl
theorem q960 : (Jvm.Cond.methodLink "NotationDesk$Numeric" (37 : Nat) ({ cls := "NotationDesk$Store", name := "make", desc := "(II)LNotationDesk$Part;" } : Jvm.MethodName)) ∈ lw_all := lw_g (lw_at lw_m4 155 rfl) rfl
theorem q961 : (Jvm.Cond.methodLink "NotationDesk$Numeric" (82 : Nat) ({ cls := "NotationDesk$Source", name := "take", desc := "(I)I" } : Jvm.MethodName)) ∈ lw_all := lw_g (lw_at lw_m4 156 rfl) rfl
theorem q962 : (Jvm.Cond.methodLinkNest "NotationDesk$Numeric" (57 : Nat) ({ cls := "NotationDesk", name := "bytesOf", desc := "(I)I" } : Jvm.MethodName) "NotationDesk") ∈ lw_tbl := lw_at lw_m4 157 rfl
theorem q1021 : (Jvm.Cond.selects "NotationDesk$Numeric" ({ cls := "NotationDesk$Type", name := "given", desc := "(LNotationDesk$Store;I)LNotationDesk$Part;" } : Jvm.MethodName) ({ cls := "NotationDesk$Numeric", name := "given", desc := "(LNotationDesk$Store;I)LNotationDesk$Part;" } : Jvm.MethodName)) ∈ lw_all := lw_g (lw_at lw_m4 216 rfl) rfl
theorem q1035 : (Jvm.Cond.selects "NotationDesk$Numeric" ({ cls := "NotationDesk$Type", name := "unpack", desc := "(LNotationDesk$Source;)LNotationDesk$Part;" } : Jvm.MethodName) ({ cls := "NotationDesk$Numeric", name := "unpack", desc := "(LNotationDesk$Source;)LNotationDesk$Part;" } : Jvm.MethodName)) ∈ lw_all := lw_g (lw_at lw_m4 230 rfl) rfl
theorem q1065 : (Jvm.Cond.selects "NotationDesk$Numeric" ({ cls := "NotationDesk$Simple", name := "readContent", desc := "(LNotationDesk$Source;I)LNotationDesk$Part;" } : Jvm.MethodName) ({ cls := "NotationDesk$Numeric", name := "readContent", desc := "(LNotationDesk$Source;I)LNotationDesk$Part;" } : Jvm.MethodName)) ∈ lw_all := lw_g (lw_at lw_m5 20 rfl) rfl
theorem q1066 : (Jvm.Cond.instanceMethod ({ cls := "NotationDesk$Numeric", name := "readContent", desc := "(LNotationDesk$Source;I)LNotationDesk$Part;" } : Jvm.MethodName)) ∈ lw_all := lw_g (lw_at lw_m5 21 rfl) rfl
theorem q1067 : (Jvm.Cond.code ({ cls := "NotationDesk$Numeric", name := "readContent", desc := "(LNotationDesk$Source;I)LNotationDesk$Part;" } : Jvm.MethodName) prog_5_method_6_code (5 : Nat) (Option.some (Jvm.ClassFile.FieldType.object "NotationDesk$Part"))) ∈ lw_all := lw_g (lw_at lw_m5 22 rfl) rfl
theorem q1068 : (Jvm.Cond.methodLink "NotationDesk$Numeric" (53 : Nat) ({ cls := "NotationDesk$Source", name := "next", desc := "()I" } : Jvm.MethodName)) ∈ lw_all := lw_g (lw_at lw_m5 23 rfl) rfl
theorem q1100 : (Jvm.Cond.selects "NotationDesk$Numeric" ({ cls := "NotationDesk$Type", name := "read", desc := "(LNotationDesk$Source;I)LNotationDesk$Part;" } : Jvm.MethodName) ({ cls := "NotationDesk$Simple", name := "read", desc := "(LNotationDesk$Source;I)LNotationDesk$Part;" } : Jvm.MethodName)) ∈ lw_all := lw_g (lw_at lw_m5 55 rfl) rfl
theorem q1125 : (Jvm.Cond.selects "NotationDesk$Numeric" ({ cls := "NotationDesk$Simple", name := "content", desc := "(LNotationDesk$Part;)I" } : Jvm.MethodName) ({ cls := "NotationDesk$Numeric", name := "content", desc := "(LNotationDesk$Part;)I" } : Jvm.MethodName)) ∈ lw_all := lw_g (lw_at lw_m5 80 rfl) rfl
theorem q1126 : (Jvm.Cond.instanceMethod ({ cls := "NotationDesk$Numeric", name := "content", desc := "(LNotationDesk$Part;)I" } : Jvm.MethodName)) ∈ lw_all := lw_g (lw_at lw_m5 81 rfl) rfl
theorem q1127 : (Jvm.Cond.code ({ cls := "NotationDesk$Numeric", name := "content", desc := "(LNotationDesk$Part;)I" } : Jvm.MethodName) prog_5_method_7_code (2 : Nat) (Option.some Jvm.ClassFile.FieldType.int)) ∈ lw_all := lw_g (lw_at lw_m5 82 rfl) rfl
theorem q1146 : (Jvm.Cond.selects "NotationDesk$Numeric" ({ cls := "NotationDesk$Simple", name := "writeContent", desc := "(LNotationDesk$Part;LNotationDesk$Writer;)V" } : Jvm.MethodName) ({ cls := "NotationDesk$Numeric", name := "writeContent", desc := "(LNotationDesk$Part;LNotationDesk$Writer;)V" } : Jvm.MethodName)) ∈ lw_all := lw_g (lw_at lw_m5 101 rfl) rfl
theorem q1147 : (Jvm.Cond.instanceMethod ({ cls := "NotationDesk$Numeric", name := "writeContent", desc := "(LNotationDesk$Part;LNotationDesk$Writer;)V" } : Jvm.MethodName)) ∈ lw_all := lw_g (lw_at lw_m5 102 rfl) rfl
theorem q1148 : (Jvm.Cond.code ({ cls := "NotationDesk$Numeric", name := "writeContent", desc := "(LNotationDesk$Part;LNotationDesk$Writer;)V" } : Jvm.MethodName) prog_5_method_8_code (3 : Nat) (Option.none : Option Jvm.ClassFile.FieldType)) ∈ lw_all := lw_g (lw_at lw_m5 103 rfl) rfl
theorem q1149 : (Jvm.Cond.methodLink "NotationDesk$Numeric" (66 : Nat) ({ cls := "NotationDesk$Writer", name := "add", desc := "(I)V" } : Jvm.MethodName)) ∈ lw_all := lw_g (lw_at lw_m5 104 rfl) rfl
theorem q1150 : (Jvm.Cond.methodLink "NotationDesk$Numeric" (71 : Nat) ({ cls := "NotationDesk$Writer", name := "putInt", desc := "(I)V" } : Jvm.MethodName)) ∈ lw_all := lw_g (lw_at lw_m5 105 rfl) rfl
theorem q1200 : (Jvm.Cond.selects "NotationDesk$Numeric" ({ cls := "NotationDesk$Type", name := "size", desc := "(LNotationDesk$Part;)I" } : Jvm.MethodName) ({ cls := "NotationDesk$Simple", name := "size", desc := "(LNotationDesk$Part;)I" } : Jvm.MethodName)) ∈ lw_all := lw_g (lw_at lw_m5 155 rfl) rfl
theorem q1215 : (Jvm.Cond.selects "NotationDesk$Numeric" ({ cls := "NotationDesk$Type", name := "write", desc := "(LNotationDesk$Part;LNotationDesk$Writer;I)V" } : Jvm.MethodName) ({ cls := "NotationDesk$Simple", name := "write", desc := "(LNotationDesk$Part;LNotationDesk$Writer;I)V" } : Jvm.MethodName)) ∈ lw_all := lw_g (lw_at lw_m5 170 rfl) rfl
theorem q1240 : (Jvm.Cond.instanceMethod ({ cls := "NotationDesk$Numeric", name := "pack", desc := "(LNotationDesk$Part;LNotationDesk$Writer;)V" } : Jvm.MethodName)) ∈ lw_all := lw_g (lw_at lw_m5 195 rfl) rfl
theorem q1241 : (Jvm.Cond.code ({ cls := "NotationDesk$Numeric", name := "pack", desc := "(LNotationDesk$Part;LNotationDesk$Writer;)V" } : Jvm.MethodName) prog_5_method_10_code (3 : Nat) (Option.none : Option Jvm.ClassFile.FieldType)) ∈ lw_all := lw_g (lw_at lw_m5 196 rfl) rfl
theorem q1242 : (Jvm.Cond.methodLink "NotationDesk$Numeric" (85 : Nat) ({ cls := "NotationDesk$Writer", name := "putNumber", desc := "(III)V" } : Jvm.MethodName)) ∈ lw_all := lw_g (lw_at lw_m5 197 rfl) rfl
theorem q1263 : (Jvm.Cond.selects "NotationDesk$Numeric" ({ cls := "NotationDesk$Type", name := "pack", desc := "(LNotationDesk$Part;LNotationDesk$Writer;)V" } : Jvm.MethodName) ({ cls := "NotationDesk$Numeric", name := "pack", desc := "(LNotationDesk$Part;LNotationDesk$Writer;)V" } : Jvm.MethodName)) ∈ lw_all := lw_g (lw_at lw_m5 218 rfl) rfl
theorem q1817 : (Jvm.Cond.castable "NotationDesk$Numeric" "java/lang/Object") ∈ lw_tbl := lw_at lw_m8 52 rfl
theorem q1833 : (Jvm.Cond.castable "NotationDesk$Numeric" "NotationDesk$Type") ∈ lw_tbl := lw_at lw_m8 68 rfl
theorem in_X9 : ∀ w ∈ wsX90, w ∈ lw_all := lw_in wsX90 [437, 429, 431, 433, 435] (by decide +kernel) (by decide +kernel)
/-! NotationDesk$Group -/
set_option maxRecDepth 100000
def RX10 : String := "NotationDesk$Group"
abbrev cX10_height : ByteArray := prog_4_method_3_code
def yX10_height : MethodName := ⟨RX10, "height", "()I"⟩
def dkwX10_height_2 : List UInt8 := [167, 255, 216, 27, 172]
abbrev dktX10_height_2 : List UInt8 := dkwX10_height_2 ++ []
def dkwX10_height_1 : List UInt8 := [161, 0, 17, 42, 180, 0, 7, 28, 50, 182, 0, 17, 4, 96, 167, 0, 4, 27, 60, 132, 2, 1]
abbrev dktX10_height_1 : List UInt8 := dkwX10_height_1 ++ dktX10_height_2
def dkwX10_height_0 : List UInt8 := [3, 60, 3, 61, 28, 42, 180, 0, 13, 162, 0, 38, 42, 180, 0, 7, 28, 50, 182, 0, 17, 27]
abbrev dktX10_height_0 : List UInt8 := dkwX10_height_0 ++ dktX10_height_1
theorem dksX10_height_0 : cX10_height.data.toList.drop 0 = dktX10_height_0 := by decide +kernel
theorem dksX10_height_1 : cX10_height.data.toList.drop 22 = dktX10_height_1 := dk_seg dksX10_height_0 22 rfl rfl
theorem dksX10_height_2 : cX10_height.data.toList.drop 44 = dktX10_height_2 := dk_seg dksX10_height_1 22 rfl rfl
theorem dX10_height_0 : decode cX10_height 0 = .ok (.iconst 0, 1) := dk_3 (dk_at dksX10_height_0 0 rfl rfl)
theorem dX10_height_1 : decode cX10_height 1 = .ok (.istore_n 1, 1) := dk_60 (dk_at dksX10_height_0 1 rfl rfl)
theorem dX10_height_2 : decode cX10_height 2 = .ok (.iconst 0, 1) := dk_3 (dk_at dksX10_height_0 2 rfl rfl)
theorem dX10_height_3 : decode cX10_height 3 = .ok (.istore_n 2, 1) := dk_61 (dk_at dksX10_height_0 3 rfl rfl)
theorem dX10_height_4 : decode cX10_height 4 = .ok (.iload_n 2, 1) := dk_28 (dk_at dksX10_height_0 4 rfl rfl)
theorem dX10_height_5 : decode cX10_height 5 = .ok (.aload_n 0, 1) := dk_42 (dk_at dksX10_height_0 5 rfl rfl)
theorem dX10_height_6 : decode cX10_height 6 = .ok (.getfield 13, 3) := dk_180 0 13 (dk_at dksX10_height_0 6 rfl rfl)
theorem dX10_height_9 : decode cX10_height 9 = .ok (.if_icmp .ge 38, 3) := dk_162 0 38 (dk_at dksX10_height_0 9 rfl rfl)
theorem dX10_height_12 : decode cX10_height 12 = .ok (.aload_n 0, 1) := dk_42 (dk_at dksX10_height_0 12 rfl rfl)
theorem dX10_height_13 : decode cX10_height 13 = .ok (.getfield 7, 3) := dk_180 0 7 (dk_at dksX10_height_0 13 rfl rfl)
theorem dX10_height_16 : decode cX10_height 16 = .ok (.iload_n 2, 1) := dk_28 (dk_at dksX10_height_0 16 rfl rfl)
theorem dX10_height_17 : decode cX10_height 17 = .ok (.aaload, 1) := dk_50 (dk_at dksX10_height_0 17 rfl rfl)
theorem dX10_height_18 : decode cX10_height 18 = .ok (.invokevirtual 17, 3) := dk_182 0 17 (dk_at dksX10_height_0 18 rfl rfl)
theorem dX10_height_21 : decode cX10_height 21 = .ok (.iload_n 1, 1) := dk_27 (dk_at dksX10_height_0 21 rfl rfl)
theorem dX10_height_22 : decode cX10_height 22 = .ok (.if_icmp .lt 17, 3) := dk_161 0 17 (dk_at dksX10_height_1 0 rfl rfl)
theorem dX10_height_25 : decode cX10_height 25 = .ok (.aload_n 0, 1) := dk_42 (dk_at dksX10_height_1 3 rfl rfl)
theorem dX10_height_26 : decode cX10_height 26 = .ok (.getfield 7, 3) := dk_180 0 7 (dk_at dksX10_height_1 4 rfl rfl)
theorem dX10_height_29 : decode cX10_height 29 = .ok (.iload_n 2, 1) := dk_28 (dk_at dksX10_height_1 7 rfl rfl)
theorem dX10_height_30 : decode cX10_height 30 = .ok (.aaload, 1) := dk_50 (dk_at dksX10_height_1 8 rfl rfl)
theorem dX10_height_31 : decode cX10_height 31 = .ok (.invokevirtual 17, 3) := dk_182 0 17 (dk_at dksX10_height_1 9 rfl rfl)
theorem dX10_height_34 : decode cX10_height 34 = .ok (.iconst 1, 1) := dk_4 (dk_at dksX10_height_1 12 rfl rfl)
theorem dX10_height_35 : decode cX10_height 35 = .ok (.iadd, 1) := dk_96 (dk_at dksX10_height_1 13 rfl rfl)
theorem dX10_height_36 : decode cX10_height 36 = .ok (.goto 4, 3) := dk_167 0 4 (dk_at dksX10_height_1 14 rfl rfl)
theorem dX10_height_39 : decode cX10_height 39 = .ok (.iload_n 1, 1) := dk_27 (dk_at dksX10_height_1 17 rfl rfl)
theorem dX10_height_40 : decode cX10_height 40 = .ok (.istore_n 1, 1) := dk_60 (dk_at dksX10_height_1 18 rfl rfl)
theorem dX10_height_41 : decode cX10_height 41 = .ok (.iinc 2 1, 3) := dk_132 2 1 (dk_at dksX10_height_1 19 rfl rfl)
theorem dX10_height_44 : decode cX10_height 44 = .ok (.goto (-40), 3) := dk_167 255 216 (dk_at dksX10_height_2 0 rfl rfl)
theorem dX10_height_47 : decode cX10_height 47 = .ok (.iload_n 1, 1) := dk_27 (dk_at dksX10_height_2 3 rfl rfl)
theorem dX10_height_48 : decode cX10_height 48 = .ok (.ireturn, 1) := dk_172 (dk_at dksX10_height_2 4 rfl rfl)
abbrev cX10_init : ByteArray := prog_4_method_1_code
def yX10_init : MethodName := ⟨RX10, "<init>", "()V"⟩
def dkwX10_init_0 : List UInt8 := [42, 183, 0, 1, 42, 16, 6, 189, 0, 2, 181, 0, 7, 177]
abbrev dktX10_init_0 : List UInt8 := dkwX10_init_0 ++ []
theorem dksX10_init_0 : cX10_init.data.toList.drop 0 = dktX10_init_0 := by decide +kernel
theorem dX10_init_0 : decode cX10_init 0 = .ok (.aload_n 0, 1) := dk_42 (dk_at dksX10_init_0 0 rfl rfl)
theorem dX10_init_1 : decode cX10_init 1 = .ok (.invokespecial 1, 3) := dk_183 0 1 (dk_at dksX10_init_0 1 rfl rfl)
theorem dX10_init_4 : decode cX10_init 4 = .ok (.aload_n 0, 1) := dk_42 (dk_at dksX10_init_0 4 rfl rfl)
theorem dX10_init_5 : decode cX10_init 5 = .ok (.bipush 6, 2) := dk_16 6 (dk_at dksX10_init_0 5 rfl rfl)
theorem dX10_init_7 : decode cX10_init 7 = .ok (.anewarray 2, 3) := dk_189 0 2 (dk_at dksX10_init_0 7 rfl rfl)
theorem dX10_init_10 : decode cX10_init 10 = .ok (.putfield 7, 3) := dk_181 0 7 (dk_at dksX10_init_0 10 rfl rfl)
theorem dX10_init_13 : decode cX10_init 13 = .ok (.return_, 1) := dk_177 (dk_at dksX10_init_0 13 rfl rfl)
abbrev cX10_put : ByteArray := prog_4_method_2_code
def yX10_put : MethodName := ⟨RX10, "put", "(LNotationDesk$Type;)V"⟩
def dkwX10_put_0 : List UInt8 := [42, 180, 0, 7, 42, 180, 0, 13, 43, 83, 42, 89, 180, 0, 13, 4, 96, 181, 0, 13, 177]
abbrev dktX10_put_0 : List UInt8 := dkwX10_put_0 ++ []
theorem dksX10_put_0 : cX10_put.data.toList.drop 0 = dktX10_put_0 := by decide +kernel
theorem dX10_put_0 : decode cX10_put 0 = .ok (.aload_n 0, 1) := dk_42 (dk_at dksX10_put_0 0 rfl rfl)
theorem dX10_put_1 : decode cX10_put 1 = .ok (.getfield 7, 3) := dk_180 0 7 (dk_at dksX10_put_0 1 rfl rfl)
theorem dX10_put_4 : decode cX10_put 4 = .ok (.aload_n 0, 1) := dk_42 (dk_at dksX10_put_0 4 rfl rfl)
theorem dX10_put_5 : decode cX10_put 5 = .ok (.getfield 13, 3) := dk_180 0 13 (dk_at dksX10_put_0 5 rfl rfl)
theorem dX10_put_8 : decode cX10_put 8 = .ok (.aload_n 1, 1) := dk_43 (dk_at dksX10_put_0 8 rfl rfl)
theorem dX10_put_9 : decode cX10_put 9 = .ok (.aastore, 1) := dk_83 (dk_at dksX10_put_0 9 rfl rfl)
theorem dX10_put_10 : decode cX10_put 10 = .ok (.aload_n 0, 1) := dk_42 (dk_at dksX10_put_0 10 rfl rfl)
theorem dX10_put_11 : decode cX10_put 11 = .ok (.dup, 1) := dk_89 (dk_at dksX10_put_0 11 rfl rfl)
theorem dX10_put_12 : decode cX10_put 12 = .ok (.getfield 13, 3) := dk_180 0 13 (dk_at dksX10_put_0 12 rfl rfl)
theorem dX10_put_15 : decode cX10_put 15 = .ok (.iconst 1, 1) := dk_4 (dk_at dksX10_put_0 15 rfl rfl)
theorem dX10_put_16 : decode cX10_put 16 = .ok (.iadd, 1) := dk_96 (dk_at dksX10_put_0 16 rfl rfl)
theorem dX10_put_17 : decode cX10_put 17 = .ok (.putfield 13, 3) := dk_181 0 13 (dk_at dksX10_put_0 17 rfl rfl)
theorem dX10_put_20 : decode cX10_put 20 = .ok (.return_, 1) := dk_177 (dk_at dksX10_put_0 20 rfl rfl)
theorem q95 : (Jvm.Cond.initialized "NotationDesk$Group") ∈ lw_all := lw_g (lw_at lw_m1 10 rfl) rfl
theorem q390 : (Jvm.Cond.instanceMethod ({ cls := "NotationDesk$Group", name := "height", desc := "()I" } : Jvm.MethodName)) ∈ lw_all := lw_g (lw_at lw_m2 65 rfl) rfl
theorem q391 : (Jvm.Cond.code ({ cls := "NotationDesk$Group", name := "height", desc := "()I" } : Jvm.MethodName) prog_4_method_3_code (3 : Nat) (Option.some Jvm.ClassFile.FieldType.int)) ∈ lw_all := lw_g (lw_at lw_m2 66 rfl) rfl
theorem q392 : (Jvm.Cond.methodLink "NotationDesk$Group" (17 : Nat) ({ cls := "NotationDesk$Type", name := "height", desc := "()I" } : Jvm.MethodName)) ∈ lw_all := lw_g (lw_at lw_m2 67 rfl) rfl
theorem q471 : (Jvm.Cond.instanceMethod ({ cls := "NotationDesk$Group", name := "<init>", desc := "()V" } : Jvm.MethodName)) ∈ lw_all := lw_g (lw_at lw_m2 146 rfl) rfl
theorem q472 : (Jvm.Cond.code ({ cls := "NotationDesk$Group", name := "<init>", desc := "()V" } : Jvm.MethodName) prog_4_method_1_code (1 : Nat) (Option.none : Option Jvm.ClassFile.FieldType)) ∈ lw_all := lw_g (lw_at lw_m2 147 rfl) rfl
theorem q473 : (Jvm.Cond.methodLinkNest "NotationDesk$Group" (1 : Nat) ({ cls := "NotationDesk$Type", name := "<init>", desc := "()V" } : Jvm.MethodName) "NotationDesk") ∈ lw_tbl := lw_at lw_m2 148 rfl
theorem q474 : (Jvm.Cond.classLink "NotationDesk$Group" (2 : Nat) "NotationDesk$Type") ∈ lw_all := lw_g (lw_at lw_m2 149 rfl) rfl
theorem q479 : (Jvm.Cond.fieldLink "NotationDesk$Group" (7 : Nat) "NotationDesk$Group" "types" "[LNotationDesk$Type;") ∈ lw_all := lw_g (lw_at lw_m2 154 rfl) rfl
theorem q484 : (Jvm.Cond.fieldLink "NotationDesk$Group" (13 : Nat) "NotationDesk$Group" "count" "I") ∈ lw_all := lw_g (lw_at lw_m2 159 rfl) rfl
theorem q496 : (Jvm.Cond.soleField "NotationDesk$Group" "types") ∈ lw_all := lw_g (lw_at lw_m2 171 rfl) rfl
theorem q498 : (Jvm.Cond.soleField "NotationDesk$Group" "count") ∈ lw_all := lw_g (lw_at lw_m2 173 rfl) rfl
theorem q528 : (Jvm.Cond.declares ({ cls := "NotationDesk$Group", name := "put", desc := "(LNotationDesk$Type;)V" } : Jvm.MethodName)) ∈ lw_tbl := lw_at lw_m2 203 rfl
theorem q530 : (Jvm.Cond.instanceMethod ({ cls := "NotationDesk$Group", name := "put", desc := "(LNotationDesk$Type;)V" } : Jvm.MethodName)) ∈ lw_all := lw_g (lw_at lw_m2 205 rfl) rfl
theorem q531 : (Jvm.Cond.code ({ cls := "NotationDesk$Group", name := "put", desc := "(LNotationDesk$Type;)V" } : Jvm.MethodName) prog_4_method_2_code (2 : Nat) (Option.none : Option Jvm.ClassFile.FieldType)) ∈ lw_all := lw_g (lw_at lw_m2 206 rfl) rfl
/-! NotationDesk$Sequence -/
set_option maxRecDepth 100000
def RX11 : String := "NotationDesk$Sequence"
def TX11 : u_T := fun k => match k with
  | 0 => ("NotationDesk$Group", "types", "[LNotationDesk$Type;", true)
  | 1 => ("NotationDesk$Group", "count", "I", false)
  | 2 => ("NotationDesk$Sequence", "ways", "[I", true)
  | _ => ("NotationDesk$Sequence", "defaults", "[I", true)
def tyX11 : Nat → FieldType := fun k => match k with
  | 0 => .array (.object "NotationDesk$Type")
  | 1 => .int
  | 2 => .array .int
  | _ => .array .int
abbrev wsX110 : List Cond := u_ws RX11 TX11 4
theorem nmX11 : ∀ a, a < 4 → ∀ b, b < 4 → a ≠ b → (TX11 a).2.1 ≠ (TX11 b).2.1 := by decide +kernel
theorem tyX11_ok : ∀ k, k < 4 → parseFieldDescriptor (TX11 k).2.2.1 = some (tyX11 k) := by decide +kernel
abbrev cX11_init : ByteArray := prog_8_method_1_code
def yX11_init : MethodName := ⟨RX11, "<init>", "()V"⟩
def dkwX11_init_0 : List UInt8 := [42, 183, 0, 3, 42, 16, 6, 188, 10, 181, 0, 9, 42, 16, 6, 188, 10, 181, 0, 15, 177]
abbrev dktX11_init_0 : List UInt8 := dkwX11_init_0 ++ []
theorem dksX11_init_0 : cX11_init.data.toList.drop 0 = dktX11_init_0 := by decide +kernel
theorem dX11_init_0 : decode cX11_init 0 = .ok (.aload_n 0, 1) := dk_42 (dk_at dksX11_init_0 0 rfl rfl)
theorem dX11_init_1 : decode cX11_init 1 = .ok (.invokespecial 3, 3) := dk_183 0 3 (dk_at dksX11_init_0 1 rfl rfl)
theorem dX11_init_4 : decode cX11_init 4 = .ok (.aload_n 0, 1) := dk_42 (dk_at dksX11_init_0 4 rfl rfl)
theorem dX11_init_5 : decode cX11_init 5 = .ok (.bipush 6, 2) := dk_16 6 (dk_at dksX11_init_0 5 rfl rfl)
theorem dX11_init_7 : decode cX11_init 7 = .ok (.newarray .int, 2) := dk_188_10 (dk_at dksX11_init_0 7 rfl rfl)
theorem dX11_init_9 : decode cX11_init 9 = .ok (.putfield 9, 3) := dk_181 0 9 (dk_at dksX11_init_0 9 rfl rfl)
theorem dX11_init_12 : decode cX11_init 12 = .ok (.aload_n 0, 1) := dk_42 (dk_at dksX11_init_0 12 rfl rfl)
theorem dX11_init_13 : decode cX11_init 13 = .ok (.bipush 6, 2) := dk_16 6 (dk_at dksX11_init_0 13 rfl rfl)
theorem dX11_init_15 : decode cX11_init 15 = .ok (.newarray .int, 2) := dk_188_10 (dk_at dksX11_init_0 15 rfl rfl)
theorem dX11_init_17 : decode cX11_init 17 = .ok (.putfield 15, 3) := dk_181 0 15 (dk_at dksX11_init_0 17 rfl rfl)
theorem dX11_init_20 : decode cX11_init 20 = .ok (.return_, 1) := dk_177 (dk_at dksX11_init_0 20 rfl rfl)
abbrev cX11_isDistinct : ByteArray := prog_8_method_3_code
def yX11_isDistinct : MethodName := ⟨RX11, "isDistinct", "()Z"⟩
def dkwX11_isDistinct_2 : List UInt8 := [153, 0, 5, 3, 172, 132, 2, 255, 167, 255, 216, 132, 1, 1, 167, 255, 198, 4, 172]
abbrev dktX11_isDistinct_2 : List UInt8 := dkwX11_isDistinct_2 ++ []
def dkwX11_isDistinct_1 : List UInt8 := [153, 0, 33, 42, 180, 0, 23, 28, 50, 182, 0, 27, 42, 180, 0, 23, 27, 50, 182, 0, 27, 126]
abbrev dktX11_isDistinct_1 : List UInt8 := dkwX11_isDistinct_1 ++ dktX11_isDistinct_2
def dkwX11_isDistinct_0 : List UInt8 := [3, 60, 27, 42, 180, 0, 19, 162, 0, 56, 27, 4, 100, 61, 28, 155, 0, 42, 42, 180, 0, 9, 28, 46]
abbrev dktX11_isDistinct_0 : List UInt8 := dkwX11_isDistinct_0 ++ dktX11_isDistinct_1
theorem dksX11_isDistinct_0 : cX11_isDistinct.data.toList.drop 0 = dktX11_isDistinct_0 := by decide +kernel
theorem dksX11_isDistinct_1 : cX11_isDistinct.data.toList.drop 24 = dktX11_isDistinct_1 := dk_seg dksX11_isDistinct_0 24 rfl rfl
theorem dksX11_isDistinct_2 : cX11_isDistinct.data.toList.drop 46 = dktX11_isDistinct_2 := dk_seg dksX11_isDistinct_1 22 rfl rfl
theorem dX11_isDistinct_0 : decode cX11_isDistinct 0 = .ok (.iconst 0, 1) := dk_3 (dk_at dksX11_isDistinct_0 0 rfl rfl)
theorem dX11_isDistinct_1 : decode cX11_isDistinct 1 = .ok (.istore_n 1, 1) := dk_60 (dk_at dksX11_isDistinct_0 1 rfl rfl)
theorem dX11_isDistinct_2 : decode cX11_isDistinct 2 = .ok (.iload_n 1, 1) := dk_27 (dk_at dksX11_isDistinct_0 2 rfl rfl)
theorem dX11_isDistinct_3 : decode cX11_isDistinct 3 = .ok (.aload_n 0, 1) := dk_42 (dk_at dksX11_isDistinct_0 3 rfl rfl)
theorem dX11_isDistinct_4 : decode cX11_isDistinct 4 = .ok (.getfield 19, 3) := dk_180 0 19 (dk_at dksX11_isDistinct_0 4 rfl rfl)
theorem dX11_isDistinct_7 : decode cX11_isDistinct 7 = .ok (.if_icmp .ge 56, 3) := dk_162 0 56 (dk_at dksX11_isDistinct_0 7 rfl rfl)
theorem dX11_isDistinct_10 : decode cX11_isDistinct 10 = .ok (.iload_n 1, 1) := dk_27 (dk_at dksX11_isDistinct_0 10 rfl rfl)
theorem dX11_isDistinct_11 : decode cX11_isDistinct 11 = .ok (.iconst 1, 1) := dk_4 (dk_at dksX11_isDistinct_0 11 rfl rfl)
theorem dX11_isDistinct_12 : decode cX11_isDistinct 12 = .ok (.isub, 1) := dk_100 (dk_at dksX11_isDistinct_0 12 rfl rfl)
theorem dX11_isDistinct_13 : decode cX11_isDistinct 13 = .ok (.istore_n 2, 1) := dk_61 (dk_at dksX11_isDistinct_0 13 rfl rfl)
theorem dX11_isDistinct_14 : decode cX11_isDistinct 14 = .ok (.iload_n 2, 1) := dk_28 (dk_at dksX11_isDistinct_0 14 rfl rfl)
theorem dX11_isDistinct_15 : decode cX11_isDistinct 15 = .ok (.ifCond .lt 42, 3) := dk_155 0 42 (dk_at dksX11_isDistinct_0 15 rfl rfl)
theorem dX11_isDistinct_18 : decode cX11_isDistinct 18 = .ok (.aload_n 0, 1) := dk_42 (dk_at dksX11_isDistinct_0 18 rfl rfl)
theorem dX11_isDistinct_19 : decode cX11_isDistinct 19 = .ok (.getfield 9, 3) := dk_180 0 9 (dk_at dksX11_isDistinct_0 19 rfl rfl)
theorem dX11_isDistinct_22 : decode cX11_isDistinct 22 = .ok (.iload_n 2, 1) := dk_28 (dk_at dksX11_isDistinct_0 22 rfl rfl)
theorem dX11_isDistinct_23 : decode cX11_isDistinct 23 = .ok (.iaload, 1) := dk_46 (dk_at dksX11_isDistinct_0 23 rfl rfl)
theorem dX11_isDistinct_24 : decode cX11_isDistinct 24 = .ok (.ifCond .eq 33, 3) := dk_153 0 33 (dk_at dksX11_isDistinct_1 0 rfl rfl)
theorem dX11_isDistinct_27 : decode cX11_isDistinct 27 = .ok (.aload_n 0, 1) := dk_42 (dk_at dksX11_isDistinct_1 3 rfl rfl)
theorem dX11_isDistinct_28 : decode cX11_isDistinct 28 = .ok (.getfield 23, 3) := dk_180 0 23 (dk_at dksX11_isDistinct_1 4 rfl rfl)
theorem dX11_isDistinct_31 : decode cX11_isDistinct 31 = .ok (.iload_n 2, 1) := dk_28 (dk_at dksX11_isDistinct_1 7 rfl rfl)
theorem dX11_isDistinct_32 : decode cX11_isDistinct 32 = .ok (.aaload, 1) := dk_50 (dk_at dksX11_isDistinct_1 8 rfl rfl)
theorem dX11_isDistinct_33 : decode cX11_isDistinct 33 = .ok (.invokevirtual 27, 3) := dk_182 0 27 (dk_at dksX11_isDistinct_1 9 rfl rfl)
theorem dX11_isDistinct_36 : decode cX11_isDistinct 36 = .ok (.aload_n 0, 1) := dk_42 (dk_at dksX11_isDistinct_1 12 rfl rfl)
theorem dX11_isDistinct_37 : decode cX11_isDistinct 37 = .ok (.getfield 23, 3) := dk_180 0 23 (dk_at dksX11_isDistinct_1 13 rfl rfl)
theorem dX11_isDistinct_40 : decode cX11_isDistinct 40 = .ok (.iload_n 1, 1) := dk_27 (dk_at dksX11_isDistinct_1 16 rfl rfl)
theorem dX11_isDistinct_41 : decode cX11_isDistinct 41 = .ok (.aaload, 1) := dk_50 (dk_at dksX11_isDistinct_1 17 rfl rfl)
theorem dX11_isDistinct_42 : decode cX11_isDistinct 42 = .ok (.invokevirtual 27, 3) := dk_182 0 27 (dk_at dksX11_isDistinct_1 18 rfl rfl)
theorem dX11_isDistinct_45 : decode cX11_isDistinct 45 = .ok (.iand, 1) := dk_126 (dk_at dksX11_isDistinct_1 21 rfl rfl)
theorem dX11_isDistinct_46 : decode cX11_isDistinct 46 = .ok (.ifCond .eq 5, 3) := dk_153 0 5 (dk_at dksX11_isDistinct_2 0 rfl rfl)
theorem dX11_isDistinct_49 : decode cX11_isDistinct 49 = .ok (.iconst 0, 1) := dk_3 (dk_at dksX11_isDistinct_2 3 rfl rfl)
theorem dX11_isDistinct_50 : decode cX11_isDistinct 50 = .ok (.ireturn, 1) := dk_172 (dk_at dksX11_isDistinct_2 4 rfl rfl)
theorem dX11_isDistinct_51 : decode cX11_isDistinct 51 = .ok (.iinc 2 (-1), 3) := dk_132 2 255 (dk_at dksX11_isDistinct_2 5 rfl rfl)
theorem dX11_isDistinct_54 : decode cX11_isDistinct 54 = .ok (.goto (-40), 3) := dk_167 255 216 (dk_at dksX11_isDistinct_2 8 rfl rfl)
theorem dX11_isDistinct_57 : decode cX11_isDistinct 57 = .ok (.iinc 1 1, 3) := dk_132 1 1 (dk_at dksX11_isDistinct_2 11 rfl rfl)
theorem dX11_isDistinct_60 : decode cX11_isDistinct 60 = .ok (.goto (-58), 3) := dk_167 255 198 (dk_at dksX11_isDistinct_2 14 rfl rfl)
theorem dX11_isDistinct_63 : decode cX11_isDistinct 63 = .ok (.iconst 1, 1) := dk_4 (dk_at dksX11_isDistinct_2 17 rfl rfl)
theorem dX11_isDistinct_64 : decode cX11_isDistinct 64 = .ok (.ireturn, 1) := dk_172 (dk_at dksX11_isDistinct_2 18 rfl rfl)
abbrev cX11_tags : ByteArray := prog_8_method_2_code
def yX11_tags : MethodName := ⟨RX11, "tags", "()I"⟩
theorem dX11_tags_0 : decode cX11_tags 0 = .ok (.ldc 18, 2) := by decide +kernel
theorem dX11_tags_2 : decode cX11_tags 2 = .ok (.ireturn, 1) := by decide +kernel
abbrev cX11_unpack : ByteArray := prog_8_method_10_code
def yX11_unpack : MethodName := ⟨RX11, "unpack", "(LNotationDesk$Source;)LNotationDesk$Part;"⟩
def dkwX11_unpack_6 : List UInt8 := [45, 176]
abbrev dktX11_unpack_6 : List UInt8 := dkwX11_unpack_6 ++ []
def dkwX11_unpack_5 : List UInt8 := [167, 0, 4, 1, 21, 5, 43, 180, 0, 56, 182, 0, 73, 154, 0, 5, 1, 78, 132, 4, 1, 167, 255, 185]
abbrev dktX11_unpack_5 : List UInt8 := dkwX11_unpack_5 ++ dktX11_unpack_6
def dkwX11_unpack_4 : List UInt8 := [3, 54, 5, 42, 45, 21, 4, 21, 5, 153, 0, 17, 42, 180, 0, 23, 21, 4, 50, 43, 182, 0, 111]
abbrev dktX11_unpack_4 : List UInt8 := dkwX11_unpack_4 ++ dktX11_unpack_5
def dkwX11_unpack_3 : List UInt8 := [180, 0, 19, 162, 0, 68, 45, 198, 0, 64, 28, 21, 4, 122, 4, 126, 4, 160, 0, 7, 4, 167, 0, 4]
abbrev dktX11_unpack_3 : List UInt8 := dkwX11_unpack_3 ++ dktX11_unpack_4
def dkwX11_unpack_2 : List UInt8 := [153, 0, 16, 43, 180, 0, 56, 16, 6, 3, 182, 0, 60, 167, 0, 4, 1, 78, 3, 54, 4, 21, 4, 42]
abbrev dktX11_unpack_2 : List UInt8 := dkwX11_unpack_2 ++ dktX11_unpack_3
def dkwX11_unpack_1 : List UInt8 := [167, 0, 8, 43, 4, 182, 0, 105, 29, 120, 128, 61, 132, 3, 1, 167, 255, 222, 43, 182, 0, 108]
abbrev dktX11_unpack_1 : List UInt8 := dkwX11_unpack_1 ++ dktX11_unpack_2
def dkwX11_unpack_0 : List UInt8 := [3, 61, 3, 62, 29, 42, 180, 0, 19, 162, 0, 32, 28, 42, 180, 0, 9, 29, 46, 154, 0, 7, 4]
abbrev dktX11_unpack_0 : List UInt8 := dkwX11_unpack_0 ++ dktX11_unpack_1
theorem dksX11_unpack_0 : cX11_unpack.data.toList.drop 0 = dktX11_unpack_0 := by decide +kernel
theorem dksX11_unpack_1 : cX11_unpack.data.toList.drop 23 = dktX11_unpack_1 := dk_seg dksX11_unpack_0 23 rfl rfl
theorem dksX11_unpack_2 : cX11_unpack.data.toList.drop 45 = dktX11_unpack_2 := dk_seg dksX11_unpack_1 22 rfl rfl
theorem dksX11_unpack_3 : cX11_unpack.data.toList.drop 69 = dktX11_unpack_3 := dk_seg dksX11_unpack_2 24 rfl rfl
theorem dksX11_unpack_4 : cX11_unpack.data.toList.drop 93 = dktX11_unpack_4 := dk_seg dksX11_unpack_3 24 rfl rfl
theorem dksX11_unpack_5 : cX11_unpack.data.toList.drop 116 = dktX11_unpack_5 := dk_seg dksX11_unpack_4 23 rfl rfl
theorem dksX11_unpack_6 : cX11_unpack.data.toList.drop 140 = dktX11_unpack_6 := dk_seg dksX11_unpack_5 24 rfl rfl
theorem dX11_unpack_0 : decode cX11_unpack 0 = .ok (.iconst 0, 1) := dk_3 (dk_at dksX11_unpack_0 0 rfl rfl)
theorem dX11_unpack_1 : decode cX11_unpack 1 = .ok (.istore_n 2, 1) := dk_61 (dk_at dksX11_unpack_0 1 rfl rfl)
theorem dX11_unpack_2 : decode cX11_unpack 2 = .ok (.iconst 0, 1) := dk_3 (dk_at dksX11_unpack_0 2 rfl rfl)
theorem dX11_unpack_3 : decode cX11_unpack 3 = .ok (.istore_n 3, 1) := dk_62 (dk_at dksX11_unpack_0 3 rfl rfl)
theorem dX11_unpack_4 : decode cX11_unpack 4 = .ok (.iload_n 3, 1) := dk_29 (dk_at dksX11_unpack_0 4 rfl rfl)
theorem dX11_unpack_5 : decode cX11_unpack 5 = .ok (.aload_n 0, 1) := dk_42 (dk_at dksX11_unpack_0 5 rfl rfl)
theorem dX11_unpack_6 : decode cX11_unpack 6 = .ok (.getfield 19, 3) := dk_180 0 19 (dk_at dksX11_unpack_0 6 rfl rfl)
theorem dX11_unpack_9 : decode cX11_unpack 9 = .ok (.if_icmp .ge 32, 3) := dk_162 0 32 (dk_at dksX11_unpack_0 9 rfl rfl)
theorem dX11_unpack_12 : decode cX11_unpack 12 = .ok (.iload_n 2, 1) := dk_28 (dk_at dksX11_unpack_0 12 rfl rfl)
theorem dX11_unpack_13 : decode cX11_unpack 13 = .ok (.aload_n 0, 1) := dk_42 (dk_at dksX11_unpack_0 13 rfl rfl)
theorem dX11_unpack_14 : decode cX11_unpack 14 = .ok (.getfield 9, 3) := dk_180 0 9 (dk_at dksX11_unpack_0 14 rfl rfl)
theorem dX11_unpack_17 : decode cX11_unpack 17 = .ok (.iload_n 3, 1) := dk_29 (dk_at dksX11_unpack_0 17 rfl rfl)
theorem dX11_unpack_18 : decode cX11_unpack 18 = .ok (.iaload, 1) := dk_46 (dk_at dksX11_unpack_0 18 rfl rfl)
theorem dX11_unpack_19 : decode cX11_unpack 19 = .ok (.ifCond .ne 7, 3) := dk_154 0 7 (dk_at dksX11_unpack_0 19 rfl rfl)
theorem dX11_unpack_22 : decode cX11_unpack 22 = .ok (.iconst 1, 1) := dk_4 (dk_at dksX11_unpack_0 22 rfl rfl)
theorem dX11_unpack_23 : decode cX11_unpack 23 = .ok (.goto 8, 3) := dk_167 0 8 (dk_at dksX11_unpack_1 0 rfl rfl)
theorem dX11_unpack_26 : decode cX11_unpack 26 = .ok (.aload_n 1, 1) := dk_43 (dk_at dksX11_unpack_1 3 rfl rfl)
theorem dX11_unpack_27 : decode cX11_unpack 27 = .ok (.iconst 1, 1) := dk_4 (dk_at dksX11_unpack_1 4 rfl rfl)
theorem dX11_unpack_28 : decode cX11_unpack 28 = .ok (.invokevirtual 105, 3) := dk_182 0 105 (dk_at dksX11_unpack_1 5 rfl rfl)
theorem dX11_unpack_31 : decode cX11_unpack 31 = .ok (.iload_n 3, 1) := dk_29 (dk_at dksX11_unpack_1 8 rfl rfl)
theorem dX11_unpack_32 : decode cX11_unpack 32 = .ok (.ishl, 1) := dk_120 (dk_at dksX11_unpack_1 9 rfl rfl)
theorem dX11_unpack_33 : decode cX11_unpack 33 = .ok (.ior, 1) := dk_128 (dk_at dksX11_unpack_1 10 rfl rfl)
theorem dX11_unpack_34 : decode cX11_unpack 34 = .ok (.istore_n 2, 1) := dk_61 (dk_at dksX11_unpack_1 11 rfl rfl)
theorem dX11_unpack_35 : decode cX11_unpack 35 = .ok (.iinc 3 1, 3) := dk_132 3 1 (dk_at dksX11_unpack_1 12 rfl rfl)
theorem dX11_unpack_38 : decode cX11_unpack 38 = .ok (.goto (-34), 3) := dk_167 255 222 (dk_at dksX11_unpack_1 15 rfl rfl)
theorem dX11_unpack_41 : decode cX11_unpack 41 = .ok (.aload_n 1, 1) := dk_43 (dk_at dksX11_unpack_1 18 rfl rfl)
theorem dX11_unpack_42 : decode cX11_unpack 42 = .ok (.invokevirtual 108, 3) := dk_182 0 108 (dk_at dksX11_unpack_1 19 rfl rfl)
theorem dX11_unpack_45 : decode cX11_unpack 45 = .ok (.ifCond .eq 16, 3) := dk_153 0 16 (dk_at dksX11_unpack_2 0 rfl rfl)
theorem dX11_unpack_48 : decode cX11_unpack 48 = .ok (.aload_n 1, 1) := dk_43 (dk_at dksX11_unpack_2 3 rfl rfl)
theorem dX11_unpack_49 : decode cX11_unpack 49 = .ok (.getfield 56, 3) := dk_180 0 56 (dk_at dksX11_unpack_2 4 rfl rfl)
theorem dX11_unpack_52 : decode cX11_unpack 52 = .ok (.bipush 6, 2) := dk_16 6 (dk_at dksX11_unpack_2 7 rfl rfl)
theorem dX11_unpack_54 : decode cX11_unpack 54 = .ok (.iconst 0, 1) := dk_3 (dk_at dksX11_unpack_2 9 rfl rfl)
theorem dX11_unpack_55 : decode cX11_unpack 55 = .ok (.invokevirtual 60, 3) := dk_182 0 60 (dk_at dksX11_unpack_2 10 rfl rfl)
theorem dX11_unpack_58 : decode cX11_unpack 58 = .ok (.goto 4, 3) := dk_167 0 4 (dk_at dksX11_unpack_2 13 rfl rfl)
theorem dX11_unpack_61 : decode cX11_unpack 61 = .ok (.aconst_null, 1) := dk_1 (dk_at dksX11_unpack_2 16 rfl rfl)
theorem dX11_unpack_62 : decode cX11_unpack 62 = .ok (.astore_n 3, 1) := dk_78 (dk_at dksX11_unpack_2 17 rfl rfl)
theorem dX11_unpack_63 : decode cX11_unpack 63 = .ok (.iconst 0, 1) := dk_3 (dk_at dksX11_unpack_2 18 rfl rfl)
theorem dX11_unpack_64 : decode cX11_unpack 64 = .ok (.istore 4, 2) := dk_54 4 (dk_at dksX11_unpack_2 19 rfl rfl)
theorem dX11_unpack_66 : decode cX11_unpack 66 = .ok (.iload 4, 2) := dk_21 4 (dk_at dksX11_unpack_2 21 rfl rfl)
theorem dX11_unpack_68 : decode cX11_unpack 68 = .ok (.aload_n 0, 1) := dk_42 (dk_at dksX11_unpack_2 23 rfl rfl)
theorem dX11_unpack_69 : decode cX11_unpack 69 = .ok (.getfield 19, 3) := dk_180 0 19 (dk_at dksX11_unpack_3 0 rfl rfl)
theorem dX11_unpack_72 : decode cX11_unpack 72 = .ok (.if_icmp .ge 68, 3) := dk_162 0 68 (dk_at dksX11_unpack_3 3 rfl rfl)
theorem dX11_unpack_75 : decode cX11_unpack 75 = .ok (.aload_n 3, 1) := dk_45 (dk_at dksX11_unpack_3 6 rfl rfl)
theorem dX11_unpack_76 : decode cX11_unpack 76 = .ok (.ifnull 64, 3) := dk_198 0 64 (dk_at dksX11_unpack_3 7 rfl rfl)
theorem dX11_unpack_79 : decode cX11_unpack 79 = .ok (.iload_n 2, 1) := dk_28 (dk_at dksX11_unpack_3 10 rfl rfl)
theorem dX11_unpack_80 : decode cX11_unpack 80 = .ok (.iload 4, 2) := dk_21 4 (dk_at dksX11_unpack_3 11 rfl rfl)
theorem dX11_unpack_82 : decode cX11_unpack 82 = .ok (.ishr, 1) := dk_122 (dk_at dksX11_unpack_3 13 rfl rfl)
theorem dX11_unpack_83 : decode cX11_unpack 83 = .ok (.iconst 1, 1) := dk_4 (dk_at dksX11_unpack_3 14 rfl rfl)
theorem dX11_unpack_84 : decode cX11_unpack 84 = .ok (.iand, 1) := dk_126 (dk_at dksX11_unpack_3 15 rfl rfl)
theorem dX11_unpack_85 : decode cX11_unpack 85 = .ok (.iconst 1, 1) := dk_4 (dk_at dksX11_unpack_3 16 rfl rfl)
theorem dX11_unpack_86 : decode cX11_unpack 86 = .ok (.if_icmp .ne 7, 3) := dk_160 0 7 (dk_at dksX11_unpack_3 17 rfl rfl)
theorem dX11_unpack_89 : decode cX11_unpack 89 = .ok (.iconst 1, 1) := dk_4 (dk_at dksX11_unpack_3 20 rfl rfl)
theorem dX11_unpack_90 : decode cX11_unpack 90 = .ok (.goto 4, 3) := dk_167 0 4 (dk_at dksX11_unpack_3 21 rfl rfl)
theorem dX11_unpack_93 : decode cX11_unpack 93 = .ok (.iconst 0, 1) := dk_3 (dk_at dksX11_unpack_4 0 rfl rfl)
theorem dX11_unpack_94 : decode cX11_unpack 94 = .ok (.istore 5, 2) := dk_54 5 (dk_at dksX11_unpack_4 1 rfl rfl)
theorem dX11_unpack_96 : decode cX11_unpack 96 = .ok (.aload_n 0, 1) := dk_42 (dk_at dksX11_unpack_4 3 rfl rfl)
theorem dX11_unpack_97 : decode cX11_unpack 97 = .ok (.aload_n 3, 1) := dk_45 (dk_at dksX11_unpack_4 4 rfl rfl)
theorem dX11_unpack_98 : decode cX11_unpack 98 = .ok (.iload 4, 2) := dk_21 4 (dk_at dksX11_unpack_4 5 rfl rfl)
theorem dX11_unpack_100 : decode cX11_unpack 100 = .ok (.iload 5, 2) := dk_21 5 (dk_at dksX11_unpack_4 7 rfl rfl)
theorem dX11_unpack_102 : decode cX11_unpack 102 = .ok (.ifCond .eq 17, 3) := dk_153 0 17 (dk_at dksX11_unpack_4 9 rfl rfl)
theorem dX11_unpack_105 : decode cX11_unpack 105 = .ok (.aload_n 0, 1) := dk_42 (dk_at dksX11_unpack_4 12 rfl rfl)
theorem dX11_unpack_106 : decode cX11_unpack 106 = .ok (.getfield 23, 3) := dk_180 0 23 (dk_at dksX11_unpack_4 13 rfl rfl)
theorem dX11_unpack_109 : decode cX11_unpack 109 = .ok (.iload 4, 2) := dk_21 4 (dk_at dksX11_unpack_4 16 rfl rfl)
theorem dX11_unpack_111 : decode cX11_unpack 111 = .ok (.aaload, 1) := dk_50 (dk_at dksX11_unpack_4 18 rfl rfl)
theorem dX11_unpack_112 : decode cX11_unpack 112 = .ok (.aload_n 1, 1) := dk_43 (dk_at dksX11_unpack_4 19 rfl rfl)
theorem dX11_unpack_113 : decode cX11_unpack 113 = .ok (.invokevirtual 111, 3) := dk_182 0 111 (dk_at dksX11_unpack_4 20 rfl rfl)
theorem dX11_unpack_116 : decode cX11_unpack 116 = .ok (.goto 4, 3) := dk_167 0 4 (dk_at dksX11_unpack_5 0 rfl rfl)
theorem dX11_unpack_119 : decode cX11_unpack 119 = .ok (.aconst_null, 1) := dk_1 (dk_at dksX11_unpack_5 3 rfl rfl)
theorem dX11_unpack_120 : decode cX11_unpack 120 = .ok (.iload 5, 2) := dk_21 5 (dk_at dksX11_unpack_5 4 rfl rfl)
theorem dX11_unpack_122 : decode cX11_unpack 122 = .ok (.aload_n 1, 1) := dk_43 (dk_at dksX11_unpack_5 6 rfl rfl)
theorem dX11_unpack_123 : decode cX11_unpack 123 = .ok (.getfield 56, 3) := dk_180 0 56 (dk_at dksX11_unpack_5 7 rfl rfl)
theorem dX11_unpack_126 : decode cX11_unpack 126 = .ok (.invokevirtual 73, 3) := dk_182 0 73 (dk_at dksX11_unpack_5 10 rfl rfl)
theorem dX11_unpack_129 : decode cX11_unpack 129 = .ok (.ifCond .ne 5, 3) := dk_154 0 5 (dk_at dksX11_unpack_5 13 rfl rfl)
theorem dX11_unpack_132 : decode cX11_unpack 132 = .ok (.aconst_null, 1) := dk_1 (dk_at dksX11_unpack_5 16 rfl rfl)
theorem dX11_unpack_133 : decode cX11_unpack 133 = .ok (.astore_n 3, 1) := dk_78 (dk_at dksX11_unpack_5 17 rfl rfl)
theorem dX11_unpack_134 : decode cX11_unpack 134 = .ok (.iinc 4 1, 3) := dk_132 4 1 (dk_at dksX11_unpack_5 18 rfl rfl)
theorem dX11_unpack_137 : decode cX11_unpack 137 = .ok (.goto (-71), 3) := dk_167 255 185 (dk_at dksX11_unpack_5 21 rfl rfl)
theorem dX11_unpack_140 : decode cX11_unpack 140 = .ok (.aload_n 3, 1) := dk_45 (dk_at dksX11_unpack_6 0 rfl rfl)
theorem dX11_unpack_141 : decode cX11_unpack 141 = .ok (.areturn, 1) := dk_176 (dk_at dksX11_unpack_6 1 rfl rfl)
abbrev cX11_add : ByteArray := prog_8_method_5_code
def yX11_add : MethodName := ⟨RX11, "add", "(LNotationDesk$Part;ILNotationDesk$Part;ZLNotationDesk$Store;)Z"⟩
def dkwX11_add_3 : List UInt8 := [28, 182, 0, 46, 43, 89, 180, 0, 39, 4, 96, 181, 0, 39, 4, 172]
abbrev dktX11_add_3 : List UInt8 := dkwX11_add_3 ++ []
def dkwX11_add_2 : List UInt8 := [21, 4, 154, 0, 17, 42, 180, 0, 9, 28, 46, 4, 160, 0, 7, 4, 167, 0, 4, 3, 172, 43, 25, 6]
abbrev dktX11_add_2 : List UInt8 := dkwX11_add_2 ++ dktX11_add_3
def dkwX11_add_1 : List UInt8 := [50, 25, 5, 42, 180, 0, 15, 28, 46, 182, 0, 42, 167, 0, 4, 1, 58, 6, 25, 6, 199, 0, 24]
abbrev dktX11_add_1 : List UInt8 := dkwX11_add_1 ++ dktX11_add_2
def dkwX11_add_0 : List UInt8 := [21, 4, 153, 0, 7, 45, 167, 0, 34, 42, 180, 0, 9, 28, 46, 5, 160, 0, 23, 42, 180, 0, 23, 28]
abbrev dktX11_add_0 : List UInt8 := dkwX11_add_0 ++ dktX11_add_1
theorem dksX11_add_0 : cX11_add.data.toList.drop 0 = dktX11_add_0 := by decide +kernel
theorem dksX11_add_1 : cX11_add.data.toList.drop 24 = dktX11_add_1 := dk_seg dksX11_add_0 24 rfl rfl
theorem dksX11_add_2 : cX11_add.data.toList.drop 47 = dktX11_add_2 := dk_seg dksX11_add_1 23 rfl rfl
theorem dksX11_add_3 : cX11_add.data.toList.drop 71 = dktX11_add_3 := dk_seg dksX11_add_2 24 rfl rfl
theorem dX11_add_0 : decode cX11_add 0 = .ok (.iload 4, 2) := dk_21 4 (dk_at dksX11_add_0 0 rfl rfl)
theorem dX11_add_2 : decode cX11_add 2 = .ok (.ifCond .eq 7, 3) := dk_153 0 7 (dk_at dksX11_add_0 2 rfl rfl)
theorem dX11_add_5 : decode cX11_add 5 = .ok (.aload_n 3, 1) := dk_45 (dk_at dksX11_add_0 5 rfl rfl)
theorem dX11_add_6 : decode cX11_add 6 = .ok (.goto 34, 3) := dk_167 0 34 (dk_at dksX11_add_0 6 rfl rfl)
theorem dX11_add_9 : decode cX11_add 9 = .ok (.aload_n 0, 1) := dk_42 (dk_at dksX11_add_0 9 rfl rfl)
theorem dX11_add_10 : decode cX11_add 10 = .ok (.getfield 9, 3) := dk_180 0 9 (dk_at dksX11_add_0 10 rfl rfl)
theorem dX11_add_13 : decode cX11_add 13 = .ok (.iload_n 2, 1) := dk_28 (dk_at dksX11_add_0 13 rfl rfl)
theorem dX11_add_14 : decode cX11_add 14 = .ok (.iaload, 1) := dk_46 (dk_at dksX11_add_0 14 rfl rfl)
theorem dX11_add_15 : decode cX11_add 15 = .ok (.iconst 2, 1) := dk_5 (dk_at dksX11_add_0 15 rfl rfl)
theorem dX11_add_16 : decode cX11_add 16 = .ok (.if_icmp .ne 23, 3) := dk_160 0 23 (dk_at dksX11_add_0 16 rfl rfl)
theorem dX11_add_19 : decode cX11_add 19 = .ok (.aload_n 0, 1) := dk_42 (dk_at dksX11_add_0 19 rfl rfl)
theorem dX11_add_20 : decode cX11_add 20 = .ok (.getfield 23, 3) := dk_180 0 23 (dk_at dksX11_add_0 20 rfl rfl)
theorem dX11_add_23 : decode cX11_add 23 = .ok (.iload_n 2, 1) := dk_28 (dk_at dksX11_add_0 23 rfl rfl)
theorem dX11_add_24 : decode cX11_add 24 = .ok (.aaload, 1) := dk_50 (dk_at dksX11_add_1 0 rfl rfl)
theorem dX11_add_25 : decode cX11_add 25 = .ok (.aload 5, 2) := dk_25 5 (dk_at dksX11_add_1 1 rfl rfl)
theorem dX11_add_27 : decode cX11_add 27 = .ok (.aload_n 0, 1) := dk_42 (dk_at dksX11_add_1 3 rfl rfl)
theorem dX11_add_28 : decode cX11_add 28 = .ok (.getfield 15, 3) := dk_180 0 15 (dk_at dksX11_add_1 4 rfl rfl)
theorem dX11_add_31 : decode cX11_add 31 = .ok (.iload_n 2, 1) := dk_28 (dk_at dksX11_add_1 7 rfl rfl)
theorem dX11_add_32 : decode cX11_add 32 = .ok (.iaload, 1) := dk_46 (dk_at dksX11_add_1 8 rfl rfl)
theorem dX11_add_33 : decode cX11_add 33 = .ok (.invokevirtual 42, 3) := dk_182 0 42 (dk_at dksX11_add_1 9 rfl rfl)
theorem dX11_add_36 : decode cX11_add 36 = .ok (.goto 4, 3) := dk_167 0 4 (dk_at dksX11_add_1 12 rfl rfl)
theorem dX11_add_39 : decode cX11_add 39 = .ok (.aconst_null, 1) := dk_1 (dk_at dksX11_add_1 15 rfl rfl)
theorem dX11_add_40 : decode cX11_add 40 = .ok (.astore 6, 2) := dk_58 6 (dk_at dksX11_add_1 16 rfl rfl)
theorem dX11_add_42 : decode cX11_add 42 = .ok (.aload 6, 2) := dk_25 6 (dk_at dksX11_add_1 18 rfl rfl)
theorem dX11_add_44 : decode cX11_add 44 = .ok (.ifnonnull 24, 3) := dk_199 0 24 (dk_at dksX11_add_1 20 rfl rfl)
theorem dX11_add_47 : decode cX11_add 47 = .ok (.iload 4, 2) := dk_21 4 (dk_at dksX11_add_2 0 rfl rfl)
theorem dX11_add_49 : decode cX11_add 49 = .ok (.ifCond .ne 17, 3) := dk_154 0 17 (dk_at dksX11_add_2 2 rfl rfl)
theorem dX11_add_52 : decode cX11_add 52 = .ok (.aload_n 0, 1) := dk_42 (dk_at dksX11_add_2 5 rfl rfl)
theorem dX11_add_53 : decode cX11_add 53 = .ok (.getfield 9, 3) := dk_180 0 9 (dk_at dksX11_add_2 6 rfl rfl)
theorem dX11_add_56 : decode cX11_add 56 = .ok (.iload_n 2, 1) := dk_28 (dk_at dksX11_add_2 9 rfl rfl)
theorem dX11_add_57 : decode cX11_add 57 = .ok (.iaload, 1) := dk_46 (dk_at dksX11_add_2 10 rfl rfl)
theorem dX11_add_58 : decode cX11_add 58 = .ok (.iconst 1, 1) := dk_4 (dk_at dksX11_add_2 11 rfl rfl)
theorem dX11_add_59 : decode cX11_add 59 = .ok (.if_icmp .ne 7, 3) := dk_160 0 7 (dk_at dksX11_add_2 12 rfl rfl)
theorem dX11_add_62 : decode cX11_add 62 = .ok (.iconst 1, 1) := dk_4 (dk_at dksX11_add_2 15 rfl rfl)
theorem dX11_add_63 : decode cX11_add 63 = .ok (.goto 4, 3) := dk_167 0 4 (dk_at dksX11_add_2 16 rfl rfl)
theorem dX11_add_66 : decode cX11_add 66 = .ok (.iconst 0, 1) := dk_3 (dk_at dksX11_add_2 19 rfl rfl)
theorem dX11_add_67 : decode cX11_add 67 = .ok (.ireturn, 1) := dk_172 (dk_at dksX11_add_2 20 rfl rfl)
theorem dX11_add_68 : decode cX11_add 68 = .ok (.aload_n 1, 1) := dk_43 (dk_at dksX11_add_2 21 rfl rfl)
theorem dX11_add_69 : decode cX11_add 69 = .ok (.aload 6, 2) := dk_25 6 (dk_at dksX11_add_2 22 rfl rfl)
theorem dX11_add_71 : decode cX11_add 71 = .ok (.iload_n 2, 1) := dk_28 (dk_at dksX11_add_3 0 rfl rfl)
theorem dX11_add_72 : decode cX11_add 72 = .ok (.invokevirtual 46, 3) := dk_182 0 46 (dk_at dksX11_add_3 1 rfl rfl)
theorem dX11_add_75 : decode cX11_add 75 = .ok (.aload_n 1, 1) := dk_43 (dk_at dksX11_add_3 4 rfl rfl)
theorem dX11_add_76 : decode cX11_add 76 = .ok (.dup, 1) := dk_89 (dk_at dksX11_add_3 5 rfl rfl)
theorem dX11_add_77 : decode cX11_add 77 = .ok (.getfield 39, 3) := dk_180 0 39 (dk_at dksX11_add_3 6 rfl rfl)
theorem dX11_add_80 : decode cX11_add 80 = .ok (.iconst 1, 1) := dk_4 (dk_at dksX11_add_3 9 rfl rfl)
theorem dX11_add_81 : decode cX11_add 81 = .ok (.iadd, 1) := dk_96 (dk_at dksX11_add_3 10 rfl rfl)
theorem dX11_add_82 : decode cX11_add 82 = .ok (.putfield 39, 3) := dk_181 0 39 (dk_at dksX11_add_3 11 rfl rfl)
theorem dX11_add_85 : decode cX11_add 85 = .ok (.iconst 1, 1) := dk_4 (dk_at dksX11_add_3 14 rfl rfl)
theorem dX11_add_86 : decode cX11_add 86 = .ok (.ireturn, 1) := dk_172 (dk_at dksX11_add_3 15 rfl rfl)
abbrev cX11_read : ByteArray := prog_8_method_6_code
def yX11_read : MethodName := ⟨RX11, "read", "(LNotationDesk$Source;I)LNotationDesk$Part;"⟩
def dkwX11_read_6 : List UInt8 := [153, 0, 7, 45, 167, 0, 4, 1, 176]
abbrev dktX11_read_6 : List UInt8 := dkwX11_read_6 ++ []
def dkwX11_read_5 : List UInt8 := [21, 5, 43, 180, 0, 56, 182, 0, 73, 154, 0, 5, 1, 176, 132, 4, 1, 167, 255, 169, 43, 182, 0, 76]
abbrev dktX11_read_5 : List UInt8 := dkwX11_read_5 ++ dktX11_read_6
def dkwX11_read_4 : List UInt8 := [21, 4, 21, 5, 153, 0, 18, 42, 180, 0, 23, 21, 4, 50, 43, 2, 182, 0, 69, 167, 0, 4, 1]
abbrev dktX11_read_4 : List UInt8 := dkwX11_read_4 ++ dktX11_read_5
def dkwX11_read_3 : List UInt8 := [182, 0, 27, 43, 182, 0, 66, 122, 4, 126, 4, 160, 0, 7, 4, 167, 0, 4, 3, 54, 5, 42, 45]
abbrev dktX11_read_3 : List UInt8 := dkwX11_read_3 ++ dktX11_read_4
def dkwX11_read_2 : List UInt8 := [21, 4, 42, 180, 0, 19, 162, 0, 84, 43, 182, 0, 66, 2, 159, 0, 28, 42, 180, 0, 23, 21, 4, 50]
abbrev dktX11_read_2 : List UInt8 := dkwX11_read_2 ++ dktX11_read_3
def dkwX11_read_1 : List UInt8 := [180, 0, 56, 16, 6, 3, 182, 0, 60, 167, 0, 4, 1, 78, 45, 199, 0, 5, 1, 176, 3, 54, 4]
abbrev dktX11_read_1 : List UInt8 := dkwX11_read_1 ++ dktX11_read_2
def dkwX11_read_0 : List UInt8 := [43, 28, 2, 160, 0, 8, 16, 48, 167, 0, 8, 17, 0, 160, 28, 96, 182, 0, 50, 153, 0, 16, 43]
abbrev dktX11_read_0 : List UInt8 := dkwX11_read_0 ++ dktX11_read_1
theorem dksX11_read_0 : cX11_read.data.toList.drop 0 = dktX11_read_0 := by decide +kernel
theorem dksX11_read_1 : cX11_read.data.toList.drop 23 = dktX11_read_1 := dk_seg dksX11_read_0 23 rfl rfl
theorem dksX11_read_2 : cX11_read.data.toList.drop 46 = dktX11_read_2 := dk_seg dksX11_read_1 23 rfl rfl
theorem dksX11_read_3 : cX11_read.data.toList.drop 70 = dktX11_read_3 := dk_seg dksX11_read_2 24 rfl rfl
theorem dksX11_read_4 : cX11_read.data.toList.drop 93 = dktX11_read_4 := dk_seg dksX11_read_3 23 rfl rfl
theorem dksX11_read_5 : cX11_read.data.toList.drop 116 = dktX11_read_5 := dk_seg dksX11_read_4 23 rfl rfl
theorem dksX11_read_6 : cX11_read.data.toList.drop 140 = dktX11_read_6 := dk_seg dksX11_read_5 24 rfl rfl
theorem dX11_read_0 : decode cX11_read 0 = .ok (.aload_n 1, 1) := dk_43 (dk_at dksX11_read_0 0 rfl rfl)
theorem dX11_read_1 : decode cX11_read 1 = .ok (.iload_n 2, 1) := dk_28 (dk_at dksX11_read_0 1 rfl rfl)
theorem dX11_read_2 : decode cX11_read 2 = .ok (.iconst (-1), 1) := dk_2 (dk_at dksX11_read_0 2 rfl rfl)
theorem dX11_read_3 : decode cX11_read 3 = .ok (.if_icmp .ne 8, 3) := dk_160 0 8 (dk_at dksX11_read_0 3 rfl rfl)
theorem dX11_read_6 : decode cX11_read 6 = .ok (.bipush 48, 2) := dk_16 48 (dk_at dksX11_read_0 6 rfl rfl)
theorem dX11_read_8 : decode cX11_read 8 = .ok (.goto 8, 3) := dk_167 0 8 (dk_at dksX11_read_0 8 rfl rfl)
theorem dX11_read_11 : decode cX11_read 11 = .ok (.sipush 160, 3) := dk_17 0 160 (dk_at dksX11_read_0 11 rfl rfl)
theorem dX11_read_14 : decode cX11_read 14 = .ok (.iload_n 2, 1) := dk_28 (dk_at dksX11_read_0 14 rfl rfl)
theorem dX11_read_15 : decode cX11_read 15 = .ok (.iadd, 1) := dk_96 (dk_at dksX11_read_0 15 rfl rfl)
theorem dX11_read_16 : decode cX11_read 16 = .ok (.invokevirtual 50, 3) := dk_182 0 50 (dk_at dksX11_read_0 16 rfl rfl)
theorem dX11_read_19 : decode cX11_read 19 = .ok (.ifCond .eq 16, 3) := dk_153 0 16 (dk_at dksX11_read_0 19 rfl rfl)
theorem dX11_read_22 : decode cX11_read 22 = .ok (.aload_n 1, 1) := dk_43 (dk_at dksX11_read_0 22 rfl rfl)
theorem dX11_read_23 : decode cX11_read 23 = .ok (.getfield 56, 3) := dk_180 0 56 (dk_at dksX11_read_1 0 rfl rfl)
theorem dX11_read_26 : decode cX11_read 26 = .ok (.bipush 6, 2) := dk_16 6 (dk_at dksX11_read_1 3 rfl rfl)
theorem dX11_read_28 : decode cX11_read 28 = .ok (.iconst 0, 1) := dk_3 (dk_at dksX11_read_1 5 rfl rfl)
theorem dX11_read_29 : decode cX11_read 29 = .ok (.invokevirtual 60, 3) := dk_182 0 60 (dk_at dksX11_read_1 6 rfl rfl)
theorem dX11_read_32 : decode cX11_read 32 = .ok (.goto 4, 3) := dk_167 0 4 (dk_at dksX11_read_1 9 rfl rfl)
theorem dX11_read_35 : decode cX11_read 35 = .ok (.aconst_null, 1) := dk_1 (dk_at dksX11_read_1 12 rfl rfl)
theorem dX11_read_36 : decode cX11_read 36 = .ok (.astore_n 3, 1) := dk_78 (dk_at dksX11_read_1 13 rfl rfl)
theorem dX11_read_37 : decode cX11_read 37 = .ok (.aload_n 3, 1) := dk_45 (dk_at dksX11_read_1 14 rfl rfl)
theorem dX11_read_38 : decode cX11_read 38 = .ok (.ifnonnull 5, 3) := dk_199 0 5 (dk_at dksX11_read_1 15 rfl rfl)
theorem dX11_read_41 : decode cX11_read 41 = .ok (.aconst_null, 1) := dk_1 (dk_at dksX11_read_1 18 rfl rfl)
theorem dX11_read_42 : decode cX11_read 42 = .ok (.areturn, 1) := dk_176 (dk_at dksX11_read_1 19 rfl rfl)
theorem dX11_read_43 : decode cX11_read 43 = .ok (.iconst 0, 1) := dk_3 (dk_at dksX11_read_1 20 rfl rfl)
theorem dX11_read_44 : decode cX11_read 44 = .ok (.istore 4, 2) := dk_54 4 (dk_at dksX11_read_1 21 rfl rfl)
theorem dX11_read_46 : decode cX11_read 46 = .ok (.iload 4, 2) := dk_21 4 (dk_at dksX11_read_2 0 rfl rfl)
theorem dX11_read_48 : decode cX11_read 48 = .ok (.aload_n 0, 1) := dk_42 (dk_at dksX11_read_2 2 rfl rfl)
theorem dX11_read_49 : decode cX11_read 49 = .ok (.getfield 19, 3) := dk_180 0 19 (dk_at dksX11_read_2 3 rfl rfl)
theorem dX11_read_52 : decode cX11_read 52 = .ok (.if_icmp .ge 84, 3) := dk_162 0 84 (dk_at dksX11_read_2 6 rfl rfl)
theorem dX11_read_55 : decode cX11_read 55 = .ok (.aload_n 1, 1) := dk_43 (dk_at dksX11_read_2 9 rfl rfl)
theorem dX11_read_56 : decode cX11_read 56 = .ok (.invokevirtual 66, 3) := dk_182 0 66 (dk_at dksX11_read_2 10 rfl rfl)
theorem dX11_read_59 : decode cX11_read 59 = .ok (.iconst (-1), 1) := dk_2 (dk_at dksX11_read_2 13 rfl rfl)
theorem dX11_read_60 : decode cX11_read 60 = .ok (.if_icmp .eq 28, 3) := dk_159 0 28 (dk_at dksX11_read_2 14 rfl rfl)
theorem dX11_read_63 : decode cX11_read 63 = .ok (.aload_n 0, 1) := dk_42 (dk_at dksX11_read_2 17 rfl rfl)
theorem dX11_read_64 : decode cX11_read 64 = .ok (.getfield 23, 3) := dk_180 0 23 (dk_at dksX11_read_2 18 rfl rfl)
theorem dX11_read_67 : decode cX11_read 67 = .ok (.iload 4, 2) := dk_21 4 (dk_at dksX11_read_2 21 rfl rfl)
theorem dX11_read_69 : decode cX11_read 69 = .ok (.aaload, 1) := dk_50 (dk_at dksX11_read_2 23 rfl rfl)
theorem dX11_read_70 : decode cX11_read 70 = .ok (.invokevirtual 27, 3) := dk_182 0 27 (dk_at dksX11_read_3 0 rfl rfl)
theorem dX11_read_73 : decode cX11_read 73 = .ok (.aload_n 1, 1) := dk_43 (dk_at dksX11_read_3 3 rfl rfl)
theorem dX11_read_74 : decode cX11_read 74 = .ok (.invokevirtual 66, 3) := dk_182 0 66 (dk_at dksX11_read_3 4 rfl rfl)
theorem dX11_read_77 : decode cX11_read 77 = .ok (.ishr, 1) := dk_122 (dk_at dksX11_read_3 7 rfl rfl)
theorem dX11_read_78 : decode cX11_read 78 = .ok (.iconst 1, 1) := dk_4 (dk_at dksX11_read_3 8 rfl rfl)
theorem dX11_read_79 : decode cX11_read 79 = .ok (.iand, 1) := dk_126 (dk_at dksX11_read_3 9 rfl rfl)
theorem dX11_read_80 : decode cX11_read 80 = .ok (.iconst 1, 1) := dk_4 (dk_at dksX11_read_3 10 rfl rfl)
theorem dX11_read_81 : decode cX11_read 81 = .ok (.if_icmp .ne 7, 3) := dk_160 0 7 (dk_at dksX11_read_3 11 rfl rfl)
theorem dX11_read_84 : decode cX11_read 84 = .ok (.iconst 1, 1) := dk_4 (dk_at dksX11_read_3 14 rfl rfl)
theorem dX11_read_85 : decode cX11_read 85 = .ok (.goto 4, 3) := dk_167 0 4 (dk_at dksX11_read_3 15 rfl rfl)
theorem dX11_read_88 : decode cX11_read 88 = .ok (.iconst 0, 1) := dk_3 (dk_at dksX11_read_3 18 rfl rfl)
theorem dX11_read_89 : decode cX11_read 89 = .ok (.istore 5, 2) := dk_54 5 (dk_at dksX11_read_3 19 rfl rfl)
theorem dX11_read_91 : decode cX11_read 91 = .ok (.aload_n 0, 1) := dk_42 (dk_at dksX11_read_3 21 rfl rfl)
theorem dX11_read_92 : decode cX11_read 92 = .ok (.aload_n 3, 1) := dk_45 (dk_at dksX11_read_3 22 rfl rfl)
theorem dX11_read_93 : decode cX11_read 93 = .ok (.iload 4, 2) := dk_21 4 (dk_at dksX11_read_4 0 rfl rfl)
theorem dX11_read_95 : decode cX11_read 95 = .ok (.iload 5, 2) := dk_21 5 (dk_at dksX11_read_4 2 rfl rfl)
theorem dX11_read_97 : decode cX11_read 97 = .ok (.ifCond .eq 18, 3) := dk_153 0 18 (dk_at dksX11_read_4 4 rfl rfl)
theorem dX11_read_100 : decode cX11_read 100 = .ok (.aload_n 0, 1) := dk_42 (dk_at dksX11_read_4 7 rfl rfl)
theorem dX11_read_101 : decode cX11_read 101 = .ok (.getfield 23, 3) := dk_180 0 23 (dk_at dksX11_read_4 8 rfl rfl)
theorem dX11_read_104 : decode cX11_read 104 = .ok (.iload 4, 2) := dk_21 4 (dk_at dksX11_read_4 11 rfl rfl)
theorem dX11_read_106 : decode cX11_read 106 = .ok (.aaload, 1) := dk_50 (dk_at dksX11_read_4 13 rfl rfl)
theorem dX11_read_107 : decode cX11_read 107 = .ok (.aload_n 1, 1) := dk_43 (dk_at dksX11_read_4 14 rfl rfl)
theorem dX11_read_108 : decode cX11_read 108 = .ok (.iconst (-1), 1) := dk_2 (dk_at dksX11_read_4 15 rfl rfl)
theorem dX11_read_109 : decode cX11_read 109 = .ok (.invokevirtual 69, 3) := dk_182 0 69 (dk_at dksX11_read_4 16 rfl rfl)
theorem dX11_read_112 : decode cX11_read 112 = .ok (.goto 4, 3) := dk_167 0 4 (dk_at dksX11_read_4 19 rfl rfl)
theorem dX11_read_115 : decode cX11_read 115 = .ok (.aconst_null, 1) := dk_1 (dk_at dksX11_read_4 22 rfl rfl)
theorem dX11_read_116 : decode cX11_read 116 = .ok (.iload 5, 2) := dk_21 5 (dk_at dksX11_read_5 0 rfl rfl)
theorem dX11_read_118 : decode cX11_read 118 = .ok (.aload_n 1, 1) := dk_43 (dk_at dksX11_read_5 2 rfl rfl)
theorem dX11_read_119 : decode cX11_read 119 = .ok (.getfield 56, 3) := dk_180 0 56 (dk_at dksX11_read_5 3 rfl rfl)
theorem dX11_read_122 : decode cX11_read 122 = .ok (.invokevirtual 73, 3) := dk_182 0 73 (dk_at dksX11_read_5 6 rfl rfl)
theorem dX11_read_125 : decode cX11_read 125 = .ok (.ifCond .ne 5, 3) := dk_154 0 5 (dk_at dksX11_read_5 9 rfl rfl)
theorem dX11_read_128 : decode cX11_read 128 = .ok (.aconst_null, 1) := dk_1 (dk_at dksX11_read_5 12 rfl rfl)
theorem dX11_read_129 : decode cX11_read 129 = .ok (.areturn, 1) := dk_176 (dk_at dksX11_read_5 13 rfl rfl)
theorem dX11_read_130 : decode cX11_read 130 = .ok (.iinc 4 1, 3) := dk_132 4 1 (dk_at dksX11_read_5 14 rfl rfl)
theorem dX11_read_133 : decode cX11_read 133 = .ok (.goto (-87), 3) := dk_167 255 169 (dk_at dksX11_read_5 17 rfl rfl)
theorem dX11_read_136 : decode cX11_read 136 = .ok (.aload_n 1, 1) := dk_43 (dk_at dksX11_read_5 20 rfl rfl)
theorem dX11_read_137 : decode cX11_read 137 = .ok (.invokevirtual 76, 3) := dk_182 0 76 (dk_at dksX11_read_5 21 rfl rfl)
theorem dX11_read_140 : decode cX11_read 140 = .ok (.ifCond .eq 7, 3) := dk_153 0 7 (dk_at dksX11_read_6 0 rfl rfl)
theorem dX11_read_143 : decode cX11_read 143 = .ok (.aload_n 3, 1) := dk_45 (dk_at dksX11_read_6 3 rfl rfl)
theorem dX11_read_144 : decode cX11_read 144 = .ok (.goto 4, 3) := dk_167 0 4 (dk_at dksX11_read_6 4 rfl rfl)
theorem dX11_read_147 : decode cX11_read 147 = .ok (.aconst_null, 1) := dk_1 (dk_at dksX11_read_6 7 rfl rfl)
theorem dX11_read_148 : decode cX11_read 148 = .ok (.areturn, 1) := dk_176 (dk_at dksX11_read_6 8 rfl rfl)
abbrev cX11_write : ByteArray := prog_8_method_9_code
def yX11_write : MethodName := ⟨RX11, "write", "(LNotationDesk$Part;LNotationDesk$Writer;I)V"⟩
def dkwX11_write_2 : List UInt8 := [180, 0, 23, 21, 4, 50, 43, 21, 4, 182, 0, 33, 44, 2, 182, 0, 101, 132, 4, 1, 167, 255, 216, 177]
abbrev dktX11_write_2 : List UInt8 := dkwX11_write_2 ++ []
def dkwX11_write_1 : List UInt8 := [3, 54, 4, 21, 4, 42, 180, 0, 19, 162, 0, 37, 42, 43, 21, 4, 182, 0, 80, 153, 0, 21, 42]
abbrev dktX11_write_1 : List UInt8 := dkwX11_write_1 ++ dktX11_write_2
def dkwX11_write_0 : List UInt8 := [44, 29, 2, 160, 0, 8, 16, 48, 167, 0, 8, 17, 0, 160, 29, 96, 42, 43, 182, 0, 88, 182, 0, 95]
abbrev dktX11_write_0 : List UInt8 := dkwX11_write_0 ++ dktX11_write_1
theorem dksX11_write_0 : cX11_write.data.toList.drop 0 = dktX11_write_0 := by decide +kernel
theorem dksX11_write_1 : cX11_write.data.toList.drop 24 = dktX11_write_1 := dk_seg dksX11_write_0 24 rfl rfl
theorem dksX11_write_2 : cX11_write.data.toList.drop 47 = dktX11_write_2 := dk_seg dksX11_write_1 23 rfl rfl
theorem dX11_write_0 : decode cX11_write 0 = .ok (.aload_n 2, 1) := dk_44 (dk_at dksX11_write_0 0 rfl rfl)
theorem dX11_write_1 : decode cX11_write 1 = .ok (.iload_n 3, 1) := dk_29 (dk_at dksX11_write_0 1 rfl rfl)
theorem dX11_write_2 : decode cX11_write 2 = .ok (.iconst (-1), 1) := dk_2 (dk_at dksX11_write_0 2 rfl rfl)
theorem dX11_write_3 : decode cX11_write 3 = .ok (.if_icmp .ne 8, 3) := dk_160 0 8 (dk_at dksX11_write_0 3 rfl rfl)
theorem dX11_write_6 : decode cX11_write 6 = .ok (.bipush 48, 2) := dk_16 48 (dk_at dksX11_write_0 6 rfl rfl)
theorem dX11_write_8 : decode cX11_write 8 = .ok (.goto 8, 3) := dk_167 0 8 (dk_at dksX11_write_0 8 rfl rfl)
theorem dX11_write_11 : decode cX11_write 11 = .ok (.sipush 160, 3) := dk_17 0 160 (dk_at dksX11_write_0 11 rfl rfl)
theorem dX11_write_14 : decode cX11_write 14 = .ok (.iload_n 3, 1) := dk_29 (dk_at dksX11_write_0 14 rfl rfl)
theorem dX11_write_15 : decode cX11_write 15 = .ok (.iadd, 1) := dk_96 (dk_at dksX11_write_0 15 rfl rfl)
theorem dX11_write_16 : decode cX11_write 16 = .ok (.aload_n 0, 1) := dk_42 (dk_at dksX11_write_0 16 rfl rfl)
theorem dX11_write_17 : decode cX11_write 17 = .ok (.aload_n 1, 1) := dk_43 (dk_at dksX11_write_0 17 rfl rfl)
theorem dX11_write_18 : decode cX11_write 18 = .ok (.invokevirtual 88, 3) := dk_182 0 88 (dk_at dksX11_write_0 18 rfl rfl)
theorem dX11_write_21 : decode cX11_write 21 = .ok (.invokevirtual 95, 3) := dk_182 0 95 (dk_at dksX11_write_0 21 rfl rfl)
theorem dX11_write_24 : decode cX11_write 24 = .ok (.iconst 0, 1) := dk_3 (dk_at dksX11_write_1 0 rfl rfl)
theorem dX11_write_25 : decode cX11_write 25 = .ok (.istore 4, 2) := dk_54 4 (dk_at dksX11_write_1 1 rfl rfl)
theorem dX11_write_27 : decode cX11_write 27 = .ok (.iload 4, 2) := dk_21 4 (dk_at dksX11_write_1 3 rfl rfl)
theorem dX11_write_29 : decode cX11_write 29 = .ok (.aload_n 0, 1) := dk_42 (dk_at dksX11_write_1 5 rfl rfl)
theorem dX11_write_30 : decode cX11_write 30 = .ok (.getfield 19, 3) := dk_180 0 19 (dk_at dksX11_write_1 6 rfl rfl)
theorem dX11_write_33 : decode cX11_write 33 = .ok (.if_icmp .ge 37, 3) := dk_162 0 37 (dk_at dksX11_write_1 9 rfl rfl)
theorem dX11_write_36 : decode cX11_write 36 = .ok (.aload_n 0, 1) := dk_42 (dk_at dksX11_write_1 12 rfl rfl)
theorem dX11_write_37 : decode cX11_write 37 = .ok (.aload_n 1, 1) := dk_43 (dk_at dksX11_write_1 13 rfl rfl)
theorem dX11_write_38 : decode cX11_write 38 = .ok (.iload 4, 2) := dk_21 4 (dk_at dksX11_write_1 14 rfl rfl)
theorem dX11_write_40 : decode cX11_write 40 = .ok (.invokevirtual 80, 3) := dk_182 0 80 (dk_at dksX11_write_1 16 rfl rfl)
theorem dX11_write_43 : decode cX11_write 43 = .ok (.ifCond .eq 21, 3) := dk_153 0 21 (dk_at dksX11_write_1 19 rfl rfl)
theorem dX11_write_46 : decode cX11_write 46 = .ok (.aload_n 0, 1) := dk_42 (dk_at dksX11_write_1 22 rfl rfl)
theorem dX11_write_47 : decode cX11_write 47 = .ok (.getfield 23, 3) := dk_180 0 23 (dk_at dksX11_write_2 0 rfl rfl)
theorem dX11_write_50 : decode cX11_write 50 = .ok (.iload 4, 2) := dk_21 4 (dk_at dksX11_write_2 3 rfl rfl)
theorem dX11_write_52 : decode cX11_write 52 = .ok (.aaload, 1) := dk_50 (dk_at dksX11_write_2 5 rfl rfl)
theorem dX11_write_53 : decode cX11_write 53 = .ok (.aload_n 1, 1) := dk_43 (dk_at dksX11_write_2 6 rfl rfl)
theorem dX11_write_54 : decode cX11_write 54 = .ok (.iload 4, 2) := dk_21 4 (dk_at dksX11_write_2 7 rfl rfl)
theorem dX11_write_56 : decode cX11_write 56 = .ok (.invokevirtual 33, 3) := dk_182 0 33 (dk_at dksX11_write_2 9 rfl rfl)
theorem dX11_write_59 : decode cX11_write 59 = .ok (.aload_n 2, 1) := dk_44 (dk_at dksX11_write_2 12 rfl rfl)
theorem dX11_write_60 : decode cX11_write 60 = .ok (.iconst (-1), 1) := dk_2 (dk_at dksX11_write_2 13 rfl rfl)
theorem dX11_write_61 : decode cX11_write 61 = .ok (.invokevirtual 101, 3) := dk_182 0 101 (dk_at dksX11_write_2 14 rfl rfl)
theorem dX11_write_64 : decode cX11_write 64 = .ok (.iinc 4 1, 3) := dk_132 4 1 (dk_at dksX11_write_2 17 rfl rfl)
theorem dX11_write_67 : decode cX11_write 67 = .ok (.goto (-40), 3) := dk_167 255 216 (dk_at dksX11_write_2 20 rfl rfl)
theorem dX11_write_70 : decode cX11_write 70 = .ok (.return_, 1) := dk_177 (dk_at dksX11_write_2 23 rfl rfl)
abbrev cX11_content : ByteArray := prog_8_method_7_code
def yX11_content : MethodName := ⟨RX11, "content", "(LNotationDesk$Part;)I"⟩
def dkwX11_content_2 : List UInt8 := [167, 255, 215, 28, 172]
abbrev dktX11_content_2 : List UInt8 := dkwX11_content_2 ++ []
def dkwX11_content_1 : List UInt8 := [180, 0, 23, 29, 50, 43, 29, 182, 0, 33, 182, 0, 84, 167, 0, 4, 3, 96, 61, 132, 3, 1]
abbrev dktX11_content_1 : List UInt8 := dkwX11_content_1 ++ dktX11_content_2
def dkwX11_content_0 : List UInt8 := [3, 61, 3, 62, 29, 42, 180, 0, 19, 162, 0, 39, 28, 42, 43, 29, 182, 0, 80, 153, 0, 20, 42]
abbrev dktX11_content_0 : List UInt8 := dkwX11_content_0 ++ dktX11_content_1
theorem dksX11_content_0 : cX11_content.data.toList.drop 0 = dktX11_content_0 := by decide +kernel
theorem dksX11_content_1 : cX11_content.data.toList.drop 23 = dktX11_content_1 := dk_seg dksX11_content_0 23 rfl rfl
theorem dksX11_content_2 : cX11_content.data.toList.drop 45 = dktX11_content_2 := dk_seg dksX11_content_1 22 rfl rfl
theorem dX11_content_0 : decode cX11_content 0 = .ok (.iconst 0, 1) := dk_3 (dk_at dksX11_content_0 0 rfl rfl)
theorem dX11_content_1 : decode cX11_content 1 = .ok (.istore_n 2, 1) := dk_61 (dk_at dksX11_content_0 1 rfl rfl)
theorem dX11_content_2 : decode cX11_content 2 = .ok (.iconst 0, 1) := dk_3 (dk_at dksX11_content_0 2 rfl rfl)
theorem dX11_content_3 : decode cX11_content 3 = .ok (.istore_n 3, 1) := dk_62 (dk_at dksX11_content_0 3 rfl rfl)
theorem dX11_content_4 : decode cX11_content 4 = .ok (.iload_n 3, 1) := dk_29 (dk_at dksX11_content_0 4 rfl rfl)
theorem dX11_content_5 : decode cX11_content 5 = .ok (.aload_n 0, 1) := dk_42 (dk_at dksX11_content_0 5 rfl rfl)
theorem dX11_content_6 : decode cX11_content 6 = .ok (.getfield 19, 3) := dk_180 0 19 (dk_at dksX11_content_0 6 rfl rfl)
theorem dX11_content_9 : decode cX11_content 9 = .ok (.if_icmp .ge 39, 3) := dk_162 0 39 (dk_at dksX11_content_0 9 rfl rfl)
theorem dX11_content_12 : decode cX11_content 12 = .ok (.iload_n 2, 1) := dk_28 (dk_at dksX11_content_0 12 rfl rfl)
theorem dX11_content_13 : decode cX11_content 13 = .ok (.aload_n 0, 1) := dk_42 (dk_at dksX11_content_0 13 rfl rfl)
theorem dX11_content_14 : decode cX11_content 14 = .ok (.aload_n 1, 1) := dk_43 (dk_at dksX11_content_0 14 rfl rfl)
theorem dX11_content_15 : decode cX11_content 15 = .ok (.iload_n 3, 1) := dk_29 (dk_at dksX11_content_0 15 rfl rfl)
theorem dX11_content_16 : decode cX11_content 16 = .ok (.invokevirtual 80, 3) := dk_182 0 80 (dk_at dksX11_content_0 16 rfl rfl)
theorem dX11_content_19 : decode cX11_content 19 = .ok (.ifCond .eq 20, 3) := dk_153 0 20 (dk_at dksX11_content_0 19 rfl rfl)
theorem dX11_content_22 : decode cX11_content 22 = .ok (.aload_n 0, 1) := dk_42 (dk_at dksX11_content_0 22 rfl rfl)
theorem dX11_content_23 : decode cX11_content 23 = .ok (.getfield 23, 3) := dk_180 0 23 (dk_at dksX11_content_1 0 rfl rfl)
theorem dX11_content_26 : decode cX11_content 26 = .ok (.iload_n 3, 1) := dk_29 (dk_at dksX11_content_1 3 rfl rfl)
theorem dX11_content_27 : decode cX11_content 27 = .ok (.aaload, 1) := dk_50 (dk_at dksX11_content_1 4 rfl rfl)
theorem dX11_content_28 : decode cX11_content 28 = .ok (.aload_n 1, 1) := dk_43 (dk_at dksX11_content_1 5 rfl rfl)
theorem dX11_content_29 : decode cX11_content 29 = .ok (.iload_n 3, 1) := dk_29 (dk_at dksX11_content_1 6 rfl rfl)
theorem dX11_content_30 : decode cX11_content 30 = .ok (.invokevirtual 33, 3) := dk_182 0 33 (dk_at dksX11_content_1 7 rfl rfl)
theorem dX11_content_33 : decode cX11_content 33 = .ok (.invokevirtual 84, 3) := dk_182 0 84 (dk_at dksX11_content_1 10 rfl rfl)
theorem dX11_content_36 : decode cX11_content 36 = .ok (.goto 4, 3) := dk_167 0 4 (dk_at dksX11_content_1 13 rfl rfl)
theorem dX11_content_39 : decode cX11_content 39 = .ok (.iconst 0, 1) := dk_3 (dk_at dksX11_content_1 16 rfl rfl)
theorem dX11_content_40 : decode cX11_content 40 = .ok (.iadd, 1) := dk_96 (dk_at dksX11_content_1 17 rfl rfl)
theorem dX11_content_41 : decode cX11_content 41 = .ok (.istore_n 2, 1) := dk_61 (dk_at dksX11_content_1 18 rfl rfl)
theorem dX11_content_42 : decode cX11_content 42 = .ok (.iinc 3 1, 3) := dk_132 3 1 (dk_at dksX11_content_1 19 rfl rfl)
theorem dX11_content_45 : decode cX11_content 45 = .ok (.goto (-41), 3) := dk_167 255 215 (dk_at dksX11_content_2 0 rfl rfl)
theorem dX11_content_48 : decode cX11_content 48 = .ok (.iload_n 2, 1) := dk_28 (dk_at dksX11_content_2 3 rfl rfl)
theorem dX11_content_49 : decode cX11_content 49 = .ok (.ireturn, 1) := dk_172 (dk_at dksX11_content_2 4 rfl rfl)
abbrev cX11_isWritten : ByteArray := prog_8_method_4_code
def yX11_isWritten : MethodName := ⟨RX11, "isWritten", "(LNotationDesk$Part;I)Z"⟩
def dkwX11_isWritten_1 : List UInt8 := [42, 180, 0, 15, 28, 46, 159, 0, 7, 4, 167, 0, 4, 3, 172]
abbrev dktX11_isWritten_1 : List UInt8 := dkwX11_isWritten_1 ++ []
def dkwX11_isWritten_0 : List UInt8 := [43, 28, 182, 0, 33, 78, 45, 198, 0, 30, 42, 180, 0, 9, 28, 46, 5, 160, 0, 16, 45, 180, 0, 39]
abbrev dktX11_isWritten_0 : List UInt8 := dkwX11_isWritten_0 ++ dktX11_isWritten_1
theorem dksX11_isWritten_0 : cX11_isWritten.data.toList.drop 0 = dktX11_isWritten_0 := by decide +kernel
theorem dksX11_isWritten_1 : cX11_isWritten.data.toList.drop 24 = dktX11_isWritten_1 := dk_seg dksX11_isWritten_0 24 rfl rfl
theorem dX11_isWritten_0 : decode cX11_isWritten 0 = .ok (.aload_n 1, 1) := dk_43 (dk_at dksX11_isWritten_0 0 rfl rfl)
theorem dX11_isWritten_1 : decode cX11_isWritten 1 = .ok (.iload_n 2, 1) := dk_28 (dk_at dksX11_isWritten_0 1 rfl rfl)
theorem dX11_isWritten_2 : decode cX11_isWritten 2 = .ok (.invokevirtual 33, 3) := dk_182 0 33 (dk_at dksX11_isWritten_0 2 rfl rfl)
theorem dX11_isWritten_5 : decode cX11_isWritten 5 = .ok (.astore_n 3, 1) := dk_78 (dk_at dksX11_isWritten_0 5 rfl rfl)
theorem dX11_isWritten_6 : decode cX11_isWritten 6 = .ok (.aload_n 3, 1) := dk_45 (dk_at dksX11_isWritten_0 6 rfl rfl)
theorem dX11_isWritten_7 : decode cX11_isWritten 7 = .ok (.ifnull 30, 3) := dk_198 0 30 (dk_at dksX11_isWritten_0 7 rfl rfl)
theorem dX11_isWritten_10 : decode cX11_isWritten 10 = .ok (.aload_n 0, 1) := dk_42 (dk_at dksX11_isWritten_0 10 rfl rfl)
theorem dX11_isWritten_11 : decode cX11_isWritten 11 = .ok (.getfield 9, 3) := dk_180 0 9 (dk_at dksX11_isWritten_0 11 rfl rfl)
theorem dX11_isWritten_14 : decode cX11_isWritten 14 = .ok (.iload_n 2, 1) := dk_28 (dk_at dksX11_isWritten_0 14 rfl rfl)
theorem dX11_isWritten_15 : decode cX11_isWritten 15 = .ok (.iaload, 1) := dk_46 (dk_at dksX11_isWritten_0 15 rfl rfl)
theorem dX11_isWritten_16 : decode cX11_isWritten 16 = .ok (.iconst 2, 1) := dk_5 (dk_at dksX11_isWritten_0 16 rfl rfl)
theorem dX11_isWritten_17 : decode cX11_isWritten 17 = .ok (.if_icmp .ne 16, 3) := dk_160 0 16 (dk_at dksX11_isWritten_0 17 rfl rfl)
theorem dX11_isWritten_20 : decode cX11_isWritten 20 = .ok (.aload_n 3, 1) := dk_45 (dk_at dksX11_isWritten_0 20 rfl rfl)
theorem dX11_isWritten_21 : decode cX11_isWritten 21 = .ok (.getfield 39, 3) := dk_180 0 39 (dk_at dksX11_isWritten_0 21 rfl rfl)
theorem dX11_isWritten_24 : decode cX11_isWritten 24 = .ok (.aload_n 0, 1) := dk_42 (dk_at dksX11_isWritten_1 0 rfl rfl)
theorem dX11_isWritten_25 : decode cX11_isWritten 25 = .ok (.getfield 15, 3) := dk_180 0 15 (dk_at dksX11_isWritten_1 1 rfl rfl)
theorem dX11_isWritten_28 : decode cX11_isWritten 28 = .ok (.iload_n 2, 1) := dk_28 (dk_at dksX11_isWritten_1 4 rfl rfl)
theorem dX11_isWritten_29 : decode cX11_isWritten 29 = .ok (.iaload, 1) := dk_46 (dk_at dksX11_isWritten_1 5 rfl rfl)
theorem dX11_isWritten_30 : decode cX11_isWritten 30 = .ok (.if_icmp .eq 7, 3) := dk_159 0 7 (dk_at dksX11_isWritten_1 6 rfl rfl)
theorem dX11_isWritten_33 : decode cX11_isWritten 33 = .ok (.iconst 1, 1) := dk_4 (dk_at dksX11_isWritten_1 9 rfl rfl)
theorem dX11_isWritten_34 : decode cX11_isWritten 34 = .ok (.goto 4, 3) := dk_167 0 4 (dk_at dksX11_isWritten_1 10 rfl rfl)
theorem dX11_isWritten_37 : decode cX11_isWritten 37 = .ok (.iconst 0, 1) := dk_3 (dk_at dksX11_isWritten_1 13 rfl rfl)
theorem dX11_isWritten_38 : decode cX11_isWritten 38 = .ok (.ireturn, 1) := dk_172 (dk_at dksX11_isWritten_1 14 rfl rfl)
abbrev cX11_size : ByteArray := prog_8_method_8_code
def yX11_size : MethodName := ⟨RX11, "size", "(LNotationDesk$Part;)I"⟩
def dkwX11_size_0 : List UInt8 := [42, 43, 182, 0, 88, 184, 0, 91, 172]
abbrev dktX11_size_0 : List UInt8 := dkwX11_size_0 ++ []
theorem dksX11_size_0 : cX11_size.data.toList.drop 0 = dktX11_size_0 := by decide +kernel
theorem dX11_size_0 : decode cX11_size 0 = .ok (.aload_n 0, 1) := dk_42 (dk_at dksX11_size_0 0 rfl rfl)
theorem dX11_size_1 : decode cX11_size 1 = .ok (.aload_n 1, 1) := dk_43 (dk_at dksX11_size_0 1 rfl rfl)
theorem dX11_size_2 : decode cX11_size 2 = .ok (.invokevirtual 88, 3) := dk_182 0 88 (dk_at dksX11_size_0 2 rfl rfl)
theorem dX11_size_5 : decode cX11_size 5 = .ok (.invokestatic 91, 3) := dk_184 0 91 (dk_at dksX11_size_0 5 rfl rfl)
theorem dX11_size_8 : decode cX11_size 8 = .ok (.ireturn, 1) := dk_172 (dk_at dksX11_size_0 8 rfl rfl)
abbrev cX11_pack : ByteArray := prog_8_method_11_code
def yX11_pack : MethodName := ⟨RX11, "pack", "(LNotationDesk$Part;LNotationDesk$Writer;)V"⟩
def dkwX11_pack_3 : List UInt8 := [182, 0, 33, 44, 182, 0, 118, 132, 3, 1, 167, 255, 221, 177]
abbrev dktX11_pack_3 : List UInt8 := dkwX11_pack_3 ++ []
def dkwX11_pack_2 : List UInt8 := [42, 180, 0, 19, 162, 0, 33, 42, 43, 29, 182, 0, 80, 153, 0, 18, 42, 180, 0, 23, 29, 50, 43, 29]
abbrev dktX11_pack_2 : List UInt8 := dkwX11_pack_2 ++ dktX11_pack_3
def dkwX11_pack_1 : List UInt8 := [182, 0, 80, 153, 0, 7, 4, 167, 0, 4, 3, 4, 182, 0, 115, 132, 3, 1, 167, 255, 217, 3, 62, 29]
abbrev dktX11_pack_1 : List UInt8 := dkwX11_pack_1 ++ dktX11_pack_2
def dkwX11_pack_0 : List UInt8 := [3, 62, 29, 42, 180, 0, 19, 162, 0, 37, 42, 180, 0, 9, 29, 46, 153, 0, 22, 44, 42, 43, 29]
abbrev dktX11_pack_0 : List UInt8 := dkwX11_pack_0 ++ dktX11_pack_1
theorem dksX11_pack_0 : cX11_pack.data.toList.drop 0 = dktX11_pack_0 := by decide +kernel
theorem dksX11_pack_1 : cX11_pack.data.toList.drop 23 = dktX11_pack_1 := dk_seg dksX11_pack_0 23 rfl rfl
theorem dksX11_pack_2 : cX11_pack.data.toList.drop 47 = dktX11_pack_2 := dk_seg dksX11_pack_1 24 rfl rfl
theorem dksX11_pack_3 : cX11_pack.data.toList.drop 71 = dktX11_pack_3 := dk_seg dksX11_pack_2 24 rfl rfl
theorem dX11_pack_0 : decode cX11_pack 0 = .ok (.iconst 0, 1) := dk_3 (dk_at dksX11_pack_0 0 rfl rfl)
theorem dX11_pack_1 : decode cX11_pack 1 = .ok (.istore_n 3, 1) := dk_62 (dk_at dksX11_pack_0 1 rfl rfl)
theorem dX11_pack_2 : decode cX11_pack 2 = .ok (.iload_n 3, 1) := dk_29 (dk_at dksX11_pack_0 2 rfl rfl)
theorem dX11_pack_3 : decode cX11_pack 3 = .ok (.aload_n 0, 1) := dk_42 (dk_at dksX11_pack_0 3 rfl rfl)
theorem dX11_pack_4 : decode cX11_pack 4 = .ok (.getfield 19, 3) := dk_180 0 19 (dk_at dksX11_pack_0 4 rfl rfl)
theorem dX11_pack_7 : decode cX11_pack 7 = .ok (.if_icmp .ge 37, 3) := dk_162 0 37 (dk_at dksX11_pack_0 7 rfl rfl)
theorem dX11_pack_10 : decode cX11_pack 10 = .ok (.aload_n 0, 1) := dk_42 (dk_at dksX11_pack_0 10 rfl rfl)
theorem dX11_pack_11 : decode cX11_pack 11 = .ok (.getfield 9, 3) := dk_180 0 9 (dk_at dksX11_pack_0 11 rfl rfl)
theorem dX11_pack_14 : decode cX11_pack 14 = .ok (.iload_n 3, 1) := dk_29 (dk_at dksX11_pack_0 14 rfl rfl)
theorem dX11_pack_15 : decode cX11_pack 15 = .ok (.iaload, 1) := dk_46 (dk_at dksX11_pack_0 15 rfl rfl)
theorem dX11_pack_16 : decode cX11_pack 16 = .ok (.ifCond .eq 22, 3) := dk_153 0 22 (dk_at dksX11_pack_0 16 rfl rfl)
theorem dX11_pack_19 : decode cX11_pack 19 = .ok (.aload_n 2, 1) := dk_44 (dk_at dksX11_pack_0 19 rfl rfl)
theorem dX11_pack_20 : decode cX11_pack 20 = .ok (.aload_n 0, 1) := dk_42 (dk_at dksX11_pack_0 20 rfl rfl)
theorem dX11_pack_21 : decode cX11_pack 21 = .ok (.aload_n 1, 1) := dk_43 (dk_at dksX11_pack_0 21 rfl rfl)
theorem dX11_pack_22 : decode cX11_pack 22 = .ok (.iload_n 3, 1) := dk_29 (dk_at dksX11_pack_0 22 rfl rfl)
theorem dX11_pack_23 : decode cX11_pack 23 = .ok (.invokevirtual 80, 3) := dk_182 0 80 (dk_at dksX11_pack_1 0 rfl rfl)
theorem dX11_pack_26 : decode cX11_pack 26 = .ok (.ifCond .eq 7, 3) := dk_153 0 7 (dk_at dksX11_pack_1 3 rfl rfl)
theorem dX11_pack_29 : decode cX11_pack 29 = .ok (.iconst 1, 1) := dk_4 (dk_at dksX11_pack_1 6 rfl rfl)
theorem dX11_pack_30 : decode cX11_pack 30 = .ok (.goto 4, 3) := dk_167 0 4 (dk_at dksX11_pack_1 7 rfl rfl)
theorem dX11_pack_33 : decode cX11_pack 33 = .ok (.iconst 0, 1) := dk_3 (dk_at dksX11_pack_1 10 rfl rfl)
theorem dX11_pack_34 : decode cX11_pack 34 = .ok (.iconst 1, 1) := dk_4 (dk_at dksX11_pack_1 11 rfl rfl)
theorem dX11_pack_35 : decode cX11_pack 35 = .ok (.invokevirtual 115, 3) := dk_182 0 115 (dk_at dksX11_pack_1 12 rfl rfl)
theorem dX11_pack_38 : decode cX11_pack 38 = .ok (.iinc 3 1, 3) := dk_132 3 1 (dk_at dksX11_pack_1 15 rfl rfl)
theorem dX11_pack_41 : decode cX11_pack 41 = .ok (.goto (-39), 3) := dk_167 255 217 (dk_at dksX11_pack_1 18 rfl rfl)
theorem dX11_pack_44 : decode cX11_pack 44 = .ok (.iconst 0, 1) := dk_3 (dk_at dksX11_pack_1 21 rfl rfl)
theorem dX11_pack_45 : decode cX11_pack 45 = .ok (.istore_n 3, 1) := dk_62 (dk_at dksX11_pack_1 22 rfl rfl)
theorem dX11_pack_46 : decode cX11_pack 46 = .ok (.iload_n 3, 1) := dk_29 (dk_at dksX11_pack_1 23 rfl rfl)
theorem dX11_pack_47 : decode cX11_pack 47 = .ok (.aload_n 0, 1) := dk_42 (dk_at dksX11_pack_2 0 rfl rfl)
theorem dX11_pack_48 : decode cX11_pack 48 = .ok (.getfield 19, 3) := dk_180 0 19 (dk_at dksX11_pack_2 1 rfl rfl)
theorem dX11_pack_51 : decode cX11_pack 51 = .ok (.if_icmp .ge 33, 3) := dk_162 0 33 (dk_at dksX11_pack_2 4 rfl rfl)
theorem dX11_pack_54 : decode cX11_pack 54 = .ok (.aload_n 0, 1) := dk_42 (dk_at dksX11_pack_2 7 rfl rfl)
theorem dX11_pack_55 : decode cX11_pack 55 = .ok (.aload_n 1, 1) := dk_43 (dk_at dksX11_pack_2 8 rfl rfl)
theorem dX11_pack_56 : decode cX11_pack 56 = .ok (.iload_n 3, 1) := dk_29 (dk_at dksX11_pack_2 9 rfl rfl)
theorem dX11_pack_57 : decode cX11_pack 57 = .ok (.invokevirtual 80, 3) := dk_182 0 80 (dk_at dksX11_pack_2 10 rfl rfl)
theorem dX11_pack_60 : decode cX11_pack 60 = .ok (.ifCond .eq 18, 3) := dk_153 0 18 (dk_at dksX11_pack_2 13 rfl rfl)
theorem dX11_pack_63 : decode cX11_pack 63 = .ok (.aload_n 0, 1) := dk_42 (dk_at dksX11_pack_2 16 rfl rfl)
theorem dX11_pack_64 : decode cX11_pack 64 = .ok (.getfield 23, 3) := dk_180 0 23 (dk_at dksX11_pack_2 17 rfl rfl)
theorem dX11_pack_67 : decode cX11_pack 67 = .ok (.iload_n 3, 1) := dk_29 (dk_at dksX11_pack_2 20 rfl rfl)
theorem dX11_pack_68 : decode cX11_pack 68 = .ok (.aaload, 1) := dk_50 (dk_at dksX11_pack_2 21 rfl rfl)
theorem dX11_pack_69 : decode cX11_pack 69 = .ok (.aload_n 1, 1) := dk_43 (dk_at dksX11_pack_2 22 rfl rfl)
theorem dX11_pack_70 : decode cX11_pack 70 = .ok (.iload_n 3, 1) := dk_29 (dk_at dksX11_pack_2 23 rfl rfl)
theorem dX11_pack_71 : decode cX11_pack 71 = .ok (.invokevirtual 33, 3) := dk_182 0 33 (dk_at dksX11_pack_3 0 rfl rfl)
theorem dX11_pack_74 : decode cX11_pack 74 = .ok (.aload_n 2, 1) := dk_44 (dk_at dksX11_pack_3 3 rfl rfl)
theorem dX11_pack_75 : decode cX11_pack 75 = .ok (.invokevirtual 118, 3) := dk_182 0 118 (dk_at dksX11_pack_3 4 rfl rfl)
theorem dX11_pack_78 : decode cX11_pack 78 = .ok (.iinc 3 1, 3) := dk_132 3 1 (dk_at dksX11_pack_3 7 rfl rfl)
theorem dX11_pack_81 : decode cX11_pack 81 = .ok (.goto (-35), 3) := dk_167 255 221 (dk_at dksX11_pack_3 10 rfl rfl)
theorem dX11_pack_84 : decode cX11_pack 84 = .ok (.return_, 1) := dk_177 (dk_at dksX11_pack_3 13 rfl rfl)
theorem q96 : (Jvm.Cond.initialized "NotationDesk$Sequence") ∈ lw_all := lw_g (lw_at lw_m1 11 rfl) rfl
theorem q242 : (Jvm.Cond.fieldLinkNest "NotationDesk$Sequence" (56 : Nat) "NotationDesk$Source" "store" "LNotationDesk$Store;" "NotationDesk") ∈ lw_tbl := lw_at lw_m1 157 rfl
theorem q403 : (Jvm.Cond.selects "NotationDesk$Sequence" ({ cls := "NotationDesk$Type", name := "height", desc := "()I" } : Jvm.MethodName) ({ cls := "NotationDesk$Group", name := "height", desc := "()I" } : Jvm.MethodName)) ∈ lw_all := lw_g (lw_at lw_m2 78 rfl) rfl
theorem q466 : (Jvm.Cond.instantiable "NotationDesk$Sequence" (4 : Nat)) ∈ lw_all := lw_g (lw_at lw_m2 141 rfl) rfl
theorem q468 : (Jvm.Cond.instanceMethod ({ cls := "NotationDesk$Sequence", name := "<init>", desc := "()V" } : Jvm.MethodName)) ∈ lw_all := lw_g (lw_at lw_m2 143 rfl) rfl
theorem q469 : (Jvm.Cond.code ({ cls := "NotationDesk$Sequence", name := "<init>", desc := "()V" } : Jvm.MethodName) prog_8_method_1_code (1 : Nat) (Option.none : Option Jvm.ClassFile.FieldType)) ∈ lw_all := lw_g (lw_at lw_m2 144 rfl) rfl
theorem q470 : (Jvm.Cond.methodLinkNest "NotationDesk$Sequence" (3 : Nat) ({ cls := "NotationDesk$Group", name := "<init>", desc := "()V" } : Jvm.MethodName) "NotationDesk") ∈ lw_tbl := lw_at lw_m2 145 rfl
theorem q475 : (Jvm.Cond.fieldLink "NotationDesk$Sequence" (9 : Nat) "NotationDesk$Sequence" "ways" "[I") ∈ lw_all := lw_g (lw_at lw_m2 150 rfl) rfl
theorem q477 : (Jvm.Cond.fieldLink "NotationDesk$Sequence" (15 : Nat) "NotationDesk$Sequence" "defaults" "[I") ∈ lw_all := lw_g (lw_at lw_m2 152 rfl) rfl
theorem q482 : (Jvm.Cond.fieldLink "NotationDesk$Sequence" (23 : Nat) "NotationDesk$Sequence" "types" "[LNotationDesk$Type;") ∈ lw_all := lw_g (lw_at lw_m2 157 rfl) rfl
theorem q483 : (Jvm.Cond.sameField "NotationDesk$Sequence" "NotationDesk$Group" "types" "[LNotationDesk$Type;") ∈ lw_all := lw_g (lw_at lw_m2 158 rfl) rfl
theorem q487 : (Jvm.Cond.fieldLink "NotationDesk$Sequence" (19 : Nat) "NotationDesk$Sequence" "count" "I") ∈ lw_all := lw_g (lw_at lw_m2 162 rfl) rfl
theorem q488 : (Jvm.Cond.sameField "NotationDesk$Sequence" "NotationDesk$Group" "count" "I") ∈ lw_all := lw_g (lw_at lw_m2 163 rfl) rfl
theorem q491 : (Jvm.Cond.laysFinal "NotationDesk$Sequence" "NotationDesk$Sequence" "ways" "[I") ∈ lw_all := lw_g (lw_at lw_m2 166 rfl) rfl
theorem q492 : (Jvm.Cond.soleField "NotationDesk$Sequence" "ways") ∈ lw_all := lw_g (lw_at lw_m2 167 rfl) rfl
theorem q493 : (Jvm.Cond.laysFinal "NotationDesk$Sequence" "NotationDesk$Sequence" "defaults" "[I") ∈ lw_all := lw_g (lw_at lw_m2 168 rfl) rfl
theorem q494 : (Jvm.Cond.soleField "NotationDesk$Sequence" "defaults") ∈ lw_all := lw_g (lw_at lw_m2 169 rfl) rfl
theorem q495 : (Jvm.Cond.laysFinal "NotationDesk$Sequence" "NotationDesk$Group" "types" "[LNotationDesk$Type;") ∈ lw_all := lw_g (lw_at lw_m2 170 rfl) rfl
theorem q497 : (Jvm.Cond.lays "NotationDesk$Sequence" "NotationDesk$Group" "count" "I") ∈ lw_all := lw_g (lw_at lw_m2 172 rfl) rfl
theorem q499 : (Jvm.Cond.superclass "NotationDesk$Sequence" "NotationDesk$Group") ∈ lw_all := lw_g (lw_at lw_m2 174 rfl) rfl
theorem q519 : (Jvm.Cond.selects "NotationDesk$Sequence" ({ cls := "NotationDesk$Type", name := "holds", desc := "(I)Z" } : Jvm.MethodName) ({ cls := "NotationDesk$Type", name := "holds", desc := "(I)Z" } : Jvm.MethodName)) ∈ lw_all := lw_g (lw_at lw_m2 194 rfl) rfl
theorem q527 : (Jvm.Cond.sameMethod "NotationDesk$Sequence" "NotationDesk$Group" "put" "(LNotationDesk$Type;)V") ∈ lw_all := lw_g (lw_at lw_m2 202 rfl) rfl
theorem q529 : (Jvm.Cond.selects "NotationDesk$Sequence" ({ cls := "NotationDesk$Sequence", name := "put", desc := "(LNotationDesk$Type;)V" } : Jvm.MethodName) ({ cls := "NotationDesk$Group", name := "put", desc := "(LNotationDesk$Type;)V" } : Jvm.MethodName)) ∈ lw_all := lw_g (lw_at lw_m2 204 rfl) rfl
theorem q537 : (Jvm.Cond.instanceMethod ({ cls := "NotationDesk$Sequence", name := "isDistinct", desc := "()Z" } : Jvm.MethodName)) ∈ lw_all := lw_g (lw_at lw_m2 212 rfl) rfl
theorem q538 : (Jvm.Cond.selects "NotationDesk$Sequence" ({ cls := "NotationDesk$Sequence", name := "isDistinct", desc := "()Z" } : Jvm.MethodName) ({ cls := "NotationDesk$Sequence", name := "isDistinct", desc := "()Z" } : Jvm.MethodName)) ∈ lw_all := lw_g (lw_at lw_m2 213 rfl) rfl
theorem q539 : (Jvm.Cond.code ({ cls := "NotationDesk$Sequence", name := "isDistinct", desc := "()Z" } : Jvm.MethodName) prog_8_method_3_code (3 : Nat) (Option.some Jvm.ClassFile.FieldType.boolean)) ∈ lw_all := lw_g (lw_at lw_m2 214 rfl) rfl
theorem q540 : (Jvm.Cond.methodLink "NotationDesk$Sequence" (27 : Nat) ({ cls := "NotationDesk$Type", name := "tags", desc := "()I" } : Jvm.MethodName)) ∈ lw_all := lw_g (lw_at lw_m2 215 rfl) rfl
theorem q549 : (Jvm.Cond.instanceMethod ({ cls := "NotationDesk$Sequence", name := "tags", desc := "()I" } : Jvm.MethodName)) ∈ lw_all := lw_g (lw_at lw_m2 224 rfl) rfl
theorem q550 : (Jvm.Cond.code ({ cls := "NotationDesk$Sequence", name := "tags", desc := "()I" } : Jvm.MethodName) prog_8_method_2_code (1 : Nat) (Option.some Jvm.ClassFile.FieldType.int)) ∈ lw_all := lw_g (lw_at lw_m2 225 rfl) rfl
theorem q551 : (Jvm.Cond.constant "NotationDesk$Sequence" (18 : Nat) (65536 : Int32)) ∈ lw_all := lw_g (lw_at lw_m2 226 rfl) rfl
theorem q559 : (Jvm.Cond.selects "NotationDesk$Sequence" ({ cls := "NotationDesk$Type", name := "tags", desc := "()I" } : Jvm.MethodName) ({ cls := "NotationDesk$Sequence", name := "tags", desc := "()I" } : Jvm.MethodName)) ∈ lw_all := lw_g (lw_at lw_m2 234 rfl) rfl
theorem q668 : (Jvm.Cond.selects "NotationDesk$Sequence" ({ cls := "NotationDesk$Type", name := "isChoice", desc := "()Z" } : Jvm.MethodName) ({ cls := "NotationDesk$Type", name := "isChoice", desc := "()Z" } : Jvm.MethodName)) ∈ lw_all := lw_g (lw_at lw_m3 103 rfl) rfl
theorem q910 : (Jvm.Cond.fieldLinkNest "NotationDesk$Sequence" (39 : Nat) "NotationDesk$Part" "number" "I" "NotationDesk") ∈ lw_tbl := lw_at lw_m4 105 rfl
theorem q990 : (Jvm.Cond.instanceMethod ({ cls := "NotationDesk$Sequence", name := "unpack", desc := "(LNotationDesk$Source;)LNotationDesk$Part;" } : Jvm.MethodName)) ∈ lw_all := lw_g (lw_at lw_m4 185 rfl) rfl
theorem q991 : (Jvm.Cond.code ({ cls := "NotationDesk$Sequence", name := "unpack", desc := "(LNotationDesk$Source;)LNotationDesk$Part;" } : Jvm.MethodName) prog_8_method_10_code (6 : Nat) (Option.some (Jvm.ClassFile.FieldType.object "NotationDesk$Part"))) ∈ lw_all := lw_g (lw_at lw_m4 186 rfl) rfl
theorem q992 : (Jvm.Cond.methodLink "NotationDesk$Sequence" (105 : Nat) ({ cls := "NotationDesk$Source", name := "take", desc := "(I)I" } : Jvm.MethodName)) ∈ lw_all := lw_g (lw_at lw_m4 187 rfl) rfl
theorem q993 : (Jvm.Cond.methodLink "NotationDesk$Sequence" (108 : Nat) ({ cls := "NotationDesk$Source", name := "isThere", desc := "()Z" } : Jvm.MethodName)) ∈ lw_all := lw_g (lw_at lw_m4 188 rfl) rfl
theorem q994 : (Jvm.Cond.methodLink "NotationDesk$Sequence" (60 : Nat) ({ cls := "NotationDesk$Store", name := "make", desc := "(II)LNotationDesk$Part;" } : Jvm.MethodName)) ∈ lw_all := lw_g (lw_at lw_m4 189 rfl) rfl
theorem q995 : (Jvm.Cond.methodLink "NotationDesk$Sequence" (111 : Nat) ({ cls := "NotationDesk$Type", name := "unpack", desc := "(LNotationDesk$Source;)LNotationDesk$Part;" } : Jvm.MethodName)) ∈ lw_all := lw_g (lw_at lw_m4 190 rfl) rfl
theorem q1013 : (Jvm.Cond.methodLink "NotationDesk$Sequence" (73 : Nat) ({ cls := "NotationDesk$Sequence", name := "add", desc := "(LNotationDesk$Part;ILNotationDesk$Part;ZLNotationDesk$Store;)Z" } : Jvm.MethodName)) ∈ lw_all := lw_g (lw_at lw_m4 208 rfl) rfl
theorem q1014 : (Jvm.Cond.privateMethod ({ cls := "NotationDesk$Sequence", name := "add", desc := "(LNotationDesk$Part;ILNotationDesk$Part;ZLNotationDesk$Store;)Z" } : Jvm.MethodName)) ∈ lw_tbl := lw_at lw_m4 209 rfl
theorem q1015 : (Jvm.Cond.instanceMethod ({ cls := "NotationDesk$Sequence", name := "add", desc := "(LNotationDesk$Part;ILNotationDesk$Part;ZLNotationDesk$Store;)Z" } : Jvm.MethodName)) ∈ lw_all := lw_g (lw_at lw_m4 210 rfl) rfl
theorem q1016 : (Jvm.Cond.code ({ cls := "NotationDesk$Sequence", name := "add", desc := "(LNotationDesk$Part;ILNotationDesk$Part;ZLNotationDesk$Store;)Z" } : Jvm.MethodName) prog_8_method_5_code (7 : Nat) (Option.some Jvm.ClassFile.FieldType.boolean)) ∈ lw_all := lw_g (lw_at lw_m4 211 rfl) rfl
theorem q1017 : (Jvm.Cond.methodLink "NotationDesk$Sequence" (42 : Nat) ({ cls := "NotationDesk$Type", name := "given", desc := "(LNotationDesk$Store;I)LNotationDesk$Part;" } : Jvm.MethodName)) ∈ lw_all := lw_g (lw_at lw_m4 212 rfl) rfl
theorem q1023 : (Jvm.Cond.selects "NotationDesk$Sequence" ({ cls := "NotationDesk$Type", name := "given", desc := "(LNotationDesk$Store;I)LNotationDesk$Part;" } : Jvm.MethodName) ({ cls := "NotationDesk$Type", name := "given", desc := "(LNotationDesk$Store;I)LNotationDesk$Part;" } : Jvm.MethodName)) ∈ lw_all := lw_g (lw_at lw_m4 218 rfl) rfl
theorem q1030 : (Jvm.Cond.methodLink "NotationDesk$Sequence" (46 : Nat) ({ cls := "NotationDesk$Part", name := "add", desc := "(LNotationDesk$Part;I)V" } : Jvm.MethodName)) ∈ lw_all := lw_g (lw_at lw_m4 225 rfl) rfl
theorem q1037 : (Jvm.Cond.selects "NotationDesk$Sequence" ({ cls := "NotationDesk$Type", name := "unpack", desc := "(LNotationDesk$Source;)LNotationDesk$Part;" } : Jvm.MethodName) ({ cls := "NotationDesk$Sequence", name := "unpack", desc := "(LNotationDesk$Source;)LNotationDesk$Part;" } : Jvm.MethodName)) ∈ lw_all := lw_g (lw_at lw_m4 232 rfl) rfl
theorem q1073 : (Jvm.Cond.instanceMethod ({ cls := "NotationDesk$Sequence", name := "read", desc := "(LNotationDesk$Source;I)LNotationDesk$Part;" } : Jvm.MethodName)) ∈ lw_all := lw_g (lw_at lw_m5 28 rfl) rfl
theorem q1074 : (Jvm.Cond.code ({ cls := "NotationDesk$Sequence", name := "read", desc := "(LNotationDesk$Source;I)LNotationDesk$Part;" } : Jvm.MethodName) prog_8_method_6_code (6 : Nat) (Option.some (Jvm.ClassFile.FieldType.object "NotationDesk$Part"))) ∈ lw_all := lw_g (lw_at lw_m5 29 rfl) rfl
theorem q1075 : (Jvm.Cond.methodLink "NotationDesk$Sequence" (50 : Nat) ({ cls := "NotationDesk$Source", name := "enter", desc := "(I)Z" } : Jvm.MethodName)) ∈ lw_all := lw_g (lw_at lw_m5 30 rfl) rfl
theorem q1080 : (Jvm.Cond.methodLink "NotationDesk$Sequence" (66 : Nat) ({ cls := "NotationDesk$Source", name := "tag", desc := "()I" } : Jvm.MethodName)) ∈ lw_all := lw_g (lw_at lw_m5 35 rfl) rfl
theorem q1081 : (Jvm.Cond.methodLink "NotationDesk$Sequence" (69 : Nat) ({ cls := "NotationDesk$Type", name := "read", desc := "(LNotationDesk$Source;I)LNotationDesk$Part;" } : Jvm.MethodName)) ∈ lw_all := lw_g (lw_at lw_m5 36 rfl) rfl
theorem q1099 : (Jvm.Cond.methodLink "NotationDesk$Sequence" (76 : Nat) ({ cls := "NotationDesk$Source", name := "leave", desc := "()Z" } : Jvm.MethodName)) ∈ lw_all := lw_g (lw_at lw_m5 54 rfl) rfl
theorem q1102 : (Jvm.Cond.selects "NotationDesk$Sequence" ({ cls := "NotationDesk$Type", name := "read", desc := "(LNotationDesk$Source;I)LNotationDesk$Part;" } : Jvm.MethodName) ({ cls := "NotationDesk$Sequence", name := "read", desc := "(LNotationDesk$Source;I)LNotationDesk$Part;" } : Jvm.MethodName)) ∈ lw_all := lw_g (lw_at lw_m5 57 rfl) rfl
theorem q1159 : (Jvm.Cond.instanceMethod ({ cls := "NotationDesk$Sequence", name := "write", desc := "(LNotationDesk$Part;LNotationDesk$Writer;I)V" } : Jvm.MethodName)) ∈ lw_all := lw_g (lw_at lw_m5 114 rfl) rfl
theorem q1160 : (Jvm.Cond.code ({ cls := "NotationDesk$Sequence", name := "write", desc := "(LNotationDesk$Part;LNotationDesk$Writer;I)V" } : Jvm.MethodName) prog_8_method_9_code (5 : Nat) (Option.none : Option Jvm.ClassFile.FieldType)) ∈ lw_all := lw_g (lw_at lw_m5 115 rfl) rfl
theorem q1161 : (Jvm.Cond.methodLink "NotationDesk$Sequence" (88 : Nat) ({ cls := "NotationDesk$Sequence", name := "content", desc := "(LNotationDesk$Part;)I" } : Jvm.MethodName)) ∈ lw_all := lw_g (lw_at lw_m5 116 rfl) rfl
theorem q1162 : (Jvm.Cond.privateMethod ({ cls := "NotationDesk$Sequence", name := "content", desc := "(LNotationDesk$Part;)I" } : Jvm.MethodName)) ∈ lw_tbl := lw_at lw_m5 117 rfl
theorem q1163 : (Jvm.Cond.instanceMethod ({ cls := "NotationDesk$Sequence", name := "content", desc := "(LNotationDesk$Part;)I" } : Jvm.MethodName)) ∈ lw_all := lw_g (lw_at lw_m5 118 rfl) rfl
theorem q1164 : (Jvm.Cond.code ({ cls := "NotationDesk$Sequence", name := "content", desc := "(LNotationDesk$Part;)I" } : Jvm.MethodName) prog_8_method_7_code (4 : Nat) (Option.some Jvm.ClassFile.FieldType.int)) ∈ lw_all := lw_g (lw_at lw_m5 119 rfl) rfl
theorem q1165 : (Jvm.Cond.methodLink "NotationDesk$Sequence" (80 : Nat) ({ cls := "NotationDesk$Sequence", name := "isWritten", desc := "(LNotationDesk$Part;I)Z" } : Jvm.MethodName)) ∈ lw_all := lw_g (lw_at lw_m5 120 rfl) rfl
theorem q1166 : (Jvm.Cond.privateMethod ({ cls := "NotationDesk$Sequence", name := "isWritten", desc := "(LNotationDesk$Part;I)Z" } : Jvm.MethodName)) ∈ lw_tbl := lw_at lw_m5 121 rfl
theorem q1167 : (Jvm.Cond.instanceMethod ({ cls := "NotationDesk$Sequence", name := "isWritten", desc := "(LNotationDesk$Part;I)Z" } : Jvm.MethodName)) ∈ lw_all := lw_g (lw_at lw_m5 122 rfl) rfl
theorem q1168 : (Jvm.Cond.code ({ cls := "NotationDesk$Sequence", name := "isWritten", desc := "(LNotationDesk$Part;I)Z" } : Jvm.MethodName) prog_8_method_4_code (4 : Nat) (Option.some Jvm.ClassFile.FieldType.boolean)) ∈ lw_all := lw_g (lw_at lw_m5 123 rfl) rfl
theorem q1169 : (Jvm.Cond.methodLink "NotationDesk$Sequence" (33 : Nat) ({ cls := "NotationDesk$Part", name := "component", desc := "(I)LNotationDesk$Part;" } : Jvm.MethodName)) ∈ lw_all := lw_g (lw_at lw_m5 124 rfl) rfl
theorem q1173 : (Jvm.Cond.methodLink "NotationDesk$Sequence" (84 : Nat) ({ cls := "NotationDesk$Type", name := "size", desc := "(LNotationDesk$Part;)I" } : Jvm.MethodName)) ∈ lw_all := lw_g (lw_at lw_m5 128 rfl) rfl
theorem q1185 : (Jvm.Cond.instanceMethod ({ cls := "NotationDesk$Sequence", name := "size", desc := "(LNotationDesk$Part;)I" } : Jvm.MethodName)) ∈ lw_all := lw_g (lw_at lw_m5 140 rfl) rfl
theorem q1186 : (Jvm.Cond.code ({ cls := "NotationDesk$Sequence", name := "size", desc := "(LNotationDesk$Part;)I" } : Jvm.MethodName) prog_8_method_8_code (2 : Nat) (Option.some Jvm.ClassFile.FieldType.int)) ∈ lw_all := lw_g (lw_at lw_m5 141 rfl) rfl
theorem q1187 : (Jvm.Cond.methodLinkNest "NotationDesk$Sequence" (91 : Nat) ({ cls := "NotationDesk", name := "headed", desc := "(I)I" } : Jvm.MethodName) "NotationDesk") ∈ lw_tbl := lw_at lw_m5 142 rfl
theorem q1202 : (Jvm.Cond.selects "NotationDesk$Sequence" ({ cls := "NotationDesk$Type", name := "size", desc := "(LNotationDesk$Part;)I" } : Jvm.MethodName) ({ cls := "NotationDesk$Sequence", name := "size", desc := "(LNotationDesk$Part;)I" } : Jvm.MethodName)) ∈ lw_all := lw_g (lw_at lw_m5 157 rfl) rfl
theorem q1205 : (Jvm.Cond.methodLink "NotationDesk$Sequence" (95 : Nat) ({ cls := "NotationDesk$Writer", name := "header", desc := "(II)V" } : Jvm.MethodName)) ∈ lw_all := lw_g (lw_at lw_m5 160 rfl) rfl
theorem q1206 : (Jvm.Cond.methodLink "NotationDesk$Sequence" (101 : Nat) ({ cls := "NotationDesk$Type", name := "write", desc := "(LNotationDesk$Part;LNotationDesk$Writer;I)V" } : Jvm.MethodName)) ∈ lw_all := lw_g (lw_at lw_m5 161 rfl) rfl
theorem q1217 : (Jvm.Cond.selects "NotationDesk$Sequence" ({ cls := "NotationDesk$Type", name := "write", desc := "(LNotationDesk$Part;LNotationDesk$Writer;I)V" } : Jvm.MethodName) ({ cls := "NotationDesk$Sequence", name := "write", desc := "(LNotationDesk$Part;LNotationDesk$Writer;I)V" } : Jvm.MethodName)) ∈ lw_all := lw_g (lw_at lw_m5 172 rfl) rfl
theorem q1252 : (Jvm.Cond.instanceMethod ({ cls := "NotationDesk$Sequence", name := "pack", desc := "(LNotationDesk$Part;LNotationDesk$Writer;)V" } : Jvm.MethodName)) ∈ lw_all := lw_g (lw_at lw_m5 207 rfl) rfl
theorem q1253 : (Jvm.Cond.code ({ cls := "NotationDesk$Sequence", name := "pack", desc := "(LNotationDesk$Part;LNotationDesk$Writer;)V" } : Jvm.MethodName) prog_8_method_11_code (4 : Nat) (Option.none : Option Jvm.ClassFile.FieldType)) ∈ lw_all := lw_g (lw_at lw_m5 208 rfl) rfl
theorem q1254 : (Jvm.Cond.methodLink "NotationDesk$Sequence" (115 : Nat) ({ cls := "NotationDesk$Writer", name := "put", desc := "(II)V" } : Jvm.MethodName)) ∈ lw_all := lw_g (lw_at lw_m5 209 rfl) rfl
theorem q1255 : (Jvm.Cond.methodLink "NotationDesk$Sequence" (118 : Nat) ({ cls := "NotationDesk$Type", name := "pack", desc := "(LNotationDesk$Part;LNotationDesk$Writer;)V" } : Jvm.MethodName)) ∈ lw_all := lw_g (lw_at lw_m5 210 rfl) rfl
theorem q1265 : (Jvm.Cond.selects "NotationDesk$Sequence" ({ cls := "NotationDesk$Type", name := "pack", desc := "(LNotationDesk$Part;LNotationDesk$Writer;)V" } : Jvm.MethodName) ({ cls := "NotationDesk$Sequence", name := "pack", desc := "(LNotationDesk$Part;LNotationDesk$Writer;)V" } : Jvm.MethodName)) ∈ lw_all := lw_g (lw_at lw_m5 220 rfl) rfl
theorem q1818 : (Jvm.Cond.castable "NotationDesk$Sequence" "java/lang/Object") ∈ lw_tbl := lw_at lw_m8 53 rfl
theorem q1834 : (Jvm.Cond.castable "NotationDesk$Sequence" "NotationDesk$Type") ∈ lw_tbl := lw_at lw_m8 69 rfl
theorem in_X11 : ∀ w ∈ wsX110, w ∈ lw_all := lw_in wsX110 [495, 497, 491, 493] (by decide +kernel) (by decide +kernel)
/-! NotationDesk$Choice -/
set_option maxRecDepth 100000
def RX12 : String := "NotationDesk$Choice"
def TX12 : u_T := fun k => match k with
  | 0 => ("NotationDesk$Group", "types", "[LNotationDesk$Type;", true)
  | _ => ("NotationDesk$Group", "count", "I", false)
def tyX12 : Nat → FieldType := fun k => match k with
  | 0 => .array (.object "NotationDesk$Type")
  | _ => .int
abbrev wsX120 : List Cond := u_ws RX12 TX12 2
theorem nmX12 : ∀ a, a < 2 → ∀ b, b < 2 → a ≠ b → (TX12 a).2.1 ≠ (TX12 b).2.1 := by decide +kernel
theorem tyX12_ok : ∀ k, k < 2 → parseFieldDescriptor (TX12 k).2.2.1 = some (tyX12 k) := by decide +kernel
abbrev cX12_tags : ByteArray := prog_2_method_2_code
def yX12_tags : MethodName := ⟨RX12, "tags", "()I"⟩
def dkwX12_tags_1 : List UInt8 := [132, 2, 1, 167, 255, 233, 27, 172]
abbrev dktX12_tags_1 : List UInt8 := dkwX12_tags_1 ++ []
def dkwX12_tags_0 : List UInt8 := [3, 60, 3, 61, 28, 42, 180, 0, 9, 162, 0, 21, 27, 42, 180, 0, 15, 28, 50, 182, 0, 19, 128, 60]
abbrev dktX12_tags_0 : List UInt8 := dkwX12_tags_0 ++ dktX12_tags_1
theorem dksX12_tags_0 : cX12_tags.data.toList.drop 0 = dktX12_tags_0 := by decide +kernel
theorem dksX12_tags_1 : cX12_tags.data.toList.drop 24 = dktX12_tags_1 := dk_seg dksX12_tags_0 24 rfl rfl
theorem dX12_tags_0 : decode cX12_tags 0 = .ok (.iconst 0, 1) := dk_3 (dk_at dksX12_tags_0 0 rfl rfl)
theorem dX12_tags_1 : decode cX12_tags 1 = .ok (.istore_n 1, 1) := dk_60 (dk_at dksX12_tags_0 1 rfl rfl)
theorem dX12_tags_2 : decode cX12_tags 2 = .ok (.iconst 0, 1) := dk_3 (dk_at dksX12_tags_0 2 rfl rfl)
theorem dX12_tags_3 : decode cX12_tags 3 = .ok (.istore_n 2, 1) := dk_61 (dk_at dksX12_tags_0 3 rfl rfl)
theorem dX12_tags_4 : decode cX12_tags 4 = .ok (.iload_n 2, 1) := dk_28 (dk_at dksX12_tags_0 4 rfl rfl)
theorem dX12_tags_5 : decode cX12_tags 5 = .ok (.aload_n 0, 1) := dk_42 (dk_at dksX12_tags_0 5 rfl rfl)
theorem dX12_tags_6 : decode cX12_tags 6 = .ok (.getfield 9, 3) := dk_180 0 9 (dk_at dksX12_tags_0 6 rfl rfl)
theorem dX12_tags_9 : decode cX12_tags 9 = .ok (.if_icmp .ge 21, 3) := dk_162 0 21 (dk_at dksX12_tags_0 9 rfl rfl)
theorem dX12_tags_12 : decode cX12_tags 12 = .ok (.iload_n 1, 1) := dk_27 (dk_at dksX12_tags_0 12 rfl rfl)
theorem dX12_tags_13 : decode cX12_tags 13 = .ok (.aload_n 0, 1) := dk_42 (dk_at dksX12_tags_0 13 rfl rfl)
theorem dX12_tags_14 : decode cX12_tags 14 = .ok (.getfield 15, 3) := dk_180 0 15 (dk_at dksX12_tags_0 14 rfl rfl)
theorem dX12_tags_17 : decode cX12_tags 17 = .ok (.iload_n 2, 1) := dk_28 (dk_at dksX12_tags_0 17 rfl rfl)
theorem dX12_tags_18 : decode cX12_tags 18 = .ok (.aaload, 1) := dk_50 (dk_at dksX12_tags_0 18 rfl rfl)
theorem dX12_tags_19 : decode cX12_tags 19 = .ok (.invokevirtual 19, 3) := dk_182 0 19 (dk_at dksX12_tags_0 19 rfl rfl)
theorem dX12_tags_22 : decode cX12_tags 22 = .ok (.ior, 1) := dk_128 (dk_at dksX12_tags_0 22 rfl rfl)
theorem dX12_tags_23 : decode cX12_tags 23 = .ok (.istore_n 1, 1) := dk_60 (dk_at dksX12_tags_0 23 rfl rfl)
theorem dX12_tags_24 : decode cX12_tags 24 = .ok (.iinc 2 1, 3) := dk_132 2 1 (dk_at dksX12_tags_1 0 rfl rfl)
theorem dX12_tags_27 : decode cX12_tags 27 = .ok (.goto (-23), 3) := dk_167 255 233 (dk_at dksX12_tags_1 3 rfl rfl)
theorem dX12_tags_30 : decode cX12_tags 30 = .ok (.iload_n 1, 1) := dk_27 (dk_at dksX12_tags_1 6 rfl rfl)
theorem dX12_tags_31 : decode cX12_tags 31 = .ok (.ireturn, 1) := dk_172 (dk_at dksX12_tags_1 7 rfl rfl)
abbrev cX12_init : ByteArray := prog_2_method_1_code
def yX12_init : MethodName := ⟨RX12, "<init>", "()V"⟩
theorem dX12_init_0 : decode cX12_init 0 = .ok (.aload_n 0, 1) := by decide +kernel
theorem dX12_init_1 : decode cX12_init 1 = .ok (.invokespecial 3, 3) := by decide +kernel
theorem dX12_init_4 : decode cX12_init 4 = .ok (.return_, 1) := by decide +kernel
abbrev cX12_isDistinct : ByteArray := prog_2_method_4_code
def yX12_isDistinct : MethodName := ⟨RX12, "isDistinct", "()Z"⟩
def dkwX12_isDistinct_2 : List UInt8 := [172]
abbrev dktX12_isDistinct_2 : List UInt8 := dkwX12_isDistinct_2 ++ []
def dkwX12_isDistinct_1 : List UInt8 := [153, 0, 5, 3, 172, 27, 42, 180, 0, 15, 28, 50, 182, 0, 19, 128, 60, 132, 2, 1, 167, 255, 217, 4]
abbrev dktX12_isDistinct_1 : List UInt8 := dkwX12_isDistinct_1 ++ dktX12_isDistinct_2
def dkwX12_isDistinct_0 : List UInt8 := [3, 60, 3, 61, 28, 42, 180, 0, 9, 162, 0, 37, 27, 42, 180, 0, 15, 28, 50, 182, 0, 19, 126]
abbrev dktX12_isDistinct_0 : List UInt8 := dkwX12_isDistinct_0 ++ dktX12_isDistinct_1
theorem dksX12_isDistinct_0 : cX12_isDistinct.data.toList.drop 0 = dktX12_isDistinct_0 := by decide +kernel
theorem dksX12_isDistinct_1 : cX12_isDistinct.data.toList.drop 23 = dktX12_isDistinct_1 := dk_seg dksX12_isDistinct_0 23 rfl rfl
theorem dksX12_isDistinct_2 : cX12_isDistinct.data.toList.drop 47 = dktX12_isDistinct_2 := dk_seg dksX12_isDistinct_1 24 rfl rfl
theorem dX12_isDistinct_0 : decode cX12_isDistinct 0 = .ok (.iconst 0, 1) := dk_3 (dk_at dksX12_isDistinct_0 0 rfl rfl)
theorem dX12_isDistinct_1 : decode cX12_isDistinct 1 = .ok (.istore_n 1, 1) := dk_60 (dk_at dksX12_isDistinct_0 1 rfl rfl)
theorem dX12_isDistinct_2 : decode cX12_isDistinct 2 = .ok (.iconst 0, 1) := dk_3 (dk_at dksX12_isDistinct_0 2 rfl rfl)
theorem dX12_isDistinct_3 : decode cX12_isDistinct 3 = .ok (.istore_n 2, 1) := dk_61 (dk_at dksX12_isDistinct_0 3 rfl rfl)
theorem dX12_isDistinct_4 : decode cX12_isDistinct 4 = .ok (.iload_n 2, 1) := dk_28 (dk_at dksX12_isDistinct_0 4 rfl rfl)
theorem dX12_isDistinct_5 : decode cX12_isDistinct 5 = .ok (.aload_n 0, 1) := dk_42 (dk_at dksX12_isDistinct_0 5 rfl rfl)
theorem dX12_isDistinct_6 : decode cX12_isDistinct 6 = .ok (.getfield 9, 3) := dk_180 0 9 (dk_at dksX12_isDistinct_0 6 rfl rfl)
theorem dX12_isDistinct_9 : decode cX12_isDistinct 9 = .ok (.if_icmp .ge 37, 3) := dk_162 0 37 (dk_at dksX12_isDistinct_0 9 rfl rfl)
theorem dX12_isDistinct_12 : decode cX12_isDistinct 12 = .ok (.iload_n 1, 1) := dk_27 (dk_at dksX12_isDistinct_0 12 rfl rfl)
theorem dX12_isDistinct_13 : decode cX12_isDistinct 13 = .ok (.aload_n 0, 1) := dk_42 (dk_at dksX12_isDistinct_0 13 rfl rfl)
theorem dX12_isDistinct_14 : decode cX12_isDistinct 14 = .ok (.getfield 15, 3) := dk_180 0 15 (dk_at dksX12_isDistinct_0 14 rfl rfl)
theorem dX12_isDistinct_17 : decode cX12_isDistinct 17 = .ok (.iload_n 2, 1) := dk_28 (dk_at dksX12_isDistinct_0 17 rfl rfl)
theorem dX12_isDistinct_18 : decode cX12_isDistinct 18 = .ok (.aaload, 1) := dk_50 (dk_at dksX12_isDistinct_0 18 rfl rfl)
theorem dX12_isDistinct_19 : decode cX12_isDistinct 19 = .ok (.invokevirtual 19, 3) := dk_182 0 19 (dk_at dksX12_isDistinct_0 19 rfl rfl)
theorem dX12_isDistinct_22 : decode cX12_isDistinct 22 = .ok (.iand, 1) := dk_126 (dk_at dksX12_isDistinct_0 22 rfl rfl)
theorem dX12_isDistinct_23 : decode cX12_isDistinct 23 = .ok (.ifCond .eq 5, 3) := dk_153 0 5 (dk_at dksX12_isDistinct_1 0 rfl rfl)
theorem dX12_isDistinct_26 : decode cX12_isDistinct 26 = .ok (.iconst 0, 1) := dk_3 (dk_at dksX12_isDistinct_1 3 rfl rfl)
theorem dX12_isDistinct_27 : decode cX12_isDistinct 27 = .ok (.ireturn, 1) := dk_172 (dk_at dksX12_isDistinct_1 4 rfl rfl)
theorem dX12_isDistinct_28 : decode cX12_isDistinct 28 = .ok (.iload_n 1, 1) := dk_27 (dk_at dksX12_isDistinct_1 5 rfl rfl)
theorem dX12_isDistinct_29 : decode cX12_isDistinct 29 = .ok (.aload_n 0, 1) := dk_42 (dk_at dksX12_isDistinct_1 6 rfl rfl)
theorem dX12_isDistinct_30 : decode cX12_isDistinct 30 = .ok (.getfield 15, 3) := dk_180 0 15 (dk_at dksX12_isDistinct_1 7 rfl rfl)
theorem dX12_isDistinct_33 : decode cX12_isDistinct 33 = .ok (.iload_n 2, 1) := dk_28 (dk_at dksX12_isDistinct_1 10 rfl rfl)
theorem dX12_isDistinct_34 : decode cX12_isDistinct 34 = .ok (.aaload, 1) := dk_50 (dk_at dksX12_isDistinct_1 11 rfl rfl)
theorem dX12_isDistinct_35 : decode cX12_isDistinct 35 = .ok (.invokevirtual 19, 3) := dk_182 0 19 (dk_at dksX12_isDistinct_1 12 rfl rfl)
theorem dX12_isDistinct_38 : decode cX12_isDistinct 38 = .ok (.ior, 1) := dk_128 (dk_at dksX12_isDistinct_1 15 rfl rfl)
theorem dX12_isDistinct_39 : decode cX12_isDistinct 39 = .ok (.istore_n 1, 1) := dk_60 (dk_at dksX12_isDistinct_1 16 rfl rfl)
theorem dX12_isDistinct_40 : decode cX12_isDistinct 40 = .ok (.iinc 2 1, 3) := dk_132 2 1 (dk_at dksX12_isDistinct_1 17 rfl rfl)
theorem dX12_isDistinct_43 : decode cX12_isDistinct 43 = .ok (.goto (-39), 3) := dk_167 255 217 (dk_at dksX12_isDistinct_1 20 rfl rfl)
theorem dX12_isDistinct_46 : decode cX12_isDistinct 46 = .ok (.iconst 1, 1) := dk_4 (dk_at dksX12_isDistinct_1 23 rfl rfl)
theorem dX12_isDistinct_47 : decode cX12_isDistinct 47 = .ok (.ireturn, 1) := dk_172 (dk_at dksX12_isDistinct_2 0 rfl rfl)
abbrev cX12_isChoice : ByteArray := prog_2_method_3_code
def yX12_isChoice : MethodName := ⟨RX12, "isChoice", "()Z"⟩
theorem dX12_isChoice_0 : decode cX12_isChoice 0 = .ok (.iconst 1, 1) := by decide +kernel
theorem dX12_isChoice_1 : decode cX12_isChoice 1 = .ok (.ireturn, 1) := by decide +kernel
abbrev cX12_unpack : ByteArray := prog_2_method_11_code
def yX12_unpack : MethodName := ⟨RX12, "unpack", "(LNotationDesk$Source;)LNotationDesk$Part;"⟩
def dkwX12_unpack_3 : List UInt8 := [176]
abbrev dktX12_unpack_3 : List UInt8 := dkwX12_unpack_3 ++ []
def dkwX12_unpack_2 : List UInt8 := [182, 0, 44, 42, 180, 0, 15, 29, 50, 43, 182, 0, 84, 184, 0, 54, 176, 132, 3, 1, 167, 255, 205, 1]
abbrev dktX12_unpack_2 : List UInt8 := dkwX12_unpack_2 ++ dktX12_unpack_3
def dkwX12_unpack_1 : List UInt8 := [182, 0, 77, 153, 0, 42, 42, 29, 182, 0, 81, 28, 160, 0, 27, 43, 180, 0, 40, 16, 9, 29]
abbrev dktX12_unpack_1 : List UInt8 := dkwX12_unpack_1 ++ dktX12_unpack_2
def dkwX12_unpack_0 : List UInt8 := [43, 3, 42, 180, 0, 9, 4, 100, 182, 0, 73, 61, 3, 62, 29, 42, 180, 0, 9, 162, 0, 49, 43]
abbrev dktX12_unpack_0 : List UInt8 := dkwX12_unpack_0 ++ dktX12_unpack_1
theorem dksX12_unpack_0 : cX12_unpack.data.toList.drop 0 = dktX12_unpack_0 := by decide +kernel
theorem dksX12_unpack_1 : cX12_unpack.data.toList.drop 23 = dktX12_unpack_1 := dk_seg dksX12_unpack_0 23 rfl rfl
theorem dksX12_unpack_2 : cX12_unpack.data.toList.drop 45 = dktX12_unpack_2 := dk_seg dksX12_unpack_1 22 rfl rfl
theorem dksX12_unpack_3 : cX12_unpack.data.toList.drop 69 = dktX12_unpack_3 := dk_seg dksX12_unpack_2 24 rfl rfl
theorem dX12_unpack_0 : decode cX12_unpack 0 = .ok (.aload_n 1, 1) := dk_43 (dk_at dksX12_unpack_0 0 rfl rfl)
theorem dX12_unpack_1 : decode cX12_unpack 1 = .ok (.iconst 0, 1) := dk_3 (dk_at dksX12_unpack_0 1 rfl rfl)
theorem dX12_unpack_2 : decode cX12_unpack 2 = .ok (.aload_n 0, 1) := dk_42 (dk_at dksX12_unpack_0 2 rfl rfl)
theorem dX12_unpack_3 : decode cX12_unpack 3 = .ok (.getfield 9, 3) := dk_180 0 9 (dk_at dksX12_unpack_0 3 rfl rfl)
theorem dX12_unpack_6 : decode cX12_unpack 6 = .ok (.iconst 1, 1) := dk_4 (dk_at dksX12_unpack_0 6 rfl rfl)
theorem dX12_unpack_7 : decode cX12_unpack 7 = .ok (.isub, 1) := dk_100 (dk_at dksX12_unpack_0 7 rfl rfl)
theorem dX12_unpack_8 : decode cX12_unpack 8 = .ok (.invokevirtual 73, 3) := dk_182 0 73 (dk_at dksX12_unpack_0 8 rfl rfl)
theorem dX12_unpack_11 : decode cX12_unpack 11 = .ok (.istore_n 2, 1) := dk_61 (dk_at dksX12_unpack_0 11 rfl rfl)
theorem dX12_unpack_12 : decode cX12_unpack 12 = .ok (.iconst 0, 1) := dk_3 (dk_at dksX12_unpack_0 12 rfl rfl)
theorem dX12_unpack_13 : decode cX12_unpack 13 = .ok (.istore_n 3, 1) := dk_62 (dk_at dksX12_unpack_0 13 rfl rfl)
theorem dX12_unpack_14 : decode cX12_unpack 14 = .ok (.iload_n 3, 1) := dk_29 (dk_at dksX12_unpack_0 14 rfl rfl)
theorem dX12_unpack_15 : decode cX12_unpack 15 = .ok (.aload_n 0, 1) := dk_42 (dk_at dksX12_unpack_0 15 rfl rfl)
theorem dX12_unpack_16 : decode cX12_unpack 16 = .ok (.getfield 9, 3) := dk_180 0 9 (dk_at dksX12_unpack_0 16 rfl rfl)
theorem dX12_unpack_19 : decode cX12_unpack 19 = .ok (.if_icmp .ge 49, 3) := dk_162 0 49 (dk_at dksX12_unpack_0 19 rfl rfl)
theorem dX12_unpack_22 : decode cX12_unpack 22 = .ok (.aload_n 1, 1) := dk_43 (dk_at dksX12_unpack_0 22 rfl rfl)
theorem dX12_unpack_23 : decode cX12_unpack 23 = .ok (.invokevirtual 77, 3) := dk_182 0 77 (dk_at dksX12_unpack_1 0 rfl rfl)
theorem dX12_unpack_26 : decode cX12_unpack 26 = .ok (.ifCond .eq 42, 3) := dk_153 0 42 (dk_at dksX12_unpack_1 3 rfl rfl)
theorem dX12_unpack_29 : decode cX12_unpack 29 = .ok (.aload_n 0, 1) := dk_42 (dk_at dksX12_unpack_1 6 rfl rfl)
theorem dX12_unpack_30 : decode cX12_unpack 30 = .ok (.iload_n 3, 1) := dk_29 (dk_at dksX12_unpack_1 7 rfl rfl)
theorem dX12_unpack_31 : decode cX12_unpack 31 = .ok (.invokevirtual 81, 3) := dk_182 0 81 (dk_at dksX12_unpack_1 8 rfl rfl)
theorem dX12_unpack_34 : decode cX12_unpack 34 = .ok (.iload_n 2, 1) := dk_28 (dk_at dksX12_unpack_1 11 rfl rfl)
theorem dX12_unpack_35 : decode cX12_unpack 35 = .ok (.if_icmp .ne 27, 3) := dk_160 0 27 (dk_at dksX12_unpack_1 12 rfl rfl)
theorem dX12_unpack_38 : decode cX12_unpack 38 = .ok (.aload_n 1, 1) := dk_43 (dk_at dksX12_unpack_1 15 rfl rfl)
theorem dX12_unpack_39 : decode cX12_unpack 39 = .ok (.getfield 40, 3) := dk_180 0 40 (dk_at dksX12_unpack_1 16 rfl rfl)
theorem dX12_unpack_42 : decode cX12_unpack 42 = .ok (.bipush 9, 2) := dk_16 9 (dk_at dksX12_unpack_1 19 rfl rfl)
theorem dX12_unpack_44 : decode cX12_unpack 44 = .ok (.iload_n 3, 1) := dk_29 (dk_at dksX12_unpack_1 21 rfl rfl)
theorem dX12_unpack_45 : decode cX12_unpack 45 = .ok (.invokevirtual 44, 3) := dk_182 0 44 (dk_at dksX12_unpack_2 0 rfl rfl)
theorem dX12_unpack_48 : decode cX12_unpack 48 = .ok (.aload_n 0, 1) := dk_42 (dk_at dksX12_unpack_2 3 rfl rfl)
theorem dX12_unpack_49 : decode cX12_unpack 49 = .ok (.getfield 15, 3) := dk_180 0 15 (dk_at dksX12_unpack_2 4 rfl rfl)
theorem dX12_unpack_52 : decode cX12_unpack 52 = .ok (.iload_n 3, 1) := dk_29 (dk_at dksX12_unpack_2 7 rfl rfl)
theorem dX12_unpack_53 : decode cX12_unpack 53 = .ok (.aaload, 1) := dk_50 (dk_at dksX12_unpack_2 8 rfl rfl)
theorem dX12_unpack_54 : decode cX12_unpack 54 = .ok (.aload_n 1, 1) := dk_43 (dk_at dksX12_unpack_2 9 rfl rfl)
theorem dX12_unpack_55 : decode cX12_unpack 55 = .ok (.invokevirtual 84, 3) := dk_182 0 84 (dk_at dksX12_unpack_2 10 rfl rfl)
theorem dX12_unpack_58 : decode cX12_unpack 58 = .ok (.invokestatic 54, 3) := dk_184 0 54 (dk_at dksX12_unpack_2 13 rfl rfl)
theorem dX12_unpack_61 : decode cX12_unpack 61 = .ok (.areturn, 1) := dk_176 (dk_at dksX12_unpack_2 16 rfl rfl)
theorem dX12_unpack_62 : decode cX12_unpack 62 = .ok (.iinc 3 1, 3) := dk_132 3 1 (dk_at dksX12_unpack_2 17 rfl rfl)
theorem dX12_unpack_65 : decode cX12_unpack 65 = .ok (.goto (-51), 3) := dk_167 255 205 (dk_at dksX12_unpack_2 20 rfl rfl)
theorem dX12_unpack_68 : decode cX12_unpack 68 = .ok (.aconst_null, 1) := dk_1 (dk_at dksX12_unpack_2 23 rfl rfl)
theorem dX12_unpack_69 : decode cX12_unpack 69 = .ok (.areturn, 1) := dk_176 (dk_at dksX12_unpack_3 0 rfl rfl)
abbrev cX12_rank : ByteArray := prog_2_method_6_code
def yX12_rank : MethodName := ⟨RX12, "rank", "(I)I"⟩
def dkwX12_rank_2 : List UInt8 := [61, 132, 3, 1, 167, 255, 210, 28, 172]
abbrev dktX12_rank_2 : List UInt8 := dkwX12_rank_2 ++ []
def dkwX12_rank_1 : List UInt8 := [184, 0, 25, 42, 180, 0, 15, 27, 50, 182, 0, 19, 184, 0, 25, 162, 0, 7, 4, 167, 0, 4, 3, 96]
abbrev dktX12_rank_1 : List UInt8 := dkwX12_rank_1 ++ dktX12_rank_2
def dkwX12_rank_0 : List UInt8 := [3, 61, 3, 62, 29, 42, 180, 0, 9, 162, 0, 44, 28, 42, 180, 0, 15, 29, 50, 182, 0, 19]
abbrev dktX12_rank_0 : List UInt8 := dkwX12_rank_0 ++ dktX12_rank_1
theorem dksX12_rank_0 : cX12_rank.data.toList.drop 0 = dktX12_rank_0 := by decide +kernel
theorem dksX12_rank_1 : cX12_rank.data.toList.drop 22 = dktX12_rank_1 := dk_seg dksX12_rank_0 22 rfl rfl
theorem dksX12_rank_2 : cX12_rank.data.toList.drop 46 = dktX12_rank_2 := dk_seg dksX12_rank_1 24 rfl rfl
theorem dX12_rank_0 : decode cX12_rank 0 = .ok (.iconst 0, 1) := dk_3 (dk_at dksX12_rank_0 0 rfl rfl)
theorem dX12_rank_1 : decode cX12_rank 1 = .ok (.istore_n 2, 1) := dk_61 (dk_at dksX12_rank_0 1 rfl rfl)
theorem dX12_rank_2 : decode cX12_rank 2 = .ok (.iconst 0, 1) := dk_3 (dk_at dksX12_rank_0 2 rfl rfl)
theorem dX12_rank_3 : decode cX12_rank 3 = .ok (.istore_n 3, 1) := dk_62 (dk_at dksX12_rank_0 3 rfl rfl)
theorem dX12_rank_4 : decode cX12_rank 4 = .ok (.iload_n 3, 1) := dk_29 (dk_at dksX12_rank_0 4 rfl rfl)
theorem dX12_rank_5 : decode cX12_rank 5 = .ok (.aload_n 0, 1) := dk_42 (dk_at dksX12_rank_0 5 rfl rfl)
theorem dX12_rank_6 : decode cX12_rank 6 = .ok (.getfield 9, 3) := dk_180 0 9 (dk_at dksX12_rank_0 6 rfl rfl)
theorem dX12_rank_9 : decode cX12_rank 9 = .ok (.if_icmp .ge 44, 3) := dk_162 0 44 (dk_at dksX12_rank_0 9 rfl rfl)
theorem dX12_rank_12 : decode cX12_rank 12 = .ok (.iload_n 2, 1) := dk_28 (dk_at dksX12_rank_0 12 rfl rfl)
theorem dX12_rank_13 : decode cX12_rank 13 = .ok (.aload_n 0, 1) := dk_42 (dk_at dksX12_rank_0 13 rfl rfl)
theorem dX12_rank_14 : decode cX12_rank 14 = .ok (.getfield 15, 3) := dk_180 0 15 (dk_at dksX12_rank_0 14 rfl rfl)
theorem dX12_rank_17 : decode cX12_rank 17 = .ok (.iload_n 3, 1) := dk_29 (dk_at dksX12_rank_0 17 rfl rfl)
theorem dX12_rank_18 : decode cX12_rank 18 = .ok (.aaload, 1) := dk_50 (dk_at dksX12_rank_0 18 rfl rfl)
theorem dX12_rank_19 : decode cX12_rank 19 = .ok (.invokevirtual 19, 3) := dk_182 0 19 (dk_at dksX12_rank_0 19 rfl rfl)
theorem dX12_rank_22 : decode cX12_rank 22 = .ok (.invokestatic 25, 3) := dk_184 0 25 (dk_at dksX12_rank_1 0 rfl rfl)
theorem dX12_rank_25 : decode cX12_rank 25 = .ok (.aload_n 0, 1) := dk_42 (dk_at dksX12_rank_1 3 rfl rfl)
theorem dX12_rank_26 : decode cX12_rank 26 = .ok (.getfield 15, 3) := dk_180 0 15 (dk_at dksX12_rank_1 4 rfl rfl)
theorem dX12_rank_29 : decode cX12_rank 29 = .ok (.iload_n 1, 1) := dk_27 (dk_at dksX12_rank_1 7 rfl rfl)
theorem dX12_rank_30 : decode cX12_rank 30 = .ok (.aaload, 1) := dk_50 (dk_at dksX12_rank_1 8 rfl rfl)
theorem dX12_rank_31 : decode cX12_rank 31 = .ok (.invokevirtual 19, 3) := dk_182 0 19 (dk_at dksX12_rank_1 9 rfl rfl)
theorem dX12_rank_34 : decode cX12_rank 34 = .ok (.invokestatic 25, 3) := dk_184 0 25 (dk_at dksX12_rank_1 12 rfl rfl)
theorem dX12_rank_37 : decode cX12_rank 37 = .ok (.if_icmp .ge 7, 3) := dk_162 0 7 (dk_at dksX12_rank_1 15 rfl rfl)
theorem dX12_rank_40 : decode cX12_rank 40 = .ok (.iconst 1, 1) := dk_4 (dk_at dksX12_rank_1 18 rfl rfl)
theorem dX12_rank_41 : decode cX12_rank 41 = .ok (.goto 4, 3) := dk_167 0 4 (dk_at dksX12_rank_1 19 rfl rfl)
theorem dX12_rank_44 : decode cX12_rank 44 = .ok (.iconst 0, 1) := dk_3 (dk_at dksX12_rank_1 22 rfl rfl)
theorem dX12_rank_45 : decode cX12_rank 45 = .ok (.iadd, 1) := dk_96 (dk_at dksX12_rank_1 23 rfl rfl)
theorem dX12_rank_46 : decode cX12_rank 46 = .ok (.istore_n 2, 1) := dk_61 (dk_at dksX12_rank_2 0 rfl rfl)
theorem dX12_rank_47 : decode cX12_rank 47 = .ok (.iinc 3 1, 3) := dk_132 3 1 (dk_at dksX12_rank_2 1 rfl rfl)
theorem dX12_rank_50 : decode cX12_rank 50 = .ok (.goto (-46), 3) := dk_167 255 210 (dk_at dksX12_rank_2 4 rfl rfl)
theorem dX12_rank_53 : decode cX12_rank 53 = .ok (.iload_n 2, 1) := dk_28 (dk_at dksX12_rank_2 7 rfl rfl)
theorem dX12_rank_54 : decode cX12_rank 54 = .ok (.ireturn, 1) := dk_172 (dk_at dksX12_rank_2 8 rfl rfl)
abbrev cX12_least : ByteArray := prog_2_method_5_code
def yX12_least : MethodName := ⟨RX12, "least", "(I)I"⟩
def dkwX12_least_0 : List UInt8 := [26, 26, 116, 126, 172]
abbrev dktX12_least_0 : List UInt8 := dkwX12_least_0 ++ []
theorem dksX12_least_0 : cX12_least.data.toList.drop 0 = dktX12_least_0 := by decide +kernel
theorem dX12_least_0 : decode cX12_least 0 = .ok (.iload_n 0, 1) := dk_26 (dk_at dksX12_least_0 0 rfl rfl)
theorem dX12_least_1 : decode cX12_least 1 = .ok (.iload_n 0, 1) := dk_26 (dk_at dksX12_least_0 1 rfl rfl)
theorem dX12_least_2 : decode cX12_least 2 = .ok (.ineg, 1) := dk_116 (dk_at dksX12_least_0 2 rfl rfl)
theorem dX12_least_3 : decode cX12_least 3 = .ok (.iand, 1) := dk_126 (dk_at dksX12_least_0 3 rfl rfl)
theorem dX12_least_4 : decode cX12_least 4 = .ok (.ireturn, 1) := dk_172 (dk_at dksX12_least_0 4 rfl rfl)
abbrev cX12_with : ByteArray := prog_2_method_7_code
def yX12_with : MethodName := ⟨RX12, "with", "(LNotationDesk$Part;LNotationDesk$Part;)LNotationDesk$Part;"⟩
def dkwX12_with_0 : List UInt8 := [42, 198, 0, 7, 43, 199, 0, 5, 1, 176, 42, 43, 3, 182, 0, 29, 42, 176]
abbrev dktX12_with_0 : List UInt8 := dkwX12_with_0 ++ []
theorem dksX12_with_0 : cX12_with.data.toList.drop 0 = dktX12_with_0 := by decide +kernel
theorem dX12_with_0 : decode cX12_with 0 = .ok (.aload_n 0, 1) := dk_42 (dk_at dksX12_with_0 0 rfl rfl)
theorem dX12_with_1 : decode cX12_with 1 = .ok (.ifnull 7, 3) := dk_198 0 7 (dk_at dksX12_with_0 1 rfl rfl)
theorem dX12_with_4 : decode cX12_with 4 = .ok (.aload_n 1, 1) := dk_43 (dk_at dksX12_with_0 4 rfl rfl)
theorem dX12_with_5 : decode cX12_with 5 = .ok (.ifnonnull 5, 3) := dk_199 0 5 (dk_at dksX12_with_0 5 rfl rfl)
theorem dX12_with_8 : decode cX12_with 8 = .ok (.aconst_null, 1) := dk_1 (dk_at dksX12_with_0 8 rfl rfl)
theorem dX12_with_9 : decode cX12_with 9 = .ok (.areturn, 1) := dk_176 (dk_at dksX12_with_0 9 rfl rfl)
theorem dX12_with_10 : decode cX12_with 10 = .ok (.aload_n 0, 1) := dk_42 (dk_at dksX12_with_0 10 rfl rfl)
theorem dX12_with_11 : decode cX12_with 11 = .ok (.aload_n 1, 1) := dk_43 (dk_at dksX12_with_0 11 rfl rfl)
theorem dX12_with_12 : decode cX12_with 12 = .ok (.iconst 0, 1) := dk_3 (dk_at dksX12_with_0 12 rfl rfl)
theorem dX12_with_13 : decode cX12_with 13 = .ok (.invokevirtual 29, 3) := dk_182 0 29 (dk_at dksX12_with_0 13 rfl rfl)
theorem dX12_with_16 : decode cX12_with 16 = .ok (.aload_n 0, 1) := dk_42 (dk_at dksX12_with_0 16 rfl rfl)
theorem dX12_with_17 : decode cX12_with 17 = .ok (.areturn, 1) := dk_176 (dk_at dksX12_with_0 17 rfl rfl)
abbrev cX12_read : ByteArray := prog_2_method_8_code
def yX12_read : MethodName := ⟨RX12, "read", "(LNotationDesk$Source;I)LNotationDesk$Part;"⟩
def dkwX12_read_3 : List UInt8 := [167, 255, 194, 1, 176]
abbrev dktX12_read_3 : List UInt8 := dkwX12_read_3 ++ []
def dkwX12_read_2 : List UInt8 := [21, 4, 182, 0, 44, 42, 180, 0, 15, 21, 4, 50, 43, 2, 182, 0, 50, 184, 0, 54, 176, 132, 4, 1]
abbrev dktX12_read_2 : List UInt8 := dkwX12_read_2 ++ dktX12_read_3
def dkwX12_read_1 : List UInt8 := [180, 0, 15, 21, 4, 50, 182, 0, 19, 29, 122, 4, 126, 4, 160, 0, 30, 43, 180, 0, 40, 16, 9]
abbrev dktX12_read_1 : List UInt8 := dkwX12_read_1 ++ dktX12_read_2
def dkwX12_read_0 : List UInt8 := [43, 182, 0, 35, 62, 3, 54, 4, 21, 4, 42, 180, 0, 9, 162, 0, 59, 29, 2, 159, 0, 54, 42]
abbrev dktX12_read_0 : List UInt8 := dkwX12_read_0 ++ dktX12_read_1
theorem dksX12_read_0 : cX12_read.data.toList.drop 0 = dktX12_read_0 := by decide +kernel
theorem dksX12_read_1 : cX12_read.data.toList.drop 23 = dktX12_read_1 := dk_seg dksX12_read_0 23 rfl rfl
theorem dksX12_read_2 : cX12_read.data.toList.drop 46 = dktX12_read_2 := dk_seg dksX12_read_1 23 rfl rfl
theorem dksX12_read_3 : cX12_read.data.toList.drop 70 = dktX12_read_3 := dk_seg dksX12_read_2 24 rfl rfl
theorem dX12_read_0 : decode cX12_read 0 = .ok (.aload_n 1, 1) := dk_43 (dk_at dksX12_read_0 0 rfl rfl)
theorem dX12_read_1 : decode cX12_read 1 = .ok (.invokevirtual 35, 3) := dk_182 0 35 (dk_at dksX12_read_0 1 rfl rfl)
theorem dX12_read_4 : decode cX12_read 4 = .ok (.istore_n 3, 1) := dk_62 (dk_at dksX12_read_0 4 rfl rfl)
theorem dX12_read_5 : decode cX12_read 5 = .ok (.iconst 0, 1) := dk_3 (dk_at dksX12_read_0 5 rfl rfl)
theorem dX12_read_6 : decode cX12_read 6 = .ok (.istore 4, 2) := dk_54 4 (dk_at dksX12_read_0 6 rfl rfl)
theorem dX12_read_8 : decode cX12_read 8 = .ok (.iload 4, 2) := dk_21 4 (dk_at dksX12_read_0 8 rfl rfl)
theorem dX12_read_10 : decode cX12_read 10 = .ok (.aload_n 0, 1) := dk_42 (dk_at dksX12_read_0 10 rfl rfl)
theorem dX12_read_11 : decode cX12_read 11 = .ok (.getfield 9, 3) := dk_180 0 9 (dk_at dksX12_read_0 11 rfl rfl)
theorem dX12_read_14 : decode cX12_read 14 = .ok (.if_icmp .ge 59, 3) := dk_162 0 59 (dk_at dksX12_read_0 14 rfl rfl)
theorem dX12_read_17 : decode cX12_read 17 = .ok (.iload_n 3, 1) := dk_29 (dk_at dksX12_read_0 17 rfl rfl)
theorem dX12_read_18 : decode cX12_read 18 = .ok (.iconst (-1), 1) := dk_2 (dk_at dksX12_read_0 18 rfl rfl)
theorem dX12_read_19 : decode cX12_read 19 = .ok (.if_icmp .eq 54, 3) := dk_159 0 54 (dk_at dksX12_read_0 19 rfl rfl)
theorem dX12_read_22 : decode cX12_read 22 = .ok (.aload_n 0, 1) := dk_42 (dk_at dksX12_read_0 22 rfl rfl)
theorem dX12_read_23 : decode cX12_read 23 = .ok (.getfield 15, 3) := dk_180 0 15 (dk_at dksX12_read_1 0 rfl rfl)
theorem dX12_read_26 : decode cX12_read 26 = .ok (.iload 4, 2) := dk_21 4 (dk_at dksX12_read_1 3 rfl rfl)
theorem dX12_read_28 : decode cX12_read 28 = .ok (.aaload, 1) := dk_50 (dk_at dksX12_read_1 5 rfl rfl)
theorem dX12_read_29 : decode cX12_read 29 = .ok (.invokevirtual 19, 3) := dk_182 0 19 (dk_at dksX12_read_1 6 rfl rfl)
theorem dX12_read_32 : decode cX12_read 32 = .ok (.iload_n 3, 1) := dk_29 (dk_at dksX12_read_1 9 rfl rfl)
theorem dX12_read_33 : decode cX12_read 33 = .ok (.ishr, 1) := dk_122 (dk_at dksX12_read_1 10 rfl rfl)
theorem dX12_read_34 : decode cX12_read 34 = .ok (.iconst 1, 1) := dk_4 (dk_at dksX12_read_1 11 rfl rfl)
theorem dX12_read_35 : decode cX12_read 35 = .ok (.iand, 1) := dk_126 (dk_at dksX12_read_1 12 rfl rfl)
theorem dX12_read_36 : decode cX12_read 36 = .ok (.iconst 1, 1) := dk_4 (dk_at dksX12_read_1 13 rfl rfl)
theorem dX12_read_37 : decode cX12_read 37 = .ok (.if_icmp .ne 30, 3) := dk_160 0 30 (dk_at dksX12_read_1 14 rfl rfl)
theorem dX12_read_40 : decode cX12_read 40 = .ok (.aload_n 1, 1) := dk_43 (dk_at dksX12_read_1 17 rfl rfl)
theorem dX12_read_41 : decode cX12_read 41 = .ok (.getfield 40, 3) := dk_180 0 40 (dk_at dksX12_read_1 18 rfl rfl)
theorem dX12_read_44 : decode cX12_read 44 = .ok (.bipush 9, 2) := dk_16 9 (dk_at dksX12_read_1 21 rfl rfl)
theorem dX12_read_46 : decode cX12_read 46 = .ok (.iload 4, 2) := dk_21 4 (dk_at dksX12_read_2 0 rfl rfl)
theorem dX12_read_48 : decode cX12_read 48 = .ok (.invokevirtual 44, 3) := dk_182 0 44 (dk_at dksX12_read_2 2 rfl rfl)
theorem dX12_read_51 : decode cX12_read 51 = .ok (.aload_n 0, 1) := dk_42 (dk_at dksX12_read_2 5 rfl rfl)
theorem dX12_read_52 : decode cX12_read 52 = .ok (.getfield 15, 3) := dk_180 0 15 (dk_at dksX12_read_2 6 rfl rfl)
theorem dX12_read_55 : decode cX12_read 55 = .ok (.iload 4, 2) := dk_21 4 (dk_at dksX12_read_2 9 rfl rfl)
theorem dX12_read_57 : decode cX12_read 57 = .ok (.aaload, 1) := dk_50 (dk_at dksX12_read_2 11 rfl rfl)
theorem dX12_read_58 : decode cX12_read 58 = .ok (.aload_n 1, 1) := dk_43 (dk_at dksX12_read_2 12 rfl rfl)
theorem dX12_read_59 : decode cX12_read 59 = .ok (.iconst (-1), 1) := dk_2 (dk_at dksX12_read_2 13 rfl rfl)
theorem dX12_read_60 : decode cX12_read 60 = .ok (.invokevirtual 50, 3) := dk_182 0 50 (dk_at dksX12_read_2 14 rfl rfl)
theorem dX12_read_63 : decode cX12_read 63 = .ok (.invokestatic 54, 3) := dk_184 0 54 (dk_at dksX12_read_2 17 rfl rfl)
theorem dX12_read_66 : decode cX12_read 66 = .ok (.areturn, 1) := dk_176 (dk_at dksX12_read_2 20 rfl rfl)
theorem dX12_read_67 : decode cX12_read 67 = .ok (.iinc 4 1, 3) := dk_132 4 1 (dk_at dksX12_read_2 21 rfl rfl)
theorem dX12_read_70 : decode cX12_read 70 = .ok (.goto (-62), 3) := dk_167 255 194 (dk_at dksX12_read_3 0 rfl rfl)
theorem dX12_read_73 : decode cX12_read 73 = .ok (.aconst_null, 1) := dk_1 (dk_at dksX12_read_3 3 rfl rfl)
theorem dX12_read_74 : decode cX12_read 74 = .ok (.areturn, 1) := dk_176 (dk_at dksX12_read_3 4 rfl rfl)
abbrev cX12_write : ByteArray := prog_2_method_10_code
def yX12_write : MethodName := ⟨RX12, "write", "(LNotationDesk$Part;LNotationDesk$Writer;I)V"⟩
def dkwX12_write_0 : List UInt8 := [42, 180, 0, 15, 43, 180, 0, 58, 50, 43, 180, 0, 61, 44, 2, 182, 0, 69, 177]
abbrev dktX12_write_0 : List UInt8 := dkwX12_write_0 ++ []
theorem dksX12_write_0 : cX12_write.data.toList.drop 0 = dktX12_write_0 := by decide +kernel
theorem dX12_write_0 : decode cX12_write 0 = .ok (.aload_n 0, 1) := dk_42 (dk_at dksX12_write_0 0 rfl rfl)
theorem dX12_write_1 : decode cX12_write 1 = .ok (.getfield 15, 3) := dk_180 0 15 (dk_at dksX12_write_0 1 rfl rfl)
theorem dX12_write_4 : decode cX12_write 4 = .ok (.aload_n 1, 1) := dk_43 (dk_at dksX12_write_0 4 rfl rfl)
theorem dX12_write_5 : decode cX12_write 5 = .ok (.getfield 58, 3) := dk_180 0 58 (dk_at dksX12_write_0 5 rfl rfl)
theorem dX12_write_8 : decode cX12_write 8 = .ok (.aaload, 1) := dk_50 (dk_at dksX12_write_0 8 rfl rfl)
theorem dX12_write_9 : decode cX12_write 9 = .ok (.aload_n 1, 1) := dk_43 (dk_at dksX12_write_0 9 rfl rfl)
theorem dX12_write_10 : decode cX12_write 10 = .ok (.getfield 61, 3) := dk_180 0 61 (dk_at dksX12_write_0 10 rfl rfl)
theorem dX12_write_13 : decode cX12_write 13 = .ok (.aload_n 2, 1) := dk_44 (dk_at dksX12_write_0 13 rfl rfl)
theorem dX12_write_14 : decode cX12_write 14 = .ok (.iconst (-1), 1) := dk_2 (dk_at dksX12_write_0 14 rfl rfl)
theorem dX12_write_15 : decode cX12_write 15 = .ok (.invokevirtual 69, 3) := dk_182 0 69 (dk_at dksX12_write_0 15 rfl rfl)
theorem dX12_write_18 : decode cX12_write 18 = .ok (.return_, 1) := dk_177 (dk_at dksX12_write_0 18 rfl rfl)
abbrev cX12_size : ByteArray := prog_2_method_9_code
def yX12_size : MethodName := ⟨RX12, "size", "(LNotationDesk$Part;)I"⟩
def dkwX12_size_0 : List UInt8 := [42, 180, 0, 15, 43, 180, 0, 58, 50, 43, 180, 0, 61, 182, 0, 65, 172]
abbrev dktX12_size_0 : List UInt8 := dkwX12_size_0 ++ []
theorem dksX12_size_0 : cX12_size.data.toList.drop 0 = dktX12_size_0 := by decide +kernel
theorem dX12_size_0 : decode cX12_size 0 = .ok (.aload_n 0, 1) := dk_42 (dk_at dksX12_size_0 0 rfl rfl)
theorem dX12_size_1 : decode cX12_size 1 = .ok (.getfield 15, 3) := dk_180 0 15 (dk_at dksX12_size_0 1 rfl rfl)
theorem dX12_size_4 : decode cX12_size 4 = .ok (.aload_n 1, 1) := dk_43 (dk_at dksX12_size_0 4 rfl rfl)
theorem dX12_size_5 : decode cX12_size 5 = .ok (.getfield 58, 3) := dk_180 0 58 (dk_at dksX12_size_0 5 rfl rfl)
theorem dX12_size_8 : decode cX12_size 8 = .ok (.aaload, 1) := dk_50 (dk_at dksX12_size_0 8 rfl rfl)
theorem dX12_size_9 : decode cX12_size 9 = .ok (.aload_n 1, 1) := dk_43 (dk_at dksX12_size_0 9 rfl rfl)
theorem dX12_size_10 : decode cX12_size 10 = .ok (.getfield 61, 3) := dk_180 0 61 (dk_at dksX12_size_0 10 rfl rfl)
theorem dX12_size_13 : decode cX12_size 13 = .ok (.invokevirtual 65, 3) := dk_182 0 65 (dk_at dksX12_size_0 13 rfl rfl)
theorem dX12_size_16 : decode cX12_size 16 = .ok (.ireturn, 1) := dk_172 (dk_at dksX12_size_0 16 rfl rfl)
abbrev cX12_pack : ByteArray := prog_2_method_12_code
def yX12_pack : MethodName := ⟨RX12, "pack", "(LNotationDesk$Part;LNotationDesk$Writer;)V"⟩
def dkwX12_pack_1 : List UInt8 := [180, 0, 58, 50, 43, 180, 0, 61, 44, 182, 0, 94, 177]
abbrev dktX12_pack_1 : List UInt8 := dkwX12_pack_1 ++ []
def dkwX12_pack_0 : List UInt8 := [44, 42, 43, 180, 0, 58, 182, 0, 81, 3, 42, 180, 0, 9, 4, 100, 182, 0, 88, 42, 180, 0, 15, 43]
abbrev dktX12_pack_0 : List UInt8 := dkwX12_pack_0 ++ dktX12_pack_1
theorem dksX12_pack_0 : cX12_pack.data.toList.drop 0 = dktX12_pack_0 := by decide +kernel
theorem dksX12_pack_1 : cX12_pack.data.toList.drop 24 = dktX12_pack_1 := dk_seg dksX12_pack_0 24 rfl rfl
theorem dX12_pack_0 : decode cX12_pack 0 = .ok (.aload_n 2, 1) := dk_44 (dk_at dksX12_pack_0 0 rfl rfl)
theorem dX12_pack_1 : decode cX12_pack 1 = .ok (.aload_n 0, 1) := dk_42 (dk_at dksX12_pack_0 1 rfl rfl)
theorem dX12_pack_2 : decode cX12_pack 2 = .ok (.aload_n 1, 1) := dk_43 (dk_at dksX12_pack_0 2 rfl rfl)
theorem dX12_pack_3 : decode cX12_pack 3 = .ok (.getfield 58, 3) := dk_180 0 58 (dk_at dksX12_pack_0 3 rfl rfl)
theorem dX12_pack_6 : decode cX12_pack 6 = .ok (.invokevirtual 81, 3) := dk_182 0 81 (dk_at dksX12_pack_0 6 rfl rfl)
theorem dX12_pack_9 : decode cX12_pack 9 = .ok (.iconst 0, 1) := dk_3 (dk_at dksX12_pack_0 9 rfl rfl)
theorem dX12_pack_10 : decode cX12_pack 10 = .ok (.aload_n 0, 1) := dk_42 (dk_at dksX12_pack_0 10 rfl rfl)
theorem dX12_pack_11 : decode cX12_pack 11 = .ok (.getfield 9, 3) := dk_180 0 9 (dk_at dksX12_pack_0 11 rfl rfl)
theorem dX12_pack_14 : decode cX12_pack 14 = .ok (.iconst 1, 1) := dk_4 (dk_at dksX12_pack_0 14 rfl rfl)
theorem dX12_pack_15 : decode cX12_pack 15 = .ok (.isub, 1) := dk_100 (dk_at dksX12_pack_0 15 rfl rfl)
theorem dX12_pack_16 : decode cX12_pack 16 = .ok (.invokevirtual 88, 3) := dk_182 0 88 (dk_at dksX12_pack_0 16 rfl rfl)
theorem dX12_pack_19 : decode cX12_pack 19 = .ok (.aload_n 0, 1) := dk_42 (dk_at dksX12_pack_0 19 rfl rfl)
theorem dX12_pack_20 : decode cX12_pack 20 = .ok (.getfield 15, 3) := dk_180 0 15 (dk_at dksX12_pack_0 20 rfl rfl)
theorem dX12_pack_23 : decode cX12_pack 23 = .ok (.aload_n 1, 1) := dk_43 (dk_at dksX12_pack_0 23 rfl rfl)
theorem dX12_pack_24 : decode cX12_pack 24 = .ok (.getfield 58, 3) := dk_180 0 58 (dk_at dksX12_pack_1 0 rfl rfl)
theorem dX12_pack_27 : decode cX12_pack 27 = .ok (.aaload, 1) := dk_50 (dk_at dksX12_pack_1 3 rfl rfl)
theorem dX12_pack_28 : decode cX12_pack 28 = .ok (.aload_n 1, 1) := dk_43 (dk_at dksX12_pack_1 4 rfl rfl)
theorem dX12_pack_29 : decode cX12_pack 29 = .ok (.getfield 61, 3) := dk_180 0 61 (dk_at dksX12_pack_1 5 rfl rfl)
theorem dX12_pack_32 : decode cX12_pack 32 = .ok (.aload_n 2, 1) := dk_44 (dk_at dksX12_pack_1 8 rfl rfl)
theorem dX12_pack_33 : decode cX12_pack 33 = .ok (.invokevirtual 94, 3) := dk_182 0 94 (dk_at dksX12_pack_1 9 rfl rfl)
theorem dX12_pack_36 : decode cX12_pack 36 = .ok (.return_, 1) := dk_177 (dk_at dksX12_pack_1 12 rfl rfl)
theorem q97 : (Jvm.Cond.initialized "NotationDesk$Choice") ∈ lw_all := lw_g (lw_at lw_m1 12 rfl) rfl
theorem q243 : (Jvm.Cond.fieldLinkNest "NotationDesk$Choice" (40 : Nat) "NotationDesk$Source" "store" "LNotationDesk$Store;" "NotationDesk") ∈ lw_tbl := lw_at lw_m1 158 rfl
theorem q389 : (Jvm.Cond.selects "NotationDesk$Choice" ({ cls := "NotationDesk$Type", name := "height", desc := "()I" } : Jvm.MethodName) ({ cls := "NotationDesk$Group", name := "height", desc := "()I" } : Jvm.MethodName)) ∈ lw_all := lw_g (lw_at lw_m2 64 rfl) rfl
theorem q480 : (Jvm.Cond.fieldLink "NotationDesk$Choice" (15 : Nat) "NotationDesk$Choice" "types" "[LNotationDesk$Type;") ∈ lw_all := lw_g (lw_at lw_m2 155 rfl) rfl
theorem q481 : (Jvm.Cond.sameField "NotationDesk$Choice" "NotationDesk$Group" "types" "[LNotationDesk$Type;") ∈ lw_all := lw_g (lw_at lw_m2 156 rfl) rfl
theorem q485 : (Jvm.Cond.fieldLink "NotationDesk$Choice" (9 : Nat) "NotationDesk$Choice" "count" "I") ∈ lw_all := lw_g (lw_at lw_m2 160 rfl) rfl
theorem q486 : (Jvm.Cond.sameField "NotationDesk$Choice" "NotationDesk$Group" "count" "I") ∈ lw_all := lw_g (lw_at lw_m2 161 rfl) rfl
theorem q507 : (Jvm.Cond.selects "NotationDesk$Choice" ({ cls := "NotationDesk$Type", name := "holds", desc := "(I)Z" } : Jvm.MethodName) ({ cls := "NotationDesk$Type", name := "holds", desc := "(I)Z" } : Jvm.MethodName)) ∈ lw_all := lw_g (lw_at lw_m2 182 rfl) rfl
theorem q543 : (Jvm.Cond.selects "NotationDesk$Choice" ({ cls := "NotationDesk$Type", name := "tags", desc := "()I" } : Jvm.MethodName) ({ cls := "NotationDesk$Choice", name := "tags", desc := "()I" } : Jvm.MethodName)) ∈ lw_all := lw_g (lw_at lw_m2 218 rfl) rfl
theorem q544 : (Jvm.Cond.instanceMethod ({ cls := "NotationDesk$Choice", name := "tags", desc := "()I" } : Jvm.MethodName)) ∈ lw_all := lw_g (lw_at lw_m2 219 rfl) rfl
theorem q545 : (Jvm.Cond.code ({ cls := "NotationDesk$Choice", name := "tags", desc := "()I" } : Jvm.MethodName) prog_2_method_2_code (3 : Nat) (Option.some Jvm.ClassFile.FieldType.int)) ∈ lw_all := lw_g (lw_at lw_m2 220 rfl) rfl
theorem q546 : (Jvm.Cond.methodLink "NotationDesk$Choice" (19 : Nat) ({ cls := "NotationDesk$Type", name := "tags", desc := "()I" } : Jvm.MethodName)) ∈ lw_all := lw_g (lw_at lw_m2 221 rfl) rfl
theorem q565 : (Jvm.Cond.instantiable "NotationDesk$Choice" (2 : Nat)) ∈ lw_all := lw_g (lw_at lw_m3 0 rfl) rfl
theorem q567 : (Jvm.Cond.instanceMethod ({ cls := "NotationDesk$Choice", name := "<init>", desc := "()V" } : Jvm.MethodName)) ∈ lw_all := lw_g (lw_at lw_m3 2 rfl) rfl
theorem q568 : (Jvm.Cond.code ({ cls := "NotationDesk$Choice", name := "<init>", desc := "()V" } : Jvm.MethodName) prog_2_method_1_code (1 : Nat) (Option.none : Option Jvm.ClassFile.FieldType)) ∈ lw_all := lw_g (lw_at lw_m3 3 rfl) rfl
theorem q569 : (Jvm.Cond.methodLinkNest "NotationDesk$Choice" (3 : Nat) ({ cls := "NotationDesk$Group", name := "<init>", desc := "()V" } : Jvm.MethodName) "NotationDesk") ∈ lw_tbl := lw_at lw_m3 4 rfl
theorem q570 : (Jvm.Cond.laysFinal "NotationDesk$Choice" "NotationDesk$Group" "types" "[LNotationDesk$Type;") ∈ lw_all := lw_g (lw_at lw_m3 5 rfl) rfl
theorem q571 : (Jvm.Cond.lays "NotationDesk$Choice" "NotationDesk$Group" "count" "I") ∈ lw_all := lw_g (lw_at lw_m3 6 rfl) rfl
theorem q572 : (Jvm.Cond.superclass "NotationDesk$Choice" "NotationDesk$Group") ∈ lw_all := lw_g (lw_at lw_m3 7 rfl) rfl
theorem q574 : (Jvm.Cond.sameMethod "NotationDesk$Choice" "NotationDesk$Group" "put" "(LNotationDesk$Type;)V") ∈ lw_all := lw_g (lw_at lw_m3 9 rfl) rfl
theorem q575 : (Jvm.Cond.selects "NotationDesk$Choice" ({ cls := "NotationDesk$Choice", name := "put", desc := "(LNotationDesk$Type;)V" } : Jvm.MethodName) ({ cls := "NotationDesk$Group", name := "put", desc := "(LNotationDesk$Type;)V" } : Jvm.MethodName)) ∈ lw_all := lw_g (lw_at lw_m3 10 rfl) rfl
theorem q577 : (Jvm.Cond.instanceMethod ({ cls := "NotationDesk$Choice", name := "isDistinct", desc := "()Z" } : Jvm.MethodName)) ∈ lw_all := lw_g (lw_at lw_m3 12 rfl) rfl
theorem q578 : (Jvm.Cond.selects "NotationDesk$Choice" ({ cls := "NotationDesk$Choice", name := "isDistinct", desc := "()Z" } : Jvm.MethodName) ({ cls := "NotationDesk$Choice", name := "isDistinct", desc := "()Z" } : Jvm.MethodName)) ∈ lw_all := lw_g (lw_at lw_m3 13 rfl) rfl
theorem q579 : (Jvm.Cond.code ({ cls := "NotationDesk$Choice", name := "isDistinct", desc := "()Z" } : Jvm.MethodName) prog_2_method_4_code (3 : Nat) (Option.some Jvm.ClassFile.FieldType.boolean)) ∈ lw_all := lw_g (lw_at lw_m3 14 rfl) rfl
theorem q663 : (Jvm.Cond.selects "NotationDesk$Choice" ({ cls := "NotationDesk$Type", name := "isChoice", desc := "()Z" } : Jvm.MethodName) ({ cls := "NotationDesk$Choice", name := "isChoice", desc := "()Z" } : Jvm.MethodName)) ∈ lw_all := lw_g (lw_at lw_m3 98 rfl) rfl
theorem q664 : (Jvm.Cond.instanceMethod ({ cls := "NotationDesk$Choice", name := "isChoice", desc := "()Z" } : Jvm.MethodName)) ∈ lw_all := lw_g (lw_at lw_m3 99 rfl) rfl
theorem q665 : (Jvm.Cond.code ({ cls := "NotationDesk$Choice", name := "isChoice", desc := "()Z" } : Jvm.MethodName) prog_2_method_3_code (1 : Nat) (Option.some Jvm.ClassFile.FieldType.boolean)) ∈ lw_all := lw_g (lw_at lw_m3 100 rfl) rfl
theorem q867 : (Jvm.Cond.selects "NotationDesk$Choice" ({ cls := "NotationDesk$Type", name := "unpack", desc := "(LNotationDesk$Source;)LNotationDesk$Part;" } : Jvm.MethodName) ({ cls := "NotationDesk$Choice", name := "unpack", desc := "(LNotationDesk$Source;)LNotationDesk$Part;" } : Jvm.MethodName)) ∈ lw_all := lw_g (lw_at lw_m4 62 rfl) rfl
theorem q868 : (Jvm.Cond.instanceMethod ({ cls := "NotationDesk$Choice", name := "unpack", desc := "(LNotationDesk$Source;)LNotationDesk$Part;" } : Jvm.MethodName)) ∈ lw_all := lw_g (lw_at lw_m4 63 rfl) rfl
theorem q869 : (Jvm.Cond.code ({ cls := "NotationDesk$Choice", name := "unpack", desc := "(LNotationDesk$Source;)LNotationDesk$Part;" } : Jvm.MethodName) prog_2_method_11_code (4 : Nat) (Option.some (Jvm.ClassFile.FieldType.object "NotationDesk$Part"))) ∈ lw_all := lw_g (lw_at lw_m4 64 rfl) rfl
theorem q870 : (Jvm.Cond.methodLink "NotationDesk$Choice" (73 : Nat) ({ cls := "NotationDesk$Source", name := "takeNumber", desc := "(II)I" } : Jvm.MethodName)) ∈ lw_all := lw_g (lw_at lw_m4 65 rfl) rfl
theorem q885 : (Jvm.Cond.methodLink "NotationDesk$Choice" (77 : Nat) ({ cls := "NotationDesk$Source", name := "isThere", desc := "()Z" } : Jvm.MethodName)) ∈ lw_all := lw_g (lw_at lw_m4 80 rfl) rfl
theorem q889 : (Jvm.Cond.methodLink "NotationDesk$Choice" (81 : Nat) ({ cls := "NotationDesk$Choice", name := "rank", desc := "(I)I" } : Jvm.MethodName)) ∈ lw_all := lw_g (lw_at lw_m4 84 rfl) rfl
theorem q890 : (Jvm.Cond.privateMethod ({ cls := "NotationDesk$Choice", name := "rank", desc := "(I)I" } : Jvm.MethodName)) ∈ lw_tbl := lw_at lw_m4 85 rfl
theorem q891 : (Jvm.Cond.instanceMethod ({ cls := "NotationDesk$Choice", name := "rank", desc := "(I)I" } : Jvm.MethodName)) ∈ lw_all := lw_g (lw_at lw_m4 86 rfl) rfl
theorem q892 : (Jvm.Cond.code ({ cls := "NotationDesk$Choice", name := "rank", desc := "(I)I" } : Jvm.MethodName) prog_2_method_6_code (4 : Nat) (Option.some Jvm.ClassFile.FieldType.int)) ∈ lw_all := lw_g (lw_at lw_m4 87 rfl) rfl
theorem q893 : (Jvm.Cond.methodLink "NotationDesk$Choice" (25 : Nat) ({ cls := "NotationDesk$Choice", name := "least", desc := "(I)I" } : Jvm.MethodName)) ∈ lw_all := lw_g (lw_at lw_m4 88 rfl) rfl
theorem q894 : (Jvm.Cond.static ({ cls := "NotationDesk$Choice", name := "least", desc := "(I)I" } : Jvm.MethodName)) ∈ lw_all := lw_g (lw_at lw_m4 89 rfl) rfl
theorem q895 : (Jvm.Cond.code ({ cls := "NotationDesk$Choice", name := "least", desc := "(I)I" } : Jvm.MethodName) prog_2_method_5_code (1 : Nat) (Option.some Jvm.ClassFile.FieldType.int)) ∈ lw_all := lw_g (lw_at lw_m4 90 rfl) rfl
theorem q896 : (Jvm.Cond.methodLink "NotationDesk$Choice" (44 : Nat) ({ cls := "NotationDesk$Store", name := "make", desc := "(II)LNotationDesk$Part;" } : Jvm.MethodName)) ∈ lw_all := lw_g (lw_at lw_m4 91 rfl) rfl
theorem q912 : (Jvm.Cond.fieldLinkNest "NotationDesk$Choice" (58 : Nat) "NotationDesk$Part" "number" "I" "NotationDesk") ∈ lw_tbl := lw_at lw_m4 107 rfl
theorem q926 : (Jvm.Cond.fieldLinkNest "NotationDesk$Choice" (61 : Nat) "NotationDesk$Part" "first" "LNotationDesk$Part;" "NotationDesk") ∈ lw_tbl := lw_at lw_m4 121 rfl
theorem q951 : (Jvm.Cond.methodLink "NotationDesk$Choice" (84 : Nat) ({ cls := "NotationDesk$Type", name := "unpack", desc := "(LNotationDesk$Source;)LNotationDesk$Part;" } : Jvm.MethodName)) ∈ lw_all := lw_g (lw_at lw_m4 146 rfl) rfl
theorem q1020 : (Jvm.Cond.selects "NotationDesk$Choice" ({ cls := "NotationDesk$Type", name := "given", desc := "(LNotationDesk$Store;I)LNotationDesk$Part;" } : Jvm.MethodName) ({ cls := "NotationDesk$Type", name := "given", desc := "(LNotationDesk$Store;I)LNotationDesk$Part;" } : Jvm.MethodName)) ∈ lw_all := lw_g (lw_at lw_m4 215 rfl) rfl
theorem q1031 : (Jvm.Cond.methodLink "NotationDesk$Choice" (54 : Nat) ({ cls := "NotationDesk$Choice", name := "with", desc := "(LNotationDesk$Part;LNotationDesk$Part;)LNotationDesk$Part;" } : Jvm.MethodName)) ∈ lw_all := lw_g (lw_at lw_m4 226 rfl) rfl
theorem q1032 : (Jvm.Cond.static ({ cls := "NotationDesk$Choice", name := "with", desc := "(LNotationDesk$Part;LNotationDesk$Part;)LNotationDesk$Part;" } : Jvm.MethodName)) ∈ lw_all := lw_g (lw_at lw_m4 227 rfl) rfl
theorem q1033 : (Jvm.Cond.code ({ cls := "NotationDesk$Choice", name := "with", desc := "(LNotationDesk$Part;LNotationDesk$Part;)LNotationDesk$Part;" } : Jvm.MethodName) prog_2_method_7_code (2 : Nat) (Option.some (Jvm.ClassFile.FieldType.object "NotationDesk$Part"))) ∈ lw_all := lw_g (lw_at lw_m4 228 rfl) rfl
theorem q1034 : (Jvm.Cond.methodLink "NotationDesk$Choice" (29 : Nat) ({ cls := "NotationDesk$Part", name := "add", desc := "(LNotationDesk$Part;I)V" } : Jvm.MethodName)) ∈ lw_all := lw_g (lw_at lw_m4 229 rfl) rfl
theorem q1043 : (Jvm.Cond.selects "NotationDesk$Choice" ({ cls := "NotationDesk$Type", name := "read", desc := "(LNotationDesk$Source;I)LNotationDesk$Part;" } : Jvm.MethodName) ({ cls := "NotationDesk$Choice", name := "read", desc := "(LNotationDesk$Source;I)LNotationDesk$Part;" } : Jvm.MethodName)) ∈ lw_all := lw_g (lw_at lw_m4 238 rfl) rfl
theorem q1044 : (Jvm.Cond.instanceMethod ({ cls := "NotationDesk$Choice", name := "read", desc := "(LNotationDesk$Source;I)LNotationDesk$Part;" } : Jvm.MethodName)) ∈ lw_all := lw_g (lw_at lw_m4 239 rfl) rfl
theorem q1045 : (Jvm.Cond.code ({ cls := "NotationDesk$Choice", name := "read", desc := "(LNotationDesk$Source;I)LNotationDesk$Part;" } : Jvm.MethodName) prog_2_method_8_code (5 : Nat) (Option.some (Jvm.ClassFile.FieldType.object "NotationDesk$Part"))) ∈ lw_all := lw_g (lw_at lw_m5 0 rfl) rfl
theorem q1046 : (Jvm.Cond.methodLink "NotationDesk$Choice" (35 : Nat) ({ cls := "NotationDesk$Source", name := "tag", desc := "()I" } : Jvm.MethodName)) ∈ lw_all := lw_g (lw_at lw_m5 1 rfl) rfl
theorem q1050 : (Jvm.Cond.methodLink "NotationDesk$Choice" (50 : Nat) ({ cls := "NotationDesk$Type", name := "read", desc := "(LNotationDesk$Source;I)LNotationDesk$Part;" } : Jvm.MethodName)) ∈ lw_all := lw_g (lw_at lw_m5 5 rfl) rfl
theorem q1116 : (Jvm.Cond.selects "NotationDesk$Choice" ({ cls := "NotationDesk$Type", name := "write", desc := "(LNotationDesk$Part;LNotationDesk$Writer;I)V" } : Jvm.MethodName) ({ cls := "NotationDesk$Choice", name := "write", desc := "(LNotationDesk$Part;LNotationDesk$Writer;I)V" } : Jvm.MethodName)) ∈ lw_all := lw_g (lw_at lw_m5 71 rfl) rfl
theorem q1117 : (Jvm.Cond.instanceMethod ({ cls := "NotationDesk$Choice", name := "write", desc := "(LNotationDesk$Part;LNotationDesk$Writer;I)V" } : Jvm.MethodName)) ∈ lw_all := lw_g (lw_at lw_m5 72 rfl) rfl
theorem q1118 : (Jvm.Cond.code ({ cls := "NotationDesk$Choice", name := "write", desc := "(LNotationDesk$Part;LNotationDesk$Writer;I)V" } : Jvm.MethodName) prog_2_method_10_code (4 : Nat) (Option.none : Option Jvm.ClassFile.FieldType)) ∈ lw_all := lw_g (lw_at lw_m5 73 rfl) rfl
theorem q1119 : (Jvm.Cond.methodLink "NotationDesk$Choice" (69 : Nat) ({ cls := "NotationDesk$Type", name := "write", desc := "(LNotationDesk$Part;LNotationDesk$Writer;I)V" } : Jvm.MethodName)) ∈ lw_all := lw_g (lw_at lw_m5 74 rfl) rfl
theorem q1176 : (Jvm.Cond.selects "NotationDesk$Choice" ({ cls := "NotationDesk$Type", name := "size", desc := "(LNotationDesk$Part;)I" } : Jvm.MethodName) ({ cls := "NotationDesk$Choice", name := "size", desc := "(LNotationDesk$Part;)I" } : Jvm.MethodName)) ∈ lw_all := lw_g (lw_at lw_m5 131 rfl) rfl
theorem q1177 : (Jvm.Cond.instanceMethod ({ cls := "NotationDesk$Choice", name := "size", desc := "(LNotationDesk$Part;)I" } : Jvm.MethodName)) ∈ lw_all := lw_g (lw_at lw_m5 132 rfl) rfl
theorem q1178 : (Jvm.Cond.code ({ cls := "NotationDesk$Choice", name := "size", desc := "(LNotationDesk$Part;)I" } : Jvm.MethodName) prog_2_method_9_code (2 : Nat) (Option.some Jvm.ClassFile.FieldType.int)) ∈ lw_all := lw_g (lw_at lw_m5 133 rfl) rfl
theorem q1179 : (Jvm.Cond.methodLink "NotationDesk$Choice" (65 : Nat) ({ cls := "NotationDesk$Type", name := "size", desc := "(LNotationDesk$Part;)I" } : Jvm.MethodName)) ∈ lw_all := lw_g (lw_at lw_m5 134 rfl) rfl
theorem q1223 : (Jvm.Cond.selects "NotationDesk$Choice" ({ cls := "NotationDesk$Type", name := "pack", desc := "(LNotationDesk$Part;LNotationDesk$Writer;)V" } : Jvm.MethodName) ({ cls := "NotationDesk$Choice", name := "pack", desc := "(LNotationDesk$Part;LNotationDesk$Writer;)V" } : Jvm.MethodName)) ∈ lw_all := lw_g (lw_at lw_m5 178 rfl) rfl
theorem q1224 : (Jvm.Cond.instanceMethod ({ cls := "NotationDesk$Choice", name := "pack", desc := "(LNotationDesk$Part;LNotationDesk$Writer;)V" } : Jvm.MethodName)) ∈ lw_all := lw_g (lw_at lw_m5 179 rfl) rfl
theorem q1225 : (Jvm.Cond.code ({ cls := "NotationDesk$Choice", name := "pack", desc := "(LNotationDesk$Part;LNotationDesk$Writer;)V" } : Jvm.MethodName) prog_2_method_12_code (3 : Nat) (Option.none : Option Jvm.ClassFile.FieldType)) ∈ lw_all := lw_g (lw_at lw_m5 180 rfl) rfl
theorem q1226 : (Jvm.Cond.methodLink "NotationDesk$Choice" (88 : Nat) ({ cls := "NotationDesk$Writer", name := "putNumber", desc := "(III)V" } : Jvm.MethodName)) ∈ lw_all := lw_g (lw_at lw_m5 181 rfl) rfl
theorem q1239 : (Jvm.Cond.methodLink "NotationDesk$Choice" (94 : Nat) ({ cls := "NotationDesk$Type", name := "pack", desc := "(LNotationDesk$Part;LNotationDesk$Writer;)V" } : Jvm.MethodName)) ∈ lw_all := lw_g (lw_at lw_m5 194 rfl) rfl
theorem q1819 : (Jvm.Cond.castable "NotationDesk$Choice" "java/lang/Object") ∈ lw_tbl := lw_at lw_m8 54 rfl
theorem q1835 : (Jvm.Cond.castable "NotationDesk$Choice" "NotationDesk$Type") ∈ lw_tbl := lw_at lw_m8 70 rfl
theorem in_X12 : ∀ w ∈ wsX120, w ∈ lw_all := lw_in wsX120 [570, 571] (by decide +kernel) (by decide +kernel)
/-! NotationDesk$Octets -/
set_option maxRecDepth 100000
def RX13 : String := "NotationDesk$Octets"
def TX13 : u_T := fun k => match k with
  | 0 => ("NotationDesk$Simple", "tag", "I", false)
  | _ => ("NotationDesk$Octets", "many", "LNotationDesk$Size;", true)
def tyX13 : Nat → FieldType := fun k => match k with
  | 0 => .int
  | _ => .object "NotationDesk$Size"
abbrev wsX130 : List Cond := u_ws RX13 TX13 2
theorem nmX13 : ∀ a, a < 2 → ∀ b, b < 2 → a ≠ b → (TX13 a).2.1 ≠ (TX13 b).2.1 := by decide +kernel
theorem tyX13_ok : ∀ k, k < 2 → parseFieldDescriptor (TX13 k).2.2.1 = some (tyX13 k) := by decide +kernel
abbrev cX13_init : ByteArray := prog_6_method_1_code
def yX13_init : MethodName := ⟨RX13, "<init>", "()V"⟩
def dkwX13_init_0 : List UInt8 := [42, 183, 0, 3, 42, 187, 0, 9, 89, 183, 0, 11, 181, 0, 12, 177]
abbrev dktX13_init_0 : List UInt8 := dkwX13_init_0 ++ []
theorem dksX13_init_0 : cX13_init.data.toList.drop 0 = dktX13_init_0 := by decide +kernel
theorem dX13_init_0 : decode cX13_init 0 = .ok (.aload_n 0, 1) := dk_42 (dk_at dksX13_init_0 0 rfl rfl)
theorem dX13_init_1 : decode cX13_init 1 = .ok (.invokespecial 3, 3) := dk_183 0 3 (dk_at dksX13_init_0 1 rfl rfl)
theorem dX13_init_4 : decode cX13_init 4 = .ok (.aload_n 0, 1) := dk_42 (dk_at dksX13_init_0 4 rfl rfl)
theorem dX13_init_5 : decode cX13_init 5 = .ok (.new 9, 3) := dk_187 0 9 (dk_at dksX13_init_0 5 rfl rfl)
theorem dX13_init_8 : decode cX13_init 8 = .ok (.dup, 1) := dk_89 (dk_at dksX13_init_0 8 rfl rfl)
theorem dX13_init_9 : decode cX13_init 9 = .ok (.invokespecial 11, 3) := dk_183 0 11 (dk_at dksX13_init_0 9 rfl rfl)
theorem dX13_init_12 : decode cX13_init 12 = .ok (.putfield 12, 3) := dk_181 0 12 (dk_at dksX13_init_0 12 rfl rfl)
theorem dX13_init_15 : decode cX13_init 15 = .ok (.return_, 1) := dk_177 (dk_at dksX13_init_0 15 rfl rfl)
abbrev cX13_unpack : ByteArray := prog_6_method_6_code
def yX13_unpack : MethodName := ⟨RX13, "unpack", "(LNotationDesk$Source;)LNotationDesk$Part;"⟩
def dkwX13_unpack_4 : List UInt8 := [180, 0, 37, 43, 16, 8, 182, 0, 84, 184, 0, 51, 132, 4, 1, 167, 255, 229, 45, 176]
abbrev dktX13_unpack_4 : List UInt8 := dkwX13_unpack_4 ++ []
def dkwX13_unpack_3 : List UInt8 := [180, 0, 37, 7, 3, 182, 0, 43, 78, 3, 54, 4, 21, 4, 28, 162, 0, 27, 45, 198, 0, 23, 45, 43]
abbrev dktX13_unpack_3 : List UInt8 := dkwX13_unpack_3 ++ dktX13_unpack_4
def dkwX13_unpack_2 : List UInt8 := [180, 0, 78, 16, 8, 28, 104, 96, 16, 8, 43, 180, 0, 81, 104, 164, 0, 7, 1, 167, 0, 12, 43]
abbrev dktX13_unpack_2 : List UInt8 := dkwX13_unpack_2 ++ dktX13_unpack_3
def dkwX13_unpack_1 : List UInt8 := [154, 0, 5, 1, 176, 28, 158, 0, 17, 42, 180, 0, 12, 182, 0, 72, 154, 0, 7, 43, 182, 0, 75, 43]
abbrev dktX13_unpack_1 : List UInt8 := dkwX13_unpack_1 ++ dktX13_unpack_2
def dkwX13_unpack_0 : List UInt8 := [42, 180, 0, 12, 43, 182, 0, 64, 61, 43, 182, 0, 68, 153, 0, 14, 42, 180, 0, 12, 28, 182, 0, 33]
abbrev dktX13_unpack_0 : List UInt8 := dkwX13_unpack_0 ++ dktX13_unpack_1
theorem dksX13_unpack_0 : cX13_unpack.data.toList.drop 0 = dktX13_unpack_0 := by decide +kernel
theorem dksX13_unpack_1 : cX13_unpack.data.toList.drop 24 = dktX13_unpack_1 := dk_seg dksX13_unpack_0 24 rfl rfl
theorem dksX13_unpack_2 : cX13_unpack.data.toList.drop 48 = dktX13_unpack_2 := dk_seg dksX13_unpack_1 24 rfl rfl
theorem dksX13_unpack_3 : cX13_unpack.data.toList.drop 71 = dktX13_unpack_3 := dk_seg dksX13_unpack_2 23 rfl rfl
theorem dksX13_unpack_4 : cX13_unpack.data.toList.drop 95 = dktX13_unpack_4 := dk_seg dksX13_unpack_3 24 rfl rfl
theorem dX13_unpack_0 : decode cX13_unpack 0 = .ok (.aload_n 0, 1) := dk_42 (dk_at dksX13_unpack_0 0 rfl rfl)
theorem dX13_unpack_1 : decode cX13_unpack 1 = .ok (.getfield 12, 3) := dk_180 0 12 (dk_at dksX13_unpack_0 1 rfl rfl)
theorem dX13_unpack_4 : decode cX13_unpack 4 = .ok (.aload_n 1, 1) := dk_43 (dk_at dksX13_unpack_0 4 rfl rfl)
theorem dX13_unpack_5 : decode cX13_unpack 5 = .ok (.invokevirtual 64, 3) := dk_182 0 64 (dk_at dksX13_unpack_0 5 rfl rfl)
theorem dX13_unpack_8 : decode cX13_unpack 8 = .ok (.istore_n 2, 1) := dk_61 (dk_at dksX13_unpack_0 8 rfl rfl)
theorem dX13_unpack_9 : decode cX13_unpack 9 = .ok (.aload_n 1, 1) := dk_43 (dk_at dksX13_unpack_0 9 rfl rfl)
theorem dX13_unpack_10 : decode cX13_unpack 10 = .ok (.invokevirtual 68, 3) := dk_182 0 68 (dk_at dksX13_unpack_0 10 rfl rfl)
theorem dX13_unpack_13 : decode cX13_unpack 13 = .ok (.ifCond .eq 14, 3) := dk_153 0 14 (dk_at dksX13_unpack_0 13 rfl rfl)
theorem dX13_unpack_16 : decode cX13_unpack 16 = .ok (.aload_n 0, 1) := dk_42 (dk_at dksX13_unpack_0 16 rfl rfl)
theorem dX13_unpack_17 : decode cX13_unpack 17 = .ok (.getfield 12, 3) := dk_180 0 12 (dk_at dksX13_unpack_0 17 rfl rfl)
theorem dX13_unpack_20 : decode cX13_unpack 20 = .ok (.iload_n 2, 1) := dk_28 (dk_at dksX13_unpack_0 20 rfl rfl)
theorem dX13_unpack_21 : decode cX13_unpack 21 = .ok (.invokevirtual 33, 3) := dk_182 0 33 (dk_at dksX13_unpack_0 21 rfl rfl)
theorem dX13_unpack_24 : decode cX13_unpack 24 = .ok (.ifCond .ne 5, 3) := dk_154 0 5 (dk_at dksX13_unpack_1 0 rfl rfl)
theorem dX13_unpack_27 : decode cX13_unpack 27 = .ok (.aconst_null, 1) := dk_1 (dk_at dksX13_unpack_1 3 rfl rfl)
theorem dX13_unpack_28 : decode cX13_unpack 28 = .ok (.areturn, 1) := dk_176 (dk_at dksX13_unpack_1 4 rfl rfl)
theorem dX13_unpack_29 : decode cX13_unpack 29 = .ok (.iload_n 2, 1) := dk_28 (dk_at dksX13_unpack_1 5 rfl rfl)
theorem dX13_unpack_30 : decode cX13_unpack 30 = .ok (.ifCond .le 17, 3) := dk_158 0 17 (dk_at dksX13_unpack_1 6 rfl rfl)
theorem dX13_unpack_33 : decode cX13_unpack 33 = .ok (.aload_n 0, 1) := dk_42 (dk_at dksX13_unpack_1 9 rfl rfl)
theorem dX13_unpack_34 : decode cX13_unpack 34 = .ok (.getfield 12, 3) := dk_180 0 12 (dk_at dksX13_unpack_1 10 rfl rfl)
theorem dX13_unpack_37 : decode cX13_unpack 37 = .ok (.invokevirtual 72, 3) := dk_182 0 72 (dk_at dksX13_unpack_1 13 rfl rfl)
theorem dX13_unpack_40 : decode cX13_unpack 40 = .ok (.ifCond .ne 7, 3) := dk_154 0 7 (dk_at dksX13_unpack_1 16 rfl rfl)
theorem dX13_unpack_43 : decode cX13_unpack 43 = .ok (.aload_n 1, 1) := dk_43 (dk_at dksX13_unpack_1 19 rfl rfl)
theorem dX13_unpack_44 : decode cX13_unpack 44 = .ok (.invokevirtual 75, 3) := dk_182 0 75 (dk_at dksX13_unpack_1 20 rfl rfl)
theorem dX13_unpack_47 : decode cX13_unpack 47 = .ok (.aload_n 1, 1) := dk_43 (dk_at dksX13_unpack_1 23 rfl rfl)
theorem dX13_unpack_48 : decode cX13_unpack 48 = .ok (.getfield 78, 3) := dk_180 0 78 (dk_at dksX13_unpack_2 0 rfl rfl)
theorem dX13_unpack_51 : decode cX13_unpack 51 = .ok (.bipush 8, 2) := dk_16 8 (dk_at dksX13_unpack_2 3 rfl rfl)
theorem dX13_unpack_53 : decode cX13_unpack 53 = .ok (.iload_n 2, 1) := dk_28 (dk_at dksX13_unpack_2 5 rfl rfl)
theorem dX13_unpack_54 : decode cX13_unpack 54 = .ok (.imul, 1) := dk_104 (dk_at dksX13_unpack_2 6 rfl rfl)
theorem dX13_unpack_55 : decode cX13_unpack 55 = .ok (.iadd, 1) := dk_96 (dk_at dksX13_unpack_2 7 rfl rfl)
theorem dX13_unpack_56 : decode cX13_unpack 56 = .ok (.bipush 8, 2) := dk_16 8 (dk_at dksX13_unpack_2 8 rfl rfl)
theorem dX13_unpack_58 : decode cX13_unpack 58 = .ok (.aload_n 1, 1) := dk_43 (dk_at dksX13_unpack_2 10 rfl rfl)
theorem dX13_unpack_59 : decode cX13_unpack 59 = .ok (.getfield 81, 3) := dk_180 0 81 (dk_at dksX13_unpack_2 11 rfl rfl)
theorem dX13_unpack_62 : decode cX13_unpack 62 = .ok (.imul, 1) := dk_104 (dk_at dksX13_unpack_2 14 rfl rfl)
theorem dX13_unpack_63 : decode cX13_unpack 63 = .ok (.if_icmp .le 7, 3) := dk_164 0 7 (dk_at dksX13_unpack_2 15 rfl rfl)
theorem dX13_unpack_66 : decode cX13_unpack 66 = .ok (.aconst_null, 1) := dk_1 (dk_at dksX13_unpack_2 18 rfl rfl)
theorem dX13_unpack_67 : decode cX13_unpack 67 = .ok (.goto 12, 3) := dk_167 0 12 (dk_at dksX13_unpack_2 19 rfl rfl)
theorem dX13_unpack_70 : decode cX13_unpack 70 = .ok (.aload_n 1, 1) := dk_43 (dk_at dksX13_unpack_2 22 rfl rfl)
theorem dX13_unpack_71 : decode cX13_unpack 71 = .ok (.getfield 37, 3) := dk_180 0 37 (dk_at dksX13_unpack_3 0 rfl rfl)
theorem dX13_unpack_74 : decode cX13_unpack 74 = .ok (.iconst 4, 1) := dk_7 (dk_at dksX13_unpack_3 3 rfl rfl)
theorem dX13_unpack_75 : decode cX13_unpack 75 = .ok (.iconst 0, 1) := dk_3 (dk_at dksX13_unpack_3 4 rfl rfl)
theorem dX13_unpack_76 : decode cX13_unpack 76 = .ok (.invokevirtual 43, 3) := dk_182 0 43 (dk_at dksX13_unpack_3 5 rfl rfl)
theorem dX13_unpack_79 : decode cX13_unpack 79 = .ok (.astore_n 3, 1) := dk_78 (dk_at dksX13_unpack_3 8 rfl rfl)
theorem dX13_unpack_80 : decode cX13_unpack 80 = .ok (.iconst 0, 1) := dk_3 (dk_at dksX13_unpack_3 9 rfl rfl)
theorem dX13_unpack_81 : decode cX13_unpack 81 = .ok (.istore 4, 2) := dk_54 4 (dk_at dksX13_unpack_3 10 rfl rfl)
theorem dX13_unpack_83 : decode cX13_unpack 83 = .ok (.iload 4, 2) := dk_21 4 (dk_at dksX13_unpack_3 12 rfl rfl)
theorem dX13_unpack_85 : decode cX13_unpack 85 = .ok (.iload_n 2, 1) := dk_28 (dk_at dksX13_unpack_3 14 rfl rfl)
theorem dX13_unpack_86 : decode cX13_unpack 86 = .ok (.if_icmp .ge 27, 3) := dk_162 0 27 (dk_at dksX13_unpack_3 15 rfl rfl)
theorem dX13_unpack_89 : decode cX13_unpack 89 = .ok (.aload_n 3, 1) := dk_45 (dk_at dksX13_unpack_3 18 rfl rfl)
theorem dX13_unpack_90 : decode cX13_unpack 90 = .ok (.ifnull 23, 3) := dk_198 0 23 (dk_at dksX13_unpack_3 19 rfl rfl)
theorem dX13_unpack_93 : decode cX13_unpack 93 = .ok (.aload_n 3, 1) := dk_45 (dk_at dksX13_unpack_3 22 rfl rfl)
theorem dX13_unpack_94 : decode cX13_unpack 94 = .ok (.aload_n 1, 1) := dk_43 (dk_at dksX13_unpack_3 23 rfl rfl)
theorem dX13_unpack_95 : decode cX13_unpack 95 = .ok (.getfield 37, 3) := dk_180 0 37 (dk_at dksX13_unpack_4 0 rfl rfl)
theorem dX13_unpack_98 : decode cX13_unpack 98 = .ok (.aload_n 1, 1) := dk_43 (dk_at dksX13_unpack_4 3 rfl rfl)
theorem dX13_unpack_99 : decode cX13_unpack 99 = .ok (.bipush 8, 2) := dk_16 8 (dk_at dksX13_unpack_4 4 rfl rfl)
theorem dX13_unpack_101 : decode cX13_unpack 101 = .ok (.invokevirtual 84, 3) := dk_182 0 84 (dk_at dksX13_unpack_4 6 rfl rfl)
theorem dX13_unpack_104 : decode cX13_unpack 104 = .ok (.invokestatic 51, 3) := dk_184 0 51 (dk_at dksX13_unpack_4 9 rfl rfl)
theorem dX13_unpack_107 : decode cX13_unpack 107 = .ok (.iinc 4 1, 3) := dk_132 4 1 (dk_at dksX13_unpack_4 12 rfl rfl)
theorem dX13_unpack_110 : decode cX13_unpack 110 = .ok (.goto (-27), 3) := dk_167 255 229 (dk_at dksX13_unpack_4 15 rfl rfl)
theorem dX13_unpack_113 : decode cX13_unpack 113 = .ok (.aload_n 3, 1) := dk_45 (dk_at dksX13_unpack_4 18 rfl rfl)
theorem dX13_unpack_114 : decode cX13_unpack 114 = .ok (.areturn, 1) := dk_176 (dk_at dksX13_unpack_4 19 rfl rfl)
abbrev cX13_add : ByteArray := prog_6_method_2_code
def yX13_add : MethodName := ⟨RX13, "add", "(LNotationDesk$Part;LNotationDesk$Store;I)V"⟩
def dkwX13_add_1 : List UInt8 := [181, 0, 28, 177]
abbrev dktX13_add_1 : List UInt8 := dkwX13_add_1 ++ []
def dkwX13_add_0 : List UInt8 := [43, 180, 0, 18, 43, 89, 180, 0, 24, 90, 4, 96, 181, 0, 24, 28, 79, 42, 89, 180, 0, 28, 4, 96]
abbrev dktX13_add_0 : List UInt8 := dkwX13_add_0 ++ dktX13_add_1
theorem dksX13_add_0 : cX13_add.data.toList.drop 0 = dktX13_add_0 := by decide +kernel
theorem dksX13_add_1 : cX13_add.data.toList.drop 24 = dktX13_add_1 := dk_seg dksX13_add_0 24 rfl rfl
theorem dX13_add_0 : decode cX13_add 0 = .ok (.aload_n 1, 1) := dk_43 (dk_at dksX13_add_0 0 rfl rfl)
theorem dX13_add_1 : decode cX13_add 1 = .ok (.getfield 18, 3) := dk_180 0 18 (dk_at dksX13_add_0 1 rfl rfl)
theorem dX13_add_4 : decode cX13_add 4 = .ok (.aload_n 1, 1) := dk_43 (dk_at dksX13_add_0 4 rfl rfl)
theorem dX13_add_5 : decode cX13_add 5 = .ok (.dup, 1) := dk_89 (dk_at dksX13_add_0 5 rfl rfl)
theorem dX13_add_6 : decode cX13_add 6 = .ok (.getfield 24, 3) := dk_180 0 24 (dk_at dksX13_add_0 6 rfl rfl)
theorem dX13_add_9 : decode cX13_add 9 = .ok (.dup_x1, 1) := dk_90 (dk_at dksX13_add_0 9 rfl rfl)
theorem dX13_add_10 : decode cX13_add 10 = .ok (.iconst 1, 1) := dk_4 (dk_at dksX13_add_0 10 rfl rfl)
theorem dX13_add_11 : decode cX13_add 11 = .ok (.iadd, 1) := dk_96 (dk_at dksX13_add_0 11 rfl rfl)
theorem dX13_add_12 : decode cX13_add 12 = .ok (.putfield 24, 3) := dk_181 0 24 (dk_at dksX13_add_0 12 rfl rfl)
theorem dX13_add_15 : decode cX13_add 15 = .ok (.iload_n 2, 1) := dk_28 (dk_at dksX13_add_0 15 rfl rfl)
theorem dX13_add_16 : decode cX13_add 16 = .ok (.iastore, 1) := dk_79 (dk_at dksX13_add_0 16 rfl rfl)
theorem dX13_add_17 : decode cX13_add 17 = .ok (.aload_n 0, 1) := dk_42 (dk_at dksX13_add_0 17 rfl rfl)
theorem dX13_add_18 : decode cX13_add 18 = .ok (.dup, 1) := dk_89 (dk_at dksX13_add_0 18 rfl rfl)
theorem dX13_add_19 : decode cX13_add 19 = .ok (.getfield 28, 3) := dk_180 0 28 (dk_at dksX13_add_0 19 rfl rfl)
theorem dX13_add_22 : decode cX13_add 22 = .ok (.iconst 1, 1) := dk_4 (dk_at dksX13_add_0 22 rfl rfl)
theorem dX13_add_23 : decode cX13_add 23 = .ok (.iadd, 1) := dk_96 (dk_at dksX13_add_0 23 rfl rfl)
theorem dX13_add_24 : decode cX13_add 24 = .ok (.putfield 28, 3) := dk_181 0 28 (dk_at dksX13_add_1 0 rfl rfl)
theorem dX13_add_27 : decode cX13_add 27 = .ok (.return_, 1) := dk_177 (dk_at dksX13_add_1 3 rfl rfl)
abbrev cX13_readContent : ByteArray := prog_6_method_3_code
def yX13_readContent : MethodName := ⟨RX13, "readContent", "(LNotationDesk$Source;I)LNotationDesk$Part;"⟩
def dkwX13_readContent_2 : List UInt8 := [184, 0, 51, 132, 4, 1, 167, 255, 231, 45, 176]
abbrev dktX13_readContent_2 : List UInt8 := dkwX13_readContent_2 ++ []
def dkwX13_readContent_1 : List UInt8 := [78, 3, 54, 4, 21, 4, 28, 162, 0, 25, 45, 198, 0, 21, 45, 43, 180, 0, 37, 43, 182, 0, 47]
abbrev dktX13_readContent_1 : List UInt8 := dkwX13_readContent_1 ++ dktX13_readContent_2
def dkwX13_readContent_0 : List UInt8 := [42, 180, 0, 12, 28, 182, 0, 33, 153, 0, 15, 43, 180, 0, 37, 7, 3, 182, 0, 43, 167, 0, 4, 1]
abbrev dktX13_readContent_0 : List UInt8 := dkwX13_readContent_0 ++ dktX13_readContent_1
theorem dksX13_readContent_0 : cX13_readContent.data.toList.drop 0 = dktX13_readContent_0 := by decide +kernel
theorem dksX13_readContent_1 : cX13_readContent.data.toList.drop 24 = dktX13_readContent_1 := dk_seg dksX13_readContent_0 24 rfl rfl
theorem dksX13_readContent_2 : cX13_readContent.data.toList.drop 47 = dktX13_readContent_2 := dk_seg dksX13_readContent_1 23 rfl rfl
theorem dX13_readContent_0 : decode cX13_readContent 0 = .ok (.aload_n 0, 1) := dk_42 (dk_at dksX13_readContent_0 0 rfl rfl)
theorem dX13_readContent_1 : decode cX13_readContent 1 = .ok (.getfield 12, 3) := dk_180 0 12 (dk_at dksX13_readContent_0 1 rfl rfl)
theorem dX13_readContent_4 : decode cX13_readContent 4 = .ok (.iload_n 2, 1) := dk_28 (dk_at dksX13_readContent_0 4 rfl rfl)
theorem dX13_readContent_5 : decode cX13_readContent 5 = .ok (.invokevirtual 33, 3) := dk_182 0 33 (dk_at dksX13_readContent_0 5 rfl rfl)
theorem dX13_readContent_8 : decode cX13_readContent 8 = .ok (.ifCond .eq 15, 3) := dk_153 0 15 (dk_at dksX13_readContent_0 8 rfl rfl)
theorem dX13_readContent_11 : decode cX13_readContent 11 = .ok (.aload_n 1, 1) := dk_43 (dk_at dksX13_readContent_0 11 rfl rfl)
theorem dX13_readContent_12 : decode cX13_readContent 12 = .ok (.getfield 37, 3) := dk_180 0 37 (dk_at dksX13_readContent_0 12 rfl rfl)
theorem dX13_readContent_15 : decode cX13_readContent 15 = .ok (.iconst 4, 1) := dk_7 (dk_at dksX13_readContent_0 15 rfl rfl)
theorem dX13_readContent_16 : decode cX13_readContent 16 = .ok (.iconst 0, 1) := dk_3 (dk_at dksX13_readContent_0 16 rfl rfl)
theorem dX13_readContent_17 : decode cX13_readContent 17 = .ok (.invokevirtual 43, 3) := dk_182 0 43 (dk_at dksX13_readContent_0 17 rfl rfl)
theorem dX13_readContent_20 : decode cX13_readContent 20 = .ok (.goto 4, 3) := dk_167 0 4 (dk_at dksX13_readContent_0 20 rfl rfl)
theorem dX13_readContent_23 : decode cX13_readContent 23 = .ok (.aconst_null, 1) := dk_1 (dk_at dksX13_readContent_0 23 rfl rfl)
theorem dX13_readContent_24 : decode cX13_readContent 24 = .ok (.astore_n 3, 1) := dk_78 (dk_at dksX13_readContent_1 0 rfl rfl)
theorem dX13_readContent_25 : decode cX13_readContent 25 = .ok (.iconst 0, 1) := dk_3 (dk_at dksX13_readContent_1 1 rfl rfl)
theorem dX13_readContent_26 : decode cX13_readContent 26 = .ok (.istore 4, 2) := dk_54 4 (dk_at dksX13_readContent_1 2 rfl rfl)
theorem dX13_readContent_28 : decode cX13_readContent 28 = .ok (.iload 4, 2) := dk_21 4 (dk_at dksX13_readContent_1 4 rfl rfl)
theorem dX13_readContent_30 : decode cX13_readContent 30 = .ok (.iload_n 2, 1) := dk_28 (dk_at dksX13_readContent_1 6 rfl rfl)
theorem dX13_readContent_31 : decode cX13_readContent 31 = .ok (.if_icmp .ge 25, 3) := dk_162 0 25 (dk_at dksX13_readContent_1 7 rfl rfl)
theorem dX13_readContent_34 : decode cX13_readContent 34 = .ok (.aload_n 3, 1) := dk_45 (dk_at dksX13_readContent_1 10 rfl rfl)
theorem dX13_readContent_35 : decode cX13_readContent 35 = .ok (.ifnull 21, 3) := dk_198 0 21 (dk_at dksX13_readContent_1 11 rfl rfl)
theorem dX13_readContent_38 : decode cX13_readContent 38 = .ok (.aload_n 3, 1) := dk_45 (dk_at dksX13_readContent_1 14 rfl rfl)
theorem dX13_readContent_39 : decode cX13_readContent 39 = .ok (.aload_n 1, 1) := dk_43 (dk_at dksX13_readContent_1 15 rfl rfl)
theorem dX13_readContent_40 : decode cX13_readContent 40 = .ok (.getfield 37, 3) := dk_180 0 37 (dk_at dksX13_readContent_1 16 rfl rfl)
theorem dX13_readContent_43 : decode cX13_readContent 43 = .ok (.aload_n 1, 1) := dk_43 (dk_at dksX13_readContent_1 19 rfl rfl)
theorem dX13_readContent_44 : decode cX13_readContent 44 = .ok (.invokevirtual 47, 3) := dk_182 0 47 (dk_at dksX13_readContent_1 20 rfl rfl)
theorem dX13_readContent_47 : decode cX13_readContent 47 = .ok (.invokestatic 51, 3) := dk_184 0 51 (dk_at dksX13_readContent_2 0 rfl rfl)
theorem dX13_readContent_50 : decode cX13_readContent 50 = .ok (.iinc 4 1, 3) := dk_132 4 1 (dk_at dksX13_readContent_2 3 rfl rfl)
theorem dX13_readContent_53 : decode cX13_readContent 53 = .ok (.goto (-25), 3) := dk_167 255 231 (dk_at dksX13_readContent_2 6 rfl rfl)
theorem dX13_readContent_56 : decode cX13_readContent 56 = .ok (.aload_n 3, 1) := dk_45 (dk_at dksX13_readContent_2 9 rfl rfl)
theorem dX13_readContent_57 : decode cX13_readContent 57 = .ok (.areturn, 1) := dk_176 (dk_at dksX13_readContent_2 10 rfl rfl)
abbrev cX13_content : ByteArray := prog_6_method_4_code
def yX13_content : MethodName := ⟨RX13, "content", "(LNotationDesk$Part;)I"⟩
theorem dX13_content_0 : decode cX13_content 0 = .ok (.aload_n 1, 1) := by decide +kernel
theorem dX13_content_1 : decode cX13_content 1 = .ok (.getfield 28, 3) := by decide +kernel
theorem dX13_content_4 : decode cX13_content 4 = .ok (.ireturn, 1) := by decide +kernel
abbrev cX13_writeContent : ByteArray := prog_6_method_5_code
def yX13_writeContent : MethodName := ⟨RX13, "writeContent", "(LNotationDesk$Part;LNotationDesk$Writer;)V"⟩
def dkwX13_writeContent_1 : List UInt8 := [46, 182, 0, 61, 132, 3, 1, 167, 255, 227, 177]
abbrev dktX13_writeContent_1 : List UInt8 := dkwX13_writeContent_1 ++ []
def dkwX13_writeContent_0 : List UInt8 := [3, 62, 29, 43, 180, 0, 28, 162, 0, 27, 44, 44, 180, 0, 55, 180, 0, 18, 43, 180, 0, 58, 29, 96]
abbrev dktX13_writeContent_0 : List UInt8 := dkwX13_writeContent_0 ++ dktX13_writeContent_1
theorem dksX13_writeContent_0 : cX13_writeContent.data.toList.drop 0 = dktX13_writeContent_0 := by decide +kernel
theorem dksX13_writeContent_1 : cX13_writeContent.data.toList.drop 24 = dktX13_writeContent_1 := dk_seg dksX13_writeContent_0 24 rfl rfl
theorem dX13_writeContent_0 : decode cX13_writeContent 0 = .ok (.iconst 0, 1) := dk_3 (dk_at dksX13_writeContent_0 0 rfl rfl)
theorem dX13_writeContent_1 : decode cX13_writeContent 1 = .ok (.istore_n 3, 1) := dk_62 (dk_at dksX13_writeContent_0 1 rfl rfl)
theorem dX13_writeContent_2 : decode cX13_writeContent 2 = .ok (.iload_n 3, 1) := dk_29 (dk_at dksX13_writeContent_0 2 rfl rfl)
theorem dX13_writeContent_3 : decode cX13_writeContent 3 = .ok (.aload_n 1, 1) := dk_43 (dk_at dksX13_writeContent_0 3 rfl rfl)
theorem dX13_writeContent_4 : decode cX13_writeContent 4 = .ok (.getfield 28, 3) := dk_180 0 28 (dk_at dksX13_writeContent_0 4 rfl rfl)
theorem dX13_writeContent_7 : decode cX13_writeContent 7 = .ok (.if_icmp .ge 27, 3) := dk_162 0 27 (dk_at dksX13_writeContent_0 7 rfl rfl)
theorem dX13_writeContent_10 : decode cX13_writeContent 10 = .ok (.aload_n 2, 1) := dk_44 (dk_at dksX13_writeContent_0 10 rfl rfl)
theorem dX13_writeContent_11 : decode cX13_writeContent 11 = .ok (.aload_n 2, 1) := dk_44 (dk_at dksX13_writeContent_0 11 rfl rfl)
theorem dX13_writeContent_12 : decode cX13_writeContent 12 = .ok (.getfield 55, 3) := dk_180 0 55 (dk_at dksX13_writeContent_0 12 rfl rfl)
theorem dX13_writeContent_15 : decode cX13_writeContent 15 = .ok (.getfield 18, 3) := dk_180 0 18 (dk_at dksX13_writeContent_0 15 rfl rfl)
theorem dX13_writeContent_18 : decode cX13_writeContent 18 = .ok (.aload_n 1, 1) := dk_43 (dk_at dksX13_writeContent_0 18 rfl rfl)
theorem dX13_writeContent_19 : decode cX13_writeContent 19 = .ok (.getfield 58, 3) := dk_180 0 58 (dk_at dksX13_writeContent_0 19 rfl rfl)
theorem dX13_writeContent_22 : decode cX13_writeContent 22 = .ok (.iload_n 3, 1) := dk_29 (dk_at dksX13_writeContent_0 22 rfl rfl)
theorem dX13_writeContent_23 : decode cX13_writeContent 23 = .ok (.iadd, 1) := dk_96 (dk_at dksX13_writeContent_0 23 rfl rfl)
theorem dX13_writeContent_24 : decode cX13_writeContent 24 = .ok (.iaload, 1) := dk_46 (dk_at dksX13_writeContent_1 0 rfl rfl)
theorem dX13_writeContent_25 : decode cX13_writeContent 25 = .ok (.invokevirtual 61, 3) := dk_182 0 61 (dk_at dksX13_writeContent_1 1 rfl rfl)
theorem dX13_writeContent_28 : decode cX13_writeContent 28 = .ok (.iinc 3 1, 3) := dk_132 3 1 (dk_at dksX13_writeContent_1 4 rfl rfl)
theorem dX13_writeContent_31 : decode cX13_writeContent 31 = .ok (.goto (-29), 3) := dk_167 255 227 (dk_at dksX13_writeContent_1 7 rfl rfl)
theorem dX13_writeContent_34 : decode cX13_writeContent 34 = .ok (.return_, 1) := dk_177 (dk_at dksX13_writeContent_1 10 rfl rfl)
abbrev cX13_pack : ByteArray := prog_6_method_7_code
def yX13_pack : MethodName := ⟨RX13, "pack", "(LNotationDesk$Part;LNotationDesk$Writer;)V"⟩
def dkwX13_pack_1 : List UInt8 := [182, 0, 72, 154, 0, 7, 44, 182, 0, 92, 42, 43, 44, 182, 0, 93, 177]
abbrev dktX13_pack_1 : List UInt8 := dkwX13_pack_1 ++ []
def dkwX13_pack_0 : List UInt8 := [42, 180, 0, 12, 43, 180, 0, 28, 44, 182, 0, 88, 43, 180, 0, 28, 158, 0, 17, 42, 180, 0, 12]
abbrev dktX13_pack_0 : List UInt8 := dkwX13_pack_0 ++ dktX13_pack_1
theorem dksX13_pack_0 : cX13_pack.data.toList.drop 0 = dktX13_pack_0 := by decide +kernel
theorem dksX13_pack_1 : cX13_pack.data.toList.drop 23 = dktX13_pack_1 := dk_seg dksX13_pack_0 23 rfl rfl
theorem dX13_pack_0 : decode cX13_pack 0 = .ok (.aload_n 0, 1) := dk_42 (dk_at dksX13_pack_0 0 rfl rfl)
theorem dX13_pack_1 : decode cX13_pack 1 = .ok (.getfield 12, 3) := dk_180 0 12 (dk_at dksX13_pack_0 1 rfl rfl)
theorem dX13_pack_4 : decode cX13_pack 4 = .ok (.aload_n 1, 1) := dk_43 (dk_at dksX13_pack_0 4 rfl rfl)
theorem dX13_pack_5 : decode cX13_pack 5 = .ok (.getfield 28, 3) := dk_180 0 28 (dk_at dksX13_pack_0 5 rfl rfl)
theorem dX13_pack_8 : decode cX13_pack 8 = .ok (.aload_n 2, 1) := dk_44 (dk_at dksX13_pack_0 8 rfl rfl)
theorem dX13_pack_9 : decode cX13_pack 9 = .ok (.invokevirtual 88, 3) := dk_182 0 88 (dk_at dksX13_pack_0 9 rfl rfl)
theorem dX13_pack_12 : decode cX13_pack 12 = .ok (.aload_n 1, 1) := dk_43 (dk_at dksX13_pack_0 12 rfl rfl)
theorem dX13_pack_13 : decode cX13_pack 13 = .ok (.getfield 28, 3) := dk_180 0 28 (dk_at dksX13_pack_0 13 rfl rfl)
theorem dX13_pack_16 : decode cX13_pack 16 = .ok (.ifCond .le 17, 3) := dk_158 0 17 (dk_at dksX13_pack_0 16 rfl rfl)
theorem dX13_pack_19 : decode cX13_pack 19 = .ok (.aload_n 0, 1) := dk_42 (dk_at dksX13_pack_0 19 rfl rfl)
theorem dX13_pack_20 : decode cX13_pack 20 = .ok (.getfield 12, 3) := dk_180 0 12 (dk_at dksX13_pack_0 20 rfl rfl)
theorem dX13_pack_23 : decode cX13_pack 23 = .ok (.invokevirtual 72, 3) := dk_182 0 72 (dk_at dksX13_pack_1 0 rfl rfl)
theorem dX13_pack_26 : decode cX13_pack 26 = .ok (.ifCond .ne 7, 3) := dk_154 0 7 (dk_at dksX13_pack_1 3 rfl rfl)
theorem dX13_pack_29 : decode cX13_pack 29 = .ok (.aload_n 2, 1) := dk_44 (dk_at dksX13_pack_1 6 rfl rfl)
theorem dX13_pack_30 : decode cX13_pack 30 = .ok (.invokevirtual 92, 3) := dk_182 0 92 (dk_at dksX13_pack_1 7 rfl rfl)
theorem dX13_pack_33 : decode cX13_pack 33 = .ok (.aload_n 0, 1) := dk_42 (dk_at dksX13_pack_1 10 rfl rfl)
theorem dX13_pack_34 : decode cX13_pack 34 = .ok (.aload_n 1, 1) := dk_43 (dk_at dksX13_pack_1 11 rfl rfl)
theorem dX13_pack_35 : decode cX13_pack 35 = .ok (.aload_n 2, 1) := dk_44 (dk_at dksX13_pack_1 12 rfl rfl)
theorem dX13_pack_36 : decode cX13_pack 36 = .ok (.invokevirtual 93, 3) := dk_182 0 93 (dk_at dksX13_pack_1 13 rfl rfl)
theorem dX13_pack_39 : decode cX13_pack 39 = .ok (.return_, 1) := dk_177 (dk_at dksX13_pack_1 16 rfl rfl)
theorem q98 : (Jvm.Cond.initialized "NotationDesk$Octets") ∈ lw_all := lw_g (lw_at lw_m1 13 rfl) rfl
theorem q205 : (Jvm.Cond.fieldLinkNest "NotationDesk$Octets" (18 : Nat) "NotationDesk$Store" "octets" "[I" "NotationDesk") ∈ lw_tbl := lw_at lw_m1 120 rfl
theorem q208 : (Jvm.Cond.fieldLinkNest "NotationDesk$Octets" (24 : Nat) "NotationDesk$Store" "used" "I" "NotationDesk") ∈ lw_tbl := lw_at lw_m1 123 rfl
theorem q235 : (Jvm.Cond.fieldLinkNest "NotationDesk$Octets" (81 : Nat) "NotationDesk$Source" "end" "I" "NotationDesk") ∈ lw_tbl := lw_at lw_m1 150 rfl
theorem q237 : (Jvm.Cond.fieldLinkNest "NotationDesk$Octets" (78 : Nat) "NotationDesk$Source" "bit" "I" "NotationDesk") ∈ lw_tbl := lw_at lw_m1 152 rfl
theorem q239 : (Jvm.Cond.fieldLinkNest "NotationDesk$Octets" (37 : Nat) "NotationDesk$Source" "store" "LNotationDesk$Store;" "NotationDesk") ∈ lw_tbl := lw_at lw_m1 154 rfl
theorem q275 : (Jvm.Cond.fieldLinkNest "NotationDesk$Octets" (55 : Nat) "NotationDesk$Writer" "store" "LNotationDesk$Store;" "NotationDesk") ∈ lw_tbl := lw_at lw_m1 190 rfl
theorem q402 : (Jvm.Cond.selects "NotationDesk$Octets" ({ cls := "NotationDesk$Type", name := "height", desc := "()I" } : Jvm.MethodName) ({ cls := "NotationDesk$Simple", name := "height", desc := "()I" } : Jvm.MethodName)) ∈ lw_all := lw_g (lw_at lw_m2 77 rfl) rfl
theorem q518 : (Jvm.Cond.selects "NotationDesk$Octets" ({ cls := "NotationDesk$Type", name := "holds", desc := "(I)Z" } : Jvm.MethodName) ({ cls := "NotationDesk$Type", name := "holds", desc := "(I)Z" } : Jvm.MethodName)) ∈ lw_all := lw_g (lw_at lw_m2 193 rfl) rfl
theorem q558 : (Jvm.Cond.selects "NotationDesk$Octets" ({ cls := "NotationDesk$Type", name := "tags", desc := "()I" } : Jvm.MethodName) ({ cls := "NotationDesk$Simple", name := "tags", desc := "()I" } : Jvm.MethodName)) ∈ lw_all := lw_g (lw_at lw_m2 233 rfl) rfl
theorem q584 : (Jvm.Cond.instantiable "NotationDesk$Octets" (2 : Nat)) ∈ lw_all := lw_g (lw_at lw_m3 19 rfl) rfl
theorem q586 : (Jvm.Cond.instanceMethod ({ cls := "NotationDesk$Octets", name := "<init>", desc := "()V" } : Jvm.MethodName)) ∈ lw_all := lw_g (lw_at lw_m3 21 rfl) rfl
theorem q587 : (Jvm.Cond.code ({ cls := "NotationDesk$Octets", name := "<init>", desc := "()V" } : Jvm.MethodName) prog_6_method_1_code (1 : Nat) (Option.none : Option Jvm.ClassFile.FieldType)) ∈ lw_all := lw_g (lw_at lw_m3 22 rfl) rfl
theorem q588 : (Jvm.Cond.methodLinkNest "NotationDesk$Octets" (3 : Nat) ({ cls := "NotationDesk$Simple", name := "<init>", desc := "()V" } : Jvm.MethodName) "NotationDesk") ∈ lw_tbl := lw_at lw_m3 23 rfl
theorem q589 : (Jvm.Cond.classLink "NotationDesk$Octets" (9 : Nat) "NotationDesk$Size") ∈ lw_all := lw_g (lw_at lw_m3 24 rfl) rfl
theorem q591 : (Jvm.Cond.methodLinkNest "NotationDesk$Octets" (11 : Nat) ({ cls := "NotationDesk$Size", name := "<init>", desc := "()V" } : Jvm.MethodName) "NotationDesk") ∈ lw_tbl := lw_at lw_m3 26 rfl
theorem q605 : (Jvm.Cond.fieldLink "NotationDesk$Octets" (12 : Nat) "NotationDesk$Octets" "many" "LNotationDesk$Size;") ∈ lw_all := lw_g (lw_at lw_m3 40 rfl) rfl
theorem q607 : (Jvm.Cond.laysFinal "NotationDesk$Octets" "NotationDesk$Octets" "many" "LNotationDesk$Size;") ∈ lw_all := lw_g (lw_at lw_m3 42 rfl) rfl
theorem q608 : (Jvm.Cond.soleField "NotationDesk$Octets" "many") ∈ lw_all := lw_g (lw_at lw_m3 43 rfl) rfl
theorem q609 : (Jvm.Cond.lays "NotationDesk$Octets" "NotationDesk$Simple" "tag" "I") ∈ lw_all := lw_g (lw_at lw_m3 44 rfl) rfl
theorem q610 : (Jvm.Cond.superclass "NotationDesk$Octets" "NotationDesk$Simple") ∈ lw_all := lw_g (lw_at lw_m3 45 rfl) rfl
theorem q612 : (Jvm.Cond.sameMethod "NotationDesk$Octets" "NotationDesk$Simple" "marked" "(I)V") ∈ lw_all := lw_g (lw_at lw_m3 47 rfl) rfl
theorem q613 : (Jvm.Cond.selects "NotationDesk$Octets" ({ cls := "NotationDesk$Octets", name := "marked", desc := "(I)V" } : Jvm.MethodName) ({ cls := "NotationDesk$Simple", name := "marked", desc := "(I)V" } : Jvm.MethodName)) ∈ lw_all := lw_g (lw_at lw_m3 48 rfl) rfl
theorem q667 : (Jvm.Cond.selects "NotationDesk$Octets" ({ cls := "NotationDesk$Type", name := "isChoice", desc := "()Z" } : Jvm.MethodName) ({ cls := "NotationDesk$Type", name := "isChoice", desc := "()Z" } : Jvm.MethodName)) ∈ lw_all := lw_g (lw_at lw_m3 102 rfl) rfl
theorem q907 : (Jvm.Cond.fieldLinkNest "NotationDesk$Octets" (28 : Nat) "NotationDesk$Part" "number" "I" "NotationDesk") ∈ lw_tbl := lw_at lw_m4 102 rfl
theorem q915 : (Jvm.Cond.fieldLinkNest "NotationDesk$Octets" (58 : Nat) "NotationDesk$Part" "from" "I" "NotationDesk") ∈ lw_tbl := lw_at lw_m4 110 rfl
theorem q967 : (Jvm.Cond.instanceMethod ({ cls := "NotationDesk$Octets", name := "unpack", desc := "(LNotationDesk$Source;)LNotationDesk$Part;" } : Jvm.MethodName)) ∈ lw_all := lw_g (lw_at lw_m4 162 rfl) rfl
theorem q968 : (Jvm.Cond.code ({ cls := "NotationDesk$Octets", name := "unpack", desc := "(LNotationDesk$Source;)LNotationDesk$Part;" } : Jvm.MethodName) prog_6_method_6_code (5 : Nat) (Option.some (Jvm.ClassFile.FieldType.object "NotationDesk$Part"))) ∈ lw_all := lw_g (lw_at lw_m4 163 rfl) rfl
theorem q969 : (Jvm.Cond.methodLink "NotationDesk$Octets" (64 : Nat) ({ cls := "NotationDesk$Size", name := "unpack", desc := "(LNotationDesk$Source;)I" } : Jvm.MethodName)) ∈ lw_all := lw_g (lw_at lw_m4 164 rfl) rfl
theorem q974 : (Jvm.Cond.methodLink "NotationDesk$Octets" (68 : Nat) ({ cls := "NotationDesk$Source", name := "isThere", desc := "()Z" } : Jvm.MethodName)) ∈ lw_all := lw_g (lw_at lw_m4 169 rfl) rfl
theorem q975 : (Jvm.Cond.methodLink "NotationDesk$Octets" (33 : Nat) ({ cls := "NotationDesk$Size", name := "holds", desc := "(I)Z" } : Jvm.MethodName)) ∈ lw_all := lw_g (lw_at lw_m4 170 rfl) rfl
theorem q980 : (Jvm.Cond.methodLink "NotationDesk$Octets" (72 : Nat) ({ cls := "NotationDesk$Size", name := "isShort", desc := "()Z" } : Jvm.MethodName)) ∈ lw_all := lw_g (lw_at lw_m4 175 rfl) rfl
theorem q984 : (Jvm.Cond.methodLink "NotationDesk$Octets" (75 : Nat) ({ cls := "NotationDesk$Source", name := "align", desc := "()V" } : Jvm.MethodName)) ∈ lw_all := lw_g (lw_at lw_m4 179 rfl) rfl
theorem q985 : (Jvm.Cond.methodLink "NotationDesk$Octets" (43 : Nat) ({ cls := "NotationDesk$Store", name := "make", desc := "(II)LNotationDesk$Part;" } : Jvm.MethodName)) ∈ lw_all := lw_g (lw_at lw_m4 180 rfl) rfl
theorem q986 : (Jvm.Cond.methodLink "NotationDesk$Octets" (84 : Nat) ({ cls := "NotationDesk$Source", name := "take", desc := "(I)I" } : Jvm.MethodName)) ∈ lw_all := lw_g (lw_at lw_m4 181 rfl) rfl
theorem q987 : (Jvm.Cond.methodLink "NotationDesk$Octets" (51 : Nat) ({ cls := "NotationDesk$Octets", name := "add", desc := "(LNotationDesk$Part;LNotationDesk$Store;I)V" } : Jvm.MethodName)) ∈ lw_all := lw_g (lw_at lw_m4 182 rfl) rfl
theorem q988 : (Jvm.Cond.static ({ cls := "NotationDesk$Octets", name := "add", desc := "(LNotationDesk$Part;LNotationDesk$Store;I)V" } : Jvm.MethodName)) ∈ lw_all := lw_g (lw_at lw_m4 183 rfl) rfl
theorem q989 : (Jvm.Cond.code ({ cls := "NotationDesk$Octets", name := "add", desc := "(LNotationDesk$Part;LNotationDesk$Store;I)V" } : Jvm.MethodName) prog_6_method_2_code (3 : Nat) (Option.none : Option Jvm.ClassFile.FieldType)) ∈ lw_all := lw_g (lw_at lw_m4 184 rfl) rfl
theorem q1022 : (Jvm.Cond.selects "NotationDesk$Octets" ({ cls := "NotationDesk$Type", name := "given", desc := "(LNotationDesk$Store;I)LNotationDesk$Part;" } : Jvm.MethodName) ({ cls := "NotationDesk$Type", name := "given", desc := "(LNotationDesk$Store;I)LNotationDesk$Part;" } : Jvm.MethodName)) ∈ lw_all := lw_g (lw_at lw_m4 217 rfl) rfl
theorem q1036 : (Jvm.Cond.selects "NotationDesk$Octets" ({ cls := "NotationDesk$Type", name := "unpack", desc := "(LNotationDesk$Source;)LNotationDesk$Part;" } : Jvm.MethodName) ({ cls := "NotationDesk$Octets", name := "unpack", desc := "(LNotationDesk$Source;)LNotationDesk$Part;" } : Jvm.MethodName)) ∈ lw_all := lw_g (lw_at lw_m4 231 rfl) rfl
theorem q1069 : (Jvm.Cond.selects "NotationDesk$Octets" ({ cls := "NotationDesk$Simple", name := "readContent", desc := "(LNotationDesk$Source;I)LNotationDesk$Part;" } : Jvm.MethodName) ({ cls := "NotationDesk$Octets", name := "readContent", desc := "(LNotationDesk$Source;I)LNotationDesk$Part;" } : Jvm.MethodName)) ∈ lw_all := lw_g (lw_at lw_m5 24 rfl) rfl
theorem q1070 : (Jvm.Cond.instanceMethod ({ cls := "NotationDesk$Octets", name := "readContent", desc := "(LNotationDesk$Source;I)LNotationDesk$Part;" } : Jvm.MethodName)) ∈ lw_all := lw_g (lw_at lw_m5 25 rfl) rfl
theorem q1071 : (Jvm.Cond.code ({ cls := "NotationDesk$Octets", name := "readContent", desc := "(LNotationDesk$Source;I)LNotationDesk$Part;" } : Jvm.MethodName) prog_6_method_3_code (5 : Nat) (Option.some (Jvm.ClassFile.FieldType.object "NotationDesk$Part"))) ∈ lw_all := lw_g (lw_at lw_m5 26 rfl) rfl
theorem q1072 : (Jvm.Cond.methodLink "NotationDesk$Octets" (47 : Nat) ({ cls := "NotationDesk$Source", name := "next", desc := "()I" } : Jvm.MethodName)) ∈ lw_all := lw_g (lw_at lw_m5 27 rfl) rfl
theorem q1101 : (Jvm.Cond.selects "NotationDesk$Octets" ({ cls := "NotationDesk$Type", name := "read", desc := "(LNotationDesk$Source;I)LNotationDesk$Part;" } : Jvm.MethodName) ({ cls := "NotationDesk$Simple", name := "read", desc := "(LNotationDesk$Source;I)LNotationDesk$Part;" } : Jvm.MethodName)) ∈ lw_all := lw_g (lw_at lw_m5 56 rfl) rfl
theorem q1128 : (Jvm.Cond.selects "NotationDesk$Octets" ({ cls := "NotationDesk$Simple", name := "content", desc := "(LNotationDesk$Part;)I" } : Jvm.MethodName) ({ cls := "NotationDesk$Octets", name := "content", desc := "(LNotationDesk$Part;)I" } : Jvm.MethodName)) ∈ lw_all := lw_g (lw_at lw_m5 83 rfl) rfl
theorem q1129 : (Jvm.Cond.instanceMethod ({ cls := "NotationDesk$Octets", name := "content", desc := "(LNotationDesk$Part;)I" } : Jvm.MethodName)) ∈ lw_all := lw_g (lw_at lw_m5 84 rfl) rfl
theorem q1130 : (Jvm.Cond.code ({ cls := "NotationDesk$Octets", name := "content", desc := "(LNotationDesk$Part;)I" } : Jvm.MethodName) prog_6_method_4_code (2 : Nat) (Option.some Jvm.ClassFile.FieldType.int)) ∈ lw_all := lw_g (lw_at lw_m5 85 rfl) rfl
theorem q1155 : (Jvm.Cond.selects "NotationDesk$Octets" ({ cls := "NotationDesk$Simple", name := "writeContent", desc := "(LNotationDesk$Part;LNotationDesk$Writer;)V" } : Jvm.MethodName) ({ cls := "NotationDesk$Octets", name := "writeContent", desc := "(LNotationDesk$Part;LNotationDesk$Writer;)V" } : Jvm.MethodName)) ∈ lw_all := lw_g (lw_at lw_m5 110 rfl) rfl
theorem q1156 : (Jvm.Cond.instanceMethod ({ cls := "NotationDesk$Octets", name := "writeContent", desc := "(LNotationDesk$Part;LNotationDesk$Writer;)V" } : Jvm.MethodName)) ∈ lw_all := lw_g (lw_at lw_m5 111 rfl) rfl
theorem q1157 : (Jvm.Cond.code ({ cls := "NotationDesk$Octets", name := "writeContent", desc := "(LNotationDesk$Part;LNotationDesk$Writer;)V" } : Jvm.MethodName) prog_6_method_5_code (4 : Nat) (Option.none : Option Jvm.ClassFile.FieldType)) ∈ lw_all := lw_g (lw_at lw_m5 112 rfl) rfl
theorem q1158 : (Jvm.Cond.methodLink "NotationDesk$Octets" (61 : Nat) ({ cls := "NotationDesk$Writer", name := "add", desc := "(I)V" } : Jvm.MethodName)) ∈ lw_all := lw_g (lw_at lw_m5 113 rfl) rfl
theorem q1201 : (Jvm.Cond.selects "NotationDesk$Octets" ({ cls := "NotationDesk$Type", name := "size", desc := "(LNotationDesk$Part;)I" } : Jvm.MethodName) ({ cls := "NotationDesk$Simple", name := "size", desc := "(LNotationDesk$Part;)I" } : Jvm.MethodName)) ∈ lw_all := lw_g (lw_at lw_m5 156 rfl) rfl
theorem q1216 : (Jvm.Cond.selects "NotationDesk$Octets" ({ cls := "NotationDesk$Type", name := "write", desc := "(LNotationDesk$Part;LNotationDesk$Writer;I)V" } : Jvm.MethodName) ({ cls := "NotationDesk$Simple", name := "write", desc := "(LNotationDesk$Part;LNotationDesk$Writer;I)V" } : Jvm.MethodName)) ∈ lw_all := lw_g (lw_at lw_m5 171 rfl) rfl
theorem q1243 : (Jvm.Cond.instanceMethod ({ cls := "NotationDesk$Octets", name := "pack", desc := "(LNotationDesk$Part;LNotationDesk$Writer;)V" } : Jvm.MethodName)) ∈ lw_all := lw_g (lw_at lw_m5 198 rfl) rfl
theorem q1244 : (Jvm.Cond.code ({ cls := "NotationDesk$Octets", name := "pack", desc := "(LNotationDesk$Part;LNotationDesk$Writer;)V" } : Jvm.MethodName) prog_6_method_7_code (3 : Nat) (Option.none : Option Jvm.ClassFile.FieldType)) ∈ lw_all := lw_g (lw_at lw_m5 199 rfl) rfl
theorem q1245 : (Jvm.Cond.methodLink "NotationDesk$Octets" (88 : Nat) ({ cls := "NotationDesk$Size", name := "pack", desc := "(ILNotationDesk$Writer;)V" } : Jvm.MethodName)) ∈ lw_all := lw_g (lw_at lw_m5 200 rfl) rfl
theorem q1250 : (Jvm.Cond.methodLink "NotationDesk$Octets" (92 : Nat) ({ cls := "NotationDesk$Writer", name := "align", desc := "()V" } : Jvm.MethodName)) ∈ lw_all := lw_g (lw_at lw_m5 205 rfl) rfl
theorem q1251 : (Jvm.Cond.methodLink "NotationDesk$Octets" (93 : Nat) ({ cls := "NotationDesk$Octets", name := "writeContent", desc := "(LNotationDesk$Part;LNotationDesk$Writer;)V" } : Jvm.MethodName)) ∈ lw_all := lw_g (lw_at lw_m5 206 rfl) rfl
theorem q1264 : (Jvm.Cond.selects "NotationDesk$Octets" ({ cls := "NotationDesk$Type", name := "pack", desc := "(LNotationDesk$Part;LNotationDesk$Writer;)V" } : Jvm.MethodName) ({ cls := "NotationDesk$Octets", name := "pack", desc := "(LNotationDesk$Part;LNotationDesk$Writer;)V" } : Jvm.MethodName)) ∈ lw_all := lw_g (lw_at lw_m5 219 rfl) rfl
theorem q1809 : (Jvm.Cond.selects "NotationDesk$Octets" ({ cls := "NotationDesk$Octets", name := "writeContent", desc := "(LNotationDesk$Part;LNotationDesk$Writer;)V" } : Jvm.MethodName) ({ cls := "NotationDesk$Octets", name := "writeContent", desc := "(LNotationDesk$Part;LNotationDesk$Writer;)V" } : Jvm.MethodName)) ∈ lw_all := lw_g (lw_at lw_m8 44 rfl) rfl
theorem q1820 : (Jvm.Cond.castable "NotationDesk$Octets" "java/lang/Object") ∈ lw_tbl := lw_at lw_m8 55 rfl
theorem q1836 : (Jvm.Cond.castable "NotationDesk$Octets" "NotationDesk$Type") ∈ lw_tbl := lw_at lw_m8 71 rfl
theorem in_X13 : ∀ w ∈ wsX130, w ∈ lw_all := lw_in wsX130 [609, 607] (by decide +kernel) (by decide +kernel)
/-! NotationDesk$Size -/
set_option maxRecDepth 100000
def RX14 : String := "NotationDesk$Size"
def TX14 : u_T := fun k => match k with
  | 0 => ("NotationDesk$Size", "isBound", "Z", false)
  | 1 => ("NotationDesk$Size", "low", "I", false)
  | _ => ("NotationDesk$Size", "high", "I", false)
def tyX14 : Nat → FieldType := fun k => match k with
  | 0 => .boolean
  | 1 => .int
  | _ => .int
abbrev wsX140 : List Cond := u_ws RX14 TX14 3
theorem nmX14 : ∀ a, a < 3 → ∀ b, b < 3 → a ≠ b → (TX14 a).2.1 ≠ (TX14 b).2.1 := by decide +kernel
theorem tyX14_ok : ∀ k, k < 3 → parseFieldDescriptor (TX14 k).2.2.1 = some (tyX14 k) := by decide +kernel
abbrev cX14_init : ByteArray := prog_11_method_1_code
def yX14_init : MethodName := ⟨RX14, "<init>", "()V"⟩
theorem dX14_init_0 : decode cX14_init 0 = .ok (.aload_n 0, 1) := by decide +kernel
theorem dX14_init_1 : decode cX14_init 1 = .ok (.invokespecial 1, 3) := by decide +kernel
theorem dX14_init_4 : decode cX14_init 4 = .ok (.return_, 1) := by decide +kernel
abbrev cX14_become : ByteArray := prog_11_method_2_code
def yX14_become : MethodName := ⟨RX14, "become", "(ZII)V"⟩
def dkwX14_become_0 : List UInt8 := [42, 27, 181, 0, 7, 42, 28, 181, 0, 13, 42, 29, 181, 0, 17, 177]
abbrev dktX14_become_0 : List UInt8 := dkwX14_become_0 ++ []
theorem dksX14_become_0 : cX14_become.data.toList.drop 0 = dktX14_become_0 := by decide +kernel
theorem dX14_become_0 : decode cX14_become 0 = .ok (.aload_n 0, 1) := dk_42 (dk_at dksX14_become_0 0 rfl rfl)
theorem dX14_become_1 : decode cX14_become 1 = .ok (.iload_n 1, 1) := dk_27 (dk_at dksX14_become_0 1 rfl rfl)
theorem dX14_become_2 : decode cX14_become 2 = .ok (.putfield 7, 3) := dk_181 0 7 (dk_at dksX14_become_0 2 rfl rfl)
theorem dX14_become_5 : decode cX14_become 5 = .ok (.aload_n 0, 1) := dk_42 (dk_at dksX14_become_0 5 rfl rfl)
theorem dX14_become_6 : decode cX14_become 6 = .ok (.iload_n 2, 1) := dk_28 (dk_at dksX14_become_0 6 rfl rfl)
theorem dX14_become_7 : decode cX14_become 7 = .ok (.putfield 13, 3) := dk_181 0 13 (dk_at dksX14_become_0 7 rfl rfl)
theorem dX14_become_10 : decode cX14_become 10 = .ok (.aload_n 0, 1) := dk_42 (dk_at dksX14_become_0 10 rfl rfl)
theorem dX14_become_11 : decode cX14_become 11 = .ok (.iload_n 3, 1) := dk_29 (dk_at dksX14_become_0 11 rfl rfl)
theorem dX14_become_12 : decode cX14_become 12 = .ok (.putfield 17, 3) := dk_181 0 17 (dk_at dksX14_become_0 12 rfl rfl)
theorem dX14_become_15 : decode cX14_become 15 = .ok (.return_, 1) := dk_177 (dk_at dksX14_become_0 15 rfl rfl)
abbrev cX14_unpack : ByteArray := prog_11_method_5_code
def yX14_unpack : MethodName := ⟨RX14, "unpack", "(LNotationDesk$Source;)I"⟩
def dkwX14_unpack_1 : List UInt8 := [17, 0, 255, 182, 0, 26, 172]
abbrev dktX14_unpack_1 : List UInt8 := dkwX14_unpack_1 ++ []
def dkwX14_unpack_0 : List UInt8 := [42, 180, 0, 7, 153, 0, 18, 43, 42, 180, 0, 13, 42, 180, 0, 17, 182, 0, 26, 167, 0, 11, 43, 3]
abbrev dktX14_unpack_0 : List UInt8 := dkwX14_unpack_0 ++ dktX14_unpack_1
theorem dksX14_unpack_0 : cX14_unpack.data.toList.drop 0 = dktX14_unpack_0 := by decide +kernel
theorem dksX14_unpack_1 : cX14_unpack.data.toList.drop 24 = dktX14_unpack_1 := dk_seg dksX14_unpack_0 24 rfl rfl
theorem dX14_unpack_0 : decode cX14_unpack 0 = .ok (.aload_n 0, 1) := dk_42 (dk_at dksX14_unpack_0 0 rfl rfl)
theorem dX14_unpack_1 : decode cX14_unpack 1 = .ok (.getfield 7, 3) := dk_180 0 7 (dk_at dksX14_unpack_0 1 rfl rfl)
theorem dX14_unpack_4 : decode cX14_unpack 4 = .ok (.ifCond .eq 18, 3) := dk_153 0 18 (dk_at dksX14_unpack_0 4 rfl rfl)
theorem dX14_unpack_7 : decode cX14_unpack 7 = .ok (.aload_n 1, 1) := dk_43 (dk_at dksX14_unpack_0 7 rfl rfl)
theorem dX14_unpack_8 : decode cX14_unpack 8 = .ok (.aload_n 0, 1) := dk_42 (dk_at dksX14_unpack_0 8 rfl rfl)
theorem dX14_unpack_9 : decode cX14_unpack 9 = .ok (.getfield 13, 3) := dk_180 0 13 (dk_at dksX14_unpack_0 9 rfl rfl)
theorem dX14_unpack_12 : decode cX14_unpack 12 = .ok (.aload_n 0, 1) := dk_42 (dk_at dksX14_unpack_0 12 rfl rfl)
theorem dX14_unpack_13 : decode cX14_unpack 13 = .ok (.getfield 17, 3) := dk_180 0 17 (dk_at dksX14_unpack_0 13 rfl rfl)
theorem dX14_unpack_16 : decode cX14_unpack 16 = .ok (.invokevirtual 26, 3) := dk_182 0 26 (dk_at dksX14_unpack_0 16 rfl rfl)
theorem dX14_unpack_19 : decode cX14_unpack 19 = .ok (.goto 11, 3) := dk_167 0 11 (dk_at dksX14_unpack_0 19 rfl rfl)
theorem dX14_unpack_22 : decode cX14_unpack 22 = .ok (.aload_n 1, 1) := dk_43 (dk_at dksX14_unpack_0 22 rfl rfl)
theorem dX14_unpack_23 : decode cX14_unpack 23 = .ok (.iconst 0, 1) := dk_3 (dk_at dksX14_unpack_0 23 rfl rfl)
theorem dX14_unpack_24 : decode cX14_unpack 24 = .ok (.sipush 255, 3) := dk_17 0 255 (dk_at dksX14_unpack_1 0 rfl rfl)
theorem dX14_unpack_27 : decode cX14_unpack 27 = .ok (.invokevirtual 26, 3) := dk_182 0 26 (dk_at dksX14_unpack_1 3 rfl rfl)
theorem dX14_unpack_30 : decode cX14_unpack 30 = .ok (.ireturn, 1) := dk_172 (dk_at dksX14_unpack_1 6 rfl rfl)
abbrev cX14_holds : ByteArray := prog_11_method_3_code
def yX14_holds : MethodName := ⟨RX14, "holds", "(I)Z"⟩
def dkwX14_holds_1 : List UInt8 := [167, 0, 19, 3, 167, 0, 15, 27, 17, 0, 128, 162, 0, 7, 4, 167, 0, 4, 3, 172]
abbrev dktX14_holds_1 : List UInt8 := dkwX14_holds_1 ++ []
def dkwX14_holds_0 : List UInt8 := [42, 180, 0, 7, 153, 0, 26, 27, 42, 180, 0, 13, 42, 180, 0, 17, 184, 0, 20, 154, 0, 7, 4]
abbrev dktX14_holds_0 : List UInt8 := dkwX14_holds_0 ++ dktX14_holds_1
theorem dksX14_holds_0 : cX14_holds.data.toList.drop 0 = dktX14_holds_0 := by decide +kernel
theorem dksX14_holds_1 : cX14_holds.data.toList.drop 23 = dktX14_holds_1 := dk_seg dksX14_holds_0 23 rfl rfl
theorem dX14_holds_0 : decode cX14_holds 0 = .ok (.aload_n 0, 1) := dk_42 (dk_at dksX14_holds_0 0 rfl rfl)
theorem dX14_holds_1 : decode cX14_holds 1 = .ok (.getfield 7, 3) := dk_180 0 7 (dk_at dksX14_holds_0 1 rfl rfl)
theorem dX14_holds_4 : decode cX14_holds 4 = .ok (.ifCond .eq 26, 3) := dk_153 0 26 (dk_at dksX14_holds_0 4 rfl rfl)
theorem dX14_holds_7 : decode cX14_holds 7 = .ok (.iload_n 1, 1) := dk_27 (dk_at dksX14_holds_0 7 rfl rfl)
theorem dX14_holds_8 : decode cX14_holds 8 = .ok (.aload_n 0, 1) := dk_42 (dk_at dksX14_holds_0 8 rfl rfl)
theorem dX14_holds_9 : decode cX14_holds 9 = .ok (.getfield 13, 3) := dk_180 0 13 (dk_at dksX14_holds_0 9 rfl rfl)
theorem dX14_holds_12 : decode cX14_holds 12 = .ok (.aload_n 0, 1) := dk_42 (dk_at dksX14_holds_0 12 rfl rfl)
theorem dX14_holds_13 : decode cX14_holds 13 = .ok (.getfield 17, 3) := dk_180 0 17 (dk_at dksX14_holds_0 13 rfl rfl)
theorem dX14_holds_16 : decode cX14_holds 16 = .ok (.invokestatic 20, 3) := dk_184 0 20 (dk_at dksX14_holds_0 16 rfl rfl)
theorem dX14_holds_19 : decode cX14_holds 19 = .ok (.ifCond .ne 7, 3) := dk_154 0 7 (dk_at dksX14_holds_0 19 rfl rfl)
theorem dX14_holds_22 : decode cX14_holds 22 = .ok (.iconst 1, 1) := dk_4 (dk_at dksX14_holds_0 22 rfl rfl)
theorem dX14_holds_23 : decode cX14_holds 23 = .ok (.goto 19, 3) := dk_167 0 19 (dk_at dksX14_holds_1 0 rfl rfl)
theorem dX14_holds_26 : decode cX14_holds 26 = .ok (.iconst 0, 1) := dk_3 (dk_at dksX14_holds_1 3 rfl rfl)
theorem dX14_holds_27 : decode cX14_holds 27 = .ok (.goto 15, 3) := dk_167 0 15 (dk_at dksX14_holds_1 4 rfl rfl)
theorem dX14_holds_30 : decode cX14_holds 30 = .ok (.iload_n 1, 1) := dk_27 (dk_at dksX14_holds_1 7 rfl rfl)
theorem dX14_holds_31 : decode cX14_holds 31 = .ok (.sipush 128, 3) := dk_17 0 128 (dk_at dksX14_holds_1 8 rfl rfl)
theorem dX14_holds_34 : decode cX14_holds 34 = .ok (.if_icmp .ge 7, 3) := dk_162 0 7 (dk_at dksX14_holds_1 11 rfl rfl)
theorem dX14_holds_37 : decode cX14_holds 37 = .ok (.iconst 1, 1) := dk_4 (dk_at dksX14_holds_1 14 rfl rfl)
theorem dX14_holds_38 : decode cX14_holds 38 = .ok (.goto 4, 3) := dk_167 0 4 (dk_at dksX14_holds_1 15 rfl rfl)
theorem dX14_holds_41 : decode cX14_holds 41 = .ok (.iconst 0, 1) := dk_3 (dk_at dksX14_holds_1 18 rfl rfl)
theorem dX14_holds_42 : decode cX14_holds 42 = .ok (.ireturn, 1) := dk_172 (dk_at dksX14_holds_1 19 rfl rfl)
abbrev cX14_isShort : ByteArray := prog_11_method_4_code
def yX14_isShort : MethodName := ⟨RX14, "isShort", "()Z"⟩
def dkwX14_isShort_1 : List UInt8 := [163, 0, 7, 4, 167, 0, 4, 3, 172]
abbrev dktX14_isShort_1 : List UInt8 := dkwX14_isShort_1 ++ []
def dkwX14_isShort_0 : List UInt8 := [42, 180, 0, 7, 153, 0, 26, 42, 180, 0, 13, 42, 180, 0, 17, 160, 0, 15, 42, 180, 0, 17, 5]
abbrev dktX14_isShort_0 : List UInt8 := dkwX14_isShort_0 ++ dktX14_isShort_1
theorem dksX14_isShort_0 : cX14_isShort.data.toList.drop 0 = dktX14_isShort_0 := by decide +kernel
theorem dksX14_isShort_1 : cX14_isShort.data.toList.drop 23 = dktX14_isShort_1 := dk_seg dksX14_isShort_0 23 rfl rfl
theorem dX14_isShort_0 : decode cX14_isShort 0 = .ok (.aload_n 0, 1) := dk_42 (dk_at dksX14_isShort_0 0 rfl rfl)
theorem dX14_isShort_1 : decode cX14_isShort 1 = .ok (.getfield 7, 3) := dk_180 0 7 (dk_at dksX14_isShort_0 1 rfl rfl)
theorem dX14_isShort_4 : decode cX14_isShort 4 = .ok (.ifCond .eq 26, 3) := dk_153 0 26 (dk_at dksX14_isShort_0 4 rfl rfl)
theorem dX14_isShort_7 : decode cX14_isShort 7 = .ok (.aload_n 0, 1) := dk_42 (dk_at dksX14_isShort_0 7 rfl rfl)
theorem dX14_isShort_8 : decode cX14_isShort 8 = .ok (.getfield 13, 3) := dk_180 0 13 (dk_at dksX14_isShort_0 8 rfl rfl)
theorem dX14_isShort_11 : decode cX14_isShort 11 = .ok (.aload_n 0, 1) := dk_42 (dk_at dksX14_isShort_0 11 rfl rfl)
theorem dX14_isShort_12 : decode cX14_isShort 12 = .ok (.getfield 17, 3) := dk_180 0 17 (dk_at dksX14_isShort_0 12 rfl rfl)
theorem dX14_isShort_15 : decode cX14_isShort 15 = .ok (.if_icmp .ne 15, 3) := dk_160 0 15 (dk_at dksX14_isShort_0 15 rfl rfl)
theorem dX14_isShort_18 : decode cX14_isShort 18 = .ok (.aload_n 0, 1) := dk_42 (dk_at dksX14_isShort_0 18 rfl rfl)
theorem dX14_isShort_19 : decode cX14_isShort 19 = .ok (.getfield 17, 3) := dk_180 0 17 (dk_at dksX14_isShort_0 19 rfl rfl)
theorem dX14_isShort_22 : decode cX14_isShort 22 = .ok (.iconst 2, 1) := dk_5 (dk_at dksX14_isShort_0 22 rfl rfl)
theorem dX14_isShort_23 : decode cX14_isShort 23 = .ok (.if_icmp .gt 7, 3) := dk_163 0 7 (dk_at dksX14_isShort_1 0 rfl rfl)
theorem dX14_isShort_26 : decode cX14_isShort 26 = .ok (.iconst 1, 1) := dk_4 (dk_at dksX14_isShort_1 3 rfl rfl)
theorem dX14_isShort_27 : decode cX14_isShort 27 = .ok (.goto 4, 3) := dk_167 0 4 (dk_at dksX14_isShort_1 4 rfl rfl)
theorem dX14_isShort_30 : decode cX14_isShort 30 = .ok (.iconst 0, 1) := dk_3 (dk_at dksX14_isShort_1 7 rfl rfl)
theorem dX14_isShort_31 : decode cX14_isShort 31 = .ok (.ireturn, 1) := dk_172 (dk_at dksX14_isShort_1 8 rfl rfl)
abbrev cX14_pack : ByteArray := prog_11_method_6_code
def yX14_pack : MethodName := ⟨RX14, "pack", "(ILNotationDesk$Writer;)V"⟩
def dkwX14_pack_1 : List UInt8 := [42, 180, 0, 17, 167, 0, 6, 17, 0, 255, 182, 0, 32, 177]
abbrev dktX14_pack_1 : List UInt8 := dkwX14_pack_1 ++ []
def dkwX14_pack_0 : List UInt8 := [44, 27, 42, 180, 0, 7, 153, 0, 10, 42, 180, 0, 13, 167, 0, 4, 3, 42, 180, 0, 7, 153, 0, 10]
abbrev dktX14_pack_0 : List UInt8 := dkwX14_pack_0 ++ dktX14_pack_1
theorem dksX14_pack_0 : cX14_pack.data.toList.drop 0 = dktX14_pack_0 := by decide +kernel
theorem dksX14_pack_1 : cX14_pack.data.toList.drop 24 = dktX14_pack_1 := dk_seg dksX14_pack_0 24 rfl rfl
theorem dX14_pack_0 : decode cX14_pack 0 = .ok (.aload_n 2, 1) := dk_44 (dk_at dksX14_pack_0 0 rfl rfl)
theorem dX14_pack_1 : decode cX14_pack 1 = .ok (.iload_n 1, 1) := dk_27 (dk_at dksX14_pack_0 1 rfl rfl)
theorem dX14_pack_2 : decode cX14_pack 2 = .ok (.aload_n 0, 1) := dk_42 (dk_at dksX14_pack_0 2 rfl rfl)
theorem dX14_pack_3 : decode cX14_pack 3 = .ok (.getfield 7, 3) := dk_180 0 7 (dk_at dksX14_pack_0 3 rfl rfl)
theorem dX14_pack_6 : decode cX14_pack 6 = .ok (.ifCond .eq 10, 3) := dk_153 0 10 (dk_at dksX14_pack_0 6 rfl rfl)
theorem dX14_pack_9 : decode cX14_pack 9 = .ok (.aload_n 0, 1) := dk_42 (dk_at dksX14_pack_0 9 rfl rfl)
theorem dX14_pack_10 : decode cX14_pack 10 = .ok (.getfield 13, 3) := dk_180 0 13 (dk_at dksX14_pack_0 10 rfl rfl)
theorem dX14_pack_13 : decode cX14_pack 13 = .ok (.goto 4, 3) := dk_167 0 4 (dk_at dksX14_pack_0 13 rfl rfl)
theorem dX14_pack_16 : decode cX14_pack 16 = .ok (.iconst 0, 1) := dk_3 (dk_at dksX14_pack_0 16 rfl rfl)
theorem dX14_pack_17 : decode cX14_pack 17 = .ok (.aload_n 0, 1) := dk_42 (dk_at dksX14_pack_0 17 rfl rfl)
theorem dX14_pack_18 : decode cX14_pack 18 = .ok (.getfield 7, 3) := dk_180 0 7 (dk_at dksX14_pack_0 18 rfl rfl)
theorem dX14_pack_21 : decode cX14_pack 21 = .ok (.ifCond .eq 10, 3) := dk_153 0 10 (dk_at dksX14_pack_0 21 rfl rfl)
theorem dX14_pack_24 : decode cX14_pack 24 = .ok (.aload_n 0, 1) := dk_42 (dk_at dksX14_pack_1 0 rfl rfl)
theorem dX14_pack_25 : decode cX14_pack 25 = .ok (.getfield 17, 3) := dk_180 0 17 (dk_at dksX14_pack_1 1 rfl rfl)
theorem dX14_pack_28 : decode cX14_pack 28 = .ok (.goto 6, 3) := dk_167 0 6 (dk_at dksX14_pack_1 4 rfl rfl)
theorem dX14_pack_31 : decode cX14_pack 31 = .ok (.sipush 255, 3) := dk_17 0 255 (dk_at dksX14_pack_1 7 rfl rfl)
theorem dX14_pack_34 : decode cX14_pack 34 = .ok (.invokevirtual 32, 3) := dk_182 0 32 (dk_at dksX14_pack_1 10 rfl rfl)
theorem dX14_pack_37 : decode cX14_pack 37 = .ok (.return_, 1) := dk_177 (dk_at dksX14_pack_1 13 rfl rfl)
theorem q99 : (Jvm.Cond.initialized "NotationDesk$Size") ∈ lw_all := lw_g (lw_at lw_m1 14 rfl) rfl
theorem q590 : (Jvm.Cond.instantiable "NotationDesk$Size" (3 : Nat)) ∈ lw_all := lw_g (lw_at lw_m3 25 rfl) rfl
theorem q592 : (Jvm.Cond.instanceMethod ({ cls := "NotationDesk$Size", name := "<init>", desc := "()V" } : Jvm.MethodName)) ∈ lw_all := lw_g (lw_at lw_m3 27 rfl) rfl
theorem q593 : (Jvm.Cond.code ({ cls := "NotationDesk$Size", name := "<init>", desc := "()V" } : Jvm.MethodName) prog_11_method_1_code (1 : Nat) (Option.none : Option Jvm.ClassFile.FieldType)) ∈ lw_all := lw_g (lw_at lw_m3 28 rfl) rfl
theorem q594 : (Jvm.Cond.methodLink "NotationDesk$Size" (1 : Nat) ({ cls := "java/lang/Object", name := "<init>", desc := "()V" } : Jvm.MethodName)) ∈ lw_all := lw_g (lw_at lw_m3 29 rfl) rfl
theorem q595 : (Jvm.Cond.fieldLink "NotationDesk$Size" (7 : Nat) "NotationDesk$Size" "isBound" "Z") ∈ lw_all := lw_g (lw_at lw_m3 30 rfl) rfl
theorem q596 : (Jvm.Cond.fieldLink "NotationDesk$Size" (13 : Nat) "NotationDesk$Size" "low" "I") ∈ lw_all := lw_g (lw_at lw_m3 31 rfl) rfl
theorem q597 : (Jvm.Cond.fieldLink "NotationDesk$Size" (17 : Nat) "NotationDesk$Size" "high" "I") ∈ lw_all := lw_g (lw_at lw_m3 32 rfl) rfl
theorem q598 : (Jvm.Cond.lays "NotationDesk$Size" "NotationDesk$Size" "isBound" "Z") ∈ lw_all := lw_g (lw_at lw_m3 33 rfl) rfl
theorem q599 : (Jvm.Cond.soleField "NotationDesk$Size" "isBound") ∈ lw_all := lw_g (lw_at lw_m3 34 rfl) rfl
theorem q600 : (Jvm.Cond.lays "NotationDesk$Size" "NotationDesk$Size" "low" "I") ∈ lw_all := lw_g (lw_at lw_m3 35 rfl) rfl
theorem q601 : (Jvm.Cond.soleField "NotationDesk$Size" "low") ∈ lw_all := lw_g (lw_at lw_m3 36 rfl) rfl
theorem q602 : (Jvm.Cond.lays "NotationDesk$Size" "NotationDesk$Size" "high" "I") ∈ lw_all := lw_g (lw_at lw_m3 37 rfl) rfl
theorem q603 : (Jvm.Cond.soleField "NotationDesk$Size" "high") ∈ lw_all := lw_g (lw_at lw_m3 38 rfl) rfl
theorem q604 : (Jvm.Cond.superclass "NotationDesk$Size" "java/lang/Object") ∈ lw_all := lw_g (lw_at lw_m3 39 rfl) rfl
theorem q619 : (Jvm.Cond.instanceMethod ({ cls := "NotationDesk$Size", name := "become", desc := "(ZII)V" } : Jvm.MethodName)) ∈ lw_all := lw_g (lw_at lw_m3 54 rfl) rfl
theorem q620 : (Jvm.Cond.selects "NotationDesk$Size" ({ cls := "NotationDesk$Size", name := "become", desc := "(ZII)V" } : Jvm.MethodName) ({ cls := "NotationDesk$Size", name := "become", desc := "(ZII)V" } : Jvm.MethodName)) ∈ lw_all := lw_g (lw_at lw_m3 55 rfl) rfl
theorem q621 : (Jvm.Cond.code ({ cls := "NotationDesk$Size", name := "become", desc := "(ZII)V" } : Jvm.MethodName) prog_11_method_2_code (4 : Nat) (Option.none : Option Jvm.ClassFile.FieldType)) ∈ lw_all := lw_g (lw_at lw_m3 56 rfl) rfl
theorem q970 : (Jvm.Cond.instanceMethod ({ cls := "NotationDesk$Size", name := "unpack", desc := "(LNotationDesk$Source;)I" } : Jvm.MethodName)) ∈ lw_all := lw_g (lw_at lw_m4 165 rfl) rfl
theorem q971 : (Jvm.Cond.selects "NotationDesk$Size" ({ cls := "NotationDesk$Size", name := "unpack", desc := "(LNotationDesk$Source;)I" } : Jvm.MethodName) ({ cls := "NotationDesk$Size", name := "unpack", desc := "(LNotationDesk$Source;)I" } : Jvm.MethodName)) ∈ lw_all := lw_g (lw_at lw_m4 166 rfl) rfl
theorem q972 : (Jvm.Cond.code ({ cls := "NotationDesk$Size", name := "unpack", desc := "(LNotationDesk$Source;)I" } : Jvm.MethodName) prog_11_method_5_code (2 : Nat) (Option.some Jvm.ClassFile.FieldType.int)) ∈ lw_all := lw_g (lw_at lw_m4 167 rfl) rfl
theorem q973 : (Jvm.Cond.methodLink "NotationDesk$Size" (26 : Nat) ({ cls := "NotationDesk$Source", name := "takeNumber", desc := "(II)I" } : Jvm.MethodName)) ∈ lw_all := lw_g (lw_at lw_m4 168 rfl) rfl
theorem q976 : (Jvm.Cond.instanceMethod ({ cls := "NotationDesk$Size", name := "holds", desc := "(I)Z" } : Jvm.MethodName)) ∈ lw_all := lw_g (lw_at lw_m4 171 rfl) rfl
theorem q977 : (Jvm.Cond.selects "NotationDesk$Size" ({ cls := "NotationDesk$Size", name := "holds", desc := "(I)Z" } : Jvm.MethodName) ({ cls := "NotationDesk$Size", name := "holds", desc := "(I)Z" } : Jvm.MethodName)) ∈ lw_all := lw_g (lw_at lw_m4 172 rfl) rfl
theorem q978 : (Jvm.Cond.code ({ cls := "NotationDesk$Size", name := "holds", desc := "(I)Z" } : Jvm.MethodName) prog_11_method_3_code (2 : Nat) (Option.some Jvm.ClassFile.FieldType.boolean)) ∈ lw_all := lw_g (lw_at lw_m4 173 rfl) rfl
theorem q979 : (Jvm.Cond.methodLinkNest "NotationDesk$Size" (20 : Nat) ({ cls := "NotationDesk", name := "outside", desc := "(III)Z" } : Jvm.MethodName) "NotationDesk") ∈ lw_tbl := lw_at lw_m4 174 rfl
theorem q981 : (Jvm.Cond.instanceMethod ({ cls := "NotationDesk$Size", name := "isShort", desc := "()Z" } : Jvm.MethodName)) ∈ lw_all := lw_g (lw_at lw_m4 176 rfl) rfl
theorem q982 : (Jvm.Cond.selects "NotationDesk$Size" ({ cls := "NotationDesk$Size", name := "isShort", desc := "()Z" } : Jvm.MethodName) ({ cls := "NotationDesk$Size", name := "isShort", desc := "()Z" } : Jvm.MethodName)) ∈ lw_all := lw_g (lw_at lw_m4 177 rfl) rfl
theorem q983 : (Jvm.Cond.code ({ cls := "NotationDesk$Size", name := "isShort", desc := "()Z" } : Jvm.MethodName) prog_11_method_4_code (1 : Nat) (Option.some Jvm.ClassFile.FieldType.boolean)) ∈ lw_all := lw_g (lw_at lw_m4 178 rfl) rfl
theorem q1246 : (Jvm.Cond.instanceMethod ({ cls := "NotationDesk$Size", name := "pack", desc := "(ILNotationDesk$Writer;)V" } : Jvm.MethodName)) ∈ lw_all := lw_g (lw_at lw_m5 201 rfl) rfl
theorem q1247 : (Jvm.Cond.selects "NotationDesk$Size" ({ cls := "NotationDesk$Size", name := "pack", desc := "(ILNotationDesk$Writer;)V" } : Jvm.MethodName) ({ cls := "NotationDesk$Size", name := "pack", desc := "(ILNotationDesk$Writer;)V" } : Jvm.MethodName)) ∈ lw_all := lw_g (lw_at lw_m5 202 rfl) rfl
theorem q1248 : (Jvm.Cond.code ({ cls := "NotationDesk$Size", name := "pack", desc := "(ILNotationDesk$Writer;)V" } : Jvm.MethodName) prog_11_method_6_code (3 : Nat) (Option.none : Option Jvm.ClassFile.FieldType)) ∈ lw_all := lw_g (lw_at lw_m5 203 rfl) rfl
theorem q1249 : (Jvm.Cond.methodLink "NotationDesk$Size" (32 : Nat) ({ cls := "NotationDesk$Writer", name := "putNumber", desc := "(III)V" } : Jvm.MethodName)) ∈ lw_all := lw_g (lw_at lw_m5 204 rfl) rfl
theorem q1821 : (Jvm.Cond.castable "NotationDesk$Size" "java/lang/Object") ∈ lw_tbl := lw_at lw_m8 56 rfl
theorem in_X14 : ∀ w ∈ wsX140, w ∈ lw_all := lw_in wsX140 [598, 600, 602] (by decide +kernel) (by decide +kernel)
/-! NotationDesk$Series -/
set_option maxRecDepth 100000
def RX15 : String := "NotationDesk$Series"
def TX15 : u_T := fun k => match k with
  | 0 => ("NotationDesk$Series", "many", "LNotationDesk$Size;", true)
  | _ => ("NotationDesk$Series", "item", "LNotationDesk$Type;", false)
def tyX15 : Nat → FieldType := fun k => match k with
  | 0 => .object "NotationDesk$Size"
  | _ => .object "NotationDesk$Type"
abbrev wsX150 : List Cond := u_ws RX15 TX15 2
theorem nmX15 : ∀ a, a < 2 → ∀ b, b < 2 → a ≠ b → (TX15 a).2.1 ≠ (TX15 b).2.1 := by decide +kernel
theorem tyX15_ok : ∀ k, k < 2 → parseFieldDescriptor (TX15 k).2.2.1 = some (tyX15 k) := by decide +kernel
abbrev cX15_height : ByteArray := prog_9_method_3_code
def yX15_height : MethodName := ⟨RX15, "height", "()I"⟩
def dkwX15_height_0 : List UInt8 := [42, 180, 0, 19, 182, 0, 23, 4, 96, 172]
abbrev dktX15_height_0 : List UInt8 := dkwX15_height_0 ++ []
theorem dksX15_height_0 : cX15_height.data.toList.drop 0 = dktX15_height_0 := by decide +kernel
theorem dX15_height_0 : decode cX15_height 0 = .ok (.aload_n 0, 1) := dk_42 (dk_at dksX15_height_0 0 rfl rfl)
theorem dX15_height_1 : decode cX15_height 1 = .ok (.getfield 19, 3) := dk_180 0 19 (dk_at dksX15_height_0 1 rfl rfl)
theorem dX15_height_4 : decode cX15_height 4 = .ok (.invokevirtual 23, 3) := dk_182 0 23 (dk_at dksX15_height_0 4 rfl rfl)
theorem dX15_height_7 : decode cX15_height 7 = .ok (.iconst 1, 1) := dk_4 (dk_at dksX15_height_0 7 rfl rfl)
theorem dX15_height_8 : decode cX15_height 8 = .ok (.iadd, 1) := dk_96 (dk_at dksX15_height_0 8 rfl rfl)
theorem dX15_height_9 : decode cX15_height 9 = .ok (.ireturn, 1) := dk_172 (dk_at dksX15_height_0 9 rfl rfl)
abbrev cX15_tags : ByteArray := prog_9_method_2_code
def yX15_tags : MethodName := ⟨RX15, "tags", "()I"⟩
theorem dX15_tags_0 : decode cX15_tags 0 = .ok (.ldc 18, 2) := by decide +kernel
theorem dX15_tags_2 : decode cX15_tags 2 = .ok (.ireturn, 1) := by decide +kernel
abbrev cX15_init : ByteArray := prog_9_method_1_code
def yX15_init : MethodName := ⟨RX15, "<init>", "()V"⟩
def dkwX15_init_0 : List UInt8 := [42, 183, 0, 3, 42, 187, 0, 9, 89, 183, 0, 11, 181, 0, 12, 177]
abbrev dktX15_init_0 : List UInt8 := dkwX15_init_0 ++ []
theorem dksX15_init_0 : cX15_init.data.toList.drop 0 = dktX15_init_0 := by decide +kernel
theorem dX15_init_0 : decode cX15_init 0 = .ok (.aload_n 0, 1) := dk_42 (dk_at dksX15_init_0 0 rfl rfl)
theorem dX15_init_1 : decode cX15_init 1 = .ok (.invokespecial 3, 3) := dk_183 0 3 (dk_at dksX15_init_0 1 rfl rfl)
theorem dX15_init_4 : decode cX15_init 4 = .ok (.aload_n 0, 1) := dk_42 (dk_at dksX15_init_0 4 rfl rfl)
theorem dX15_init_5 : decode cX15_init 5 = .ok (.new 9, 3) := dk_187 0 9 (dk_at dksX15_init_0 5 rfl rfl)
theorem dX15_init_8 : decode cX15_init 8 = .ok (.dup, 1) := dk_89 (dk_at dksX15_init_0 8 rfl rfl)
theorem dX15_init_9 : decode cX15_init 9 = .ok (.invokespecial 11, 3) := dk_183 0 11 (dk_at dksX15_init_0 9 rfl rfl)
theorem dX15_init_12 : decode cX15_init 12 = .ok (.putfield 12, 3) := dk_181 0 12 (dk_at dksX15_init_0 12 rfl rfl)
theorem dX15_init_15 : decode cX15_init 15 = .ok (.return_, 1) := dk_177 (dk_at dksX15_init_0 15 rfl rfl)
abbrev cX15_unpack : ByteArray := prog_9_method_9_code
def yX15_unpack : MethodName := ⟨RX15, "unpack", "(LNotationDesk$Source;)LNotationDesk$Part;"⟩
def dkwX15_unpack_3 : List UInt8 := [132, 4, 1, 167, 255, 226, 45, 176]
abbrev dktX15_unpack_3 : List UInt8 := dkwX15_unpack_3 ++ []
def dkwX15_unpack_2 : List UInt8 := [162, 0, 30, 45, 198, 0, 26, 45, 42, 180, 0, 19, 43, 182, 0, 105, 184, 0, 61, 154, 0, 5, 1, 176]
abbrev dktX15_unpack_2 : List UInt8 := dkwX15_unpack_2 ++ dktX15_unpack_3
def dkwX15_unpack_1 : List UInt8 := [153, 0, 16, 43, 180, 0, 43, 16, 7, 3, 182, 0, 47, 167, 0, 4, 1, 78, 3, 54, 4, 21, 4, 28]
abbrev dktX15_unpack_1 : List UInt8 := dkwX15_unpack_1 ++ dktX15_unpack_2
def dkwX15_unpack_0 : List UInt8 := [42, 180, 0, 12, 43, 182, 0, 98, 61, 43, 182, 0, 102, 153, 0, 27, 42, 180, 0, 12, 28, 182, 0, 67]
abbrev dktX15_unpack_0 : List UInt8 := dkwX15_unpack_0 ++ dktX15_unpack_1
theorem dksX15_unpack_0 : cX15_unpack.data.toList.drop 0 = dktX15_unpack_0 := by decide +kernel
theorem dksX15_unpack_1 : cX15_unpack.data.toList.drop 24 = dktX15_unpack_1 := dk_seg dksX15_unpack_0 24 rfl rfl
theorem dksX15_unpack_2 : cX15_unpack.data.toList.drop 48 = dktX15_unpack_2 := dk_seg dksX15_unpack_1 24 rfl rfl
theorem dksX15_unpack_3 : cX15_unpack.data.toList.drop 72 = dktX15_unpack_3 := dk_seg dksX15_unpack_2 24 rfl rfl
theorem dX15_unpack_0 : decode cX15_unpack 0 = .ok (.aload_n 0, 1) := dk_42 (dk_at dksX15_unpack_0 0 rfl rfl)
theorem dX15_unpack_1 : decode cX15_unpack 1 = .ok (.getfield 12, 3) := dk_180 0 12 (dk_at dksX15_unpack_0 1 rfl rfl)
theorem dX15_unpack_4 : decode cX15_unpack 4 = .ok (.aload_n 1, 1) := dk_43 (dk_at dksX15_unpack_0 4 rfl rfl)
theorem dX15_unpack_5 : decode cX15_unpack 5 = .ok (.invokevirtual 98, 3) := dk_182 0 98 (dk_at dksX15_unpack_0 5 rfl rfl)
theorem dX15_unpack_8 : decode cX15_unpack 8 = .ok (.istore_n 2, 1) := dk_61 (dk_at dksX15_unpack_0 8 rfl rfl)
theorem dX15_unpack_9 : decode cX15_unpack 9 = .ok (.aload_n 1, 1) := dk_43 (dk_at dksX15_unpack_0 9 rfl rfl)
theorem dX15_unpack_10 : decode cX15_unpack 10 = .ok (.invokevirtual 102, 3) := dk_182 0 102 (dk_at dksX15_unpack_0 10 rfl rfl)
theorem dX15_unpack_13 : decode cX15_unpack 13 = .ok (.ifCond .eq 27, 3) := dk_153 0 27 (dk_at dksX15_unpack_0 13 rfl rfl)
theorem dX15_unpack_16 : decode cX15_unpack 16 = .ok (.aload_n 0, 1) := dk_42 (dk_at dksX15_unpack_0 16 rfl rfl)
theorem dX15_unpack_17 : decode cX15_unpack 17 = .ok (.getfield 12, 3) := dk_180 0 12 (dk_at dksX15_unpack_0 17 rfl rfl)
theorem dX15_unpack_20 : decode cX15_unpack 20 = .ok (.iload_n 2, 1) := dk_28 (dk_at dksX15_unpack_0 20 rfl rfl)
theorem dX15_unpack_21 : decode cX15_unpack 21 = .ok (.invokevirtual 67, 3) := dk_182 0 67 (dk_at dksX15_unpack_0 21 rfl rfl)
theorem dX15_unpack_24 : decode cX15_unpack 24 = .ok (.ifCond .eq 16, 3) := dk_153 0 16 (dk_at dksX15_unpack_1 0 rfl rfl)
theorem dX15_unpack_27 : decode cX15_unpack 27 = .ok (.aload_n 1, 1) := dk_43 (dk_at dksX15_unpack_1 3 rfl rfl)
theorem dX15_unpack_28 : decode cX15_unpack 28 = .ok (.getfield 43, 3) := dk_180 0 43 (dk_at dksX15_unpack_1 4 rfl rfl)
theorem dX15_unpack_31 : decode cX15_unpack 31 = .ok (.bipush 7, 2) := dk_16 7 (dk_at dksX15_unpack_1 7 rfl rfl)
theorem dX15_unpack_33 : decode cX15_unpack 33 = .ok (.iconst 0, 1) := dk_3 (dk_at dksX15_unpack_1 9 rfl rfl)
theorem dX15_unpack_34 : decode cX15_unpack 34 = .ok (.invokevirtual 47, 3) := dk_182 0 47 (dk_at dksX15_unpack_1 10 rfl rfl)
theorem dX15_unpack_37 : decode cX15_unpack 37 = .ok (.goto 4, 3) := dk_167 0 4 (dk_at dksX15_unpack_1 13 rfl rfl)
theorem dX15_unpack_40 : decode cX15_unpack 40 = .ok (.aconst_null, 1) := dk_1 (dk_at dksX15_unpack_1 16 rfl rfl)
theorem dX15_unpack_41 : decode cX15_unpack 41 = .ok (.astore_n 3, 1) := dk_78 (dk_at dksX15_unpack_1 17 rfl rfl)
theorem dX15_unpack_42 : decode cX15_unpack 42 = .ok (.iconst 0, 1) := dk_3 (dk_at dksX15_unpack_1 18 rfl rfl)
theorem dX15_unpack_43 : decode cX15_unpack 43 = .ok (.istore 4, 2) := dk_54 4 (dk_at dksX15_unpack_1 19 rfl rfl)
theorem dX15_unpack_45 : decode cX15_unpack 45 = .ok (.iload 4, 2) := dk_21 4 (dk_at dksX15_unpack_1 21 rfl rfl)
theorem dX15_unpack_47 : decode cX15_unpack 47 = .ok (.iload_n 2, 1) := dk_28 (dk_at dksX15_unpack_1 23 rfl rfl)
theorem dX15_unpack_48 : decode cX15_unpack 48 = .ok (.if_icmp .ge 30, 3) := dk_162 0 30 (dk_at dksX15_unpack_2 0 rfl rfl)
theorem dX15_unpack_51 : decode cX15_unpack 51 = .ok (.aload_n 3, 1) := dk_45 (dk_at dksX15_unpack_2 3 rfl rfl)
theorem dX15_unpack_52 : decode cX15_unpack 52 = .ok (.ifnull 26, 3) := dk_198 0 26 (dk_at dksX15_unpack_2 4 rfl rfl)
theorem dX15_unpack_55 : decode cX15_unpack 55 = .ok (.aload_n 3, 1) := dk_45 (dk_at dksX15_unpack_2 7 rfl rfl)
theorem dX15_unpack_56 : decode cX15_unpack 56 = .ok (.aload_n 0, 1) := dk_42 (dk_at dksX15_unpack_2 8 rfl rfl)
theorem dX15_unpack_57 : decode cX15_unpack 57 = .ok (.getfield 19, 3) := dk_180 0 19 (dk_at dksX15_unpack_2 9 rfl rfl)
theorem dX15_unpack_60 : decode cX15_unpack 60 = .ok (.aload_n 1, 1) := dk_43 (dk_at dksX15_unpack_2 12 rfl rfl)
theorem dX15_unpack_61 : decode cX15_unpack 61 = .ok (.invokevirtual 105, 3) := dk_182 0 105 (dk_at dksX15_unpack_2 13 rfl rfl)
theorem dX15_unpack_64 : decode cX15_unpack 64 = .ok (.invokestatic 61, 3) := dk_184 0 61 (dk_at dksX15_unpack_2 16 rfl rfl)
theorem dX15_unpack_67 : decode cX15_unpack 67 = .ok (.ifCond .ne 5, 3) := dk_154 0 5 (dk_at dksX15_unpack_2 19 rfl rfl)
theorem dX15_unpack_70 : decode cX15_unpack 70 = .ok (.aconst_null, 1) := dk_1 (dk_at dksX15_unpack_2 22 rfl rfl)
theorem dX15_unpack_71 : decode cX15_unpack 71 = .ok (.areturn, 1) := dk_176 (dk_at dksX15_unpack_2 23 rfl rfl)
theorem dX15_unpack_72 : decode cX15_unpack 72 = .ok (.iinc 4 1, 3) := dk_132 4 1 (dk_at dksX15_unpack_3 0 rfl rfl)
theorem dX15_unpack_75 : decode cX15_unpack 75 = .ok (.goto (-30), 3) := dk_167 255 226 (dk_at dksX15_unpack_3 3 rfl rfl)
theorem dX15_unpack_78 : decode cX15_unpack 78 = .ok (.aload_n 3, 1) := dk_45 (dk_at dksX15_unpack_3 6 rfl rfl)
theorem dX15_unpack_79 : decode cX15_unpack 79 = .ok (.areturn, 1) := dk_176 (dk_at dksX15_unpack_3 7 rfl rfl)
abbrev cX15_add : ByteArray := prog_9_method_4_code
def yX15_add : MethodName := ⟨RX15, "add", "(LNotationDesk$Part;LNotationDesk$Part;)Z"⟩
def dkwX15_add_1 : List UInt8 := [181, 0, 27, 4, 172]
abbrev dktX15_add_1 : List UInt8 := dkwX15_add_1 ++ []
def dkwX15_add_0 : List UInt8 := [43, 199, 0, 5, 3, 172, 42, 43, 42, 180, 0, 27, 182, 0, 33, 42, 89, 180, 0, 27, 4, 96]
abbrev dktX15_add_0 : List UInt8 := dkwX15_add_0 ++ dktX15_add_1
theorem dksX15_add_0 : cX15_add.data.toList.drop 0 = dktX15_add_0 := by decide +kernel
theorem dksX15_add_1 : cX15_add.data.toList.drop 22 = dktX15_add_1 := dk_seg dksX15_add_0 22 rfl rfl
theorem dX15_add_0 : decode cX15_add 0 = .ok (.aload_n 1, 1) := dk_43 (dk_at dksX15_add_0 0 rfl rfl)
theorem dX15_add_1 : decode cX15_add 1 = .ok (.ifnonnull 5, 3) := dk_199 0 5 (dk_at dksX15_add_0 1 rfl rfl)
theorem dX15_add_4 : decode cX15_add 4 = .ok (.iconst 0, 1) := dk_3 (dk_at dksX15_add_0 4 rfl rfl)
theorem dX15_add_5 : decode cX15_add 5 = .ok (.ireturn, 1) := dk_172 (dk_at dksX15_add_0 5 rfl rfl)
theorem dX15_add_6 : decode cX15_add 6 = .ok (.aload_n 0, 1) := dk_42 (dk_at dksX15_add_0 6 rfl rfl)
theorem dX15_add_7 : decode cX15_add 7 = .ok (.aload_n 1, 1) := dk_43 (dk_at dksX15_add_0 7 rfl rfl)
theorem dX15_add_8 : decode cX15_add 8 = .ok (.aload_n 0, 1) := dk_42 (dk_at dksX15_add_0 8 rfl rfl)
theorem dX15_add_9 : decode cX15_add 9 = .ok (.getfield 27, 3) := dk_180 0 27 (dk_at dksX15_add_0 9 rfl rfl)
theorem dX15_add_12 : decode cX15_add 12 = .ok (.invokevirtual 33, 3) := dk_182 0 33 (dk_at dksX15_add_0 12 rfl rfl)
theorem dX15_add_15 : decode cX15_add 15 = .ok (.aload_n 0, 1) := dk_42 (dk_at dksX15_add_0 15 rfl rfl)
theorem dX15_add_16 : decode cX15_add 16 = .ok (.dup, 1) := dk_89 (dk_at dksX15_add_0 16 rfl rfl)
theorem dX15_add_17 : decode cX15_add 17 = .ok (.getfield 27, 3) := dk_180 0 27 (dk_at dksX15_add_0 17 rfl rfl)
theorem dX15_add_20 : decode cX15_add 20 = .ok (.iconst 1, 1) := dk_4 (dk_at dksX15_add_0 20 rfl rfl)
theorem dX15_add_21 : decode cX15_add 21 = .ok (.iadd, 1) := dk_96 (dk_at dksX15_add_0 21 rfl rfl)
theorem dX15_add_22 : decode cX15_add 22 = .ok (.putfield 27, 3) := dk_181 0 27 (dk_at dksX15_add_1 0 rfl rfl)
theorem dX15_add_25 : decode cX15_add 25 = .ok (.iconst 1, 1) := dk_4 (dk_at dksX15_add_1 3 rfl rfl)
theorem dX15_add_26 : decode cX15_add 26 = .ok (.ireturn, 1) := dk_172 (dk_at dksX15_add_1 4 rfl rfl)
abbrev cX15_read : ByteArray := prog_9_method_5_code
def yX15_read : MethodName := ⟨RX15, "read", "(LNotationDesk$Source;I)LNotationDesk$Part;"⟩
def dkwX15_read_4 : List UInt8 := [1, 176]
abbrev dktX15_read_4 : List UInt8 := dkwX15_read_4 ++ []
def dkwX15_read_3 : List UInt8 := [182, 0, 64, 153, 0, 21, 42, 180, 0, 12, 45, 180, 0, 27, 182, 0, 67, 153, 0, 7, 45, 167, 0, 4]
abbrev dktX15_read_3 : List UInt8 := dkwX15_read_3 ++ dktX15_read_4
def dkwX15_read_2 : List UInt8 := [154, 0, 21, 45, 42, 180, 0, 19, 43, 2, 182, 0, 57, 184, 0, 61, 154, 255, 236, 1, 176, 43]
abbrev dktX15_read_2 : List UInt8 := dkwX15_read_2 ++ dktX15_read_3
def dkwX15_read_1 : List UInt8 := [180, 0, 43, 16, 7, 3, 182, 0, 47, 167, 0, 4, 1, 78, 45, 199, 0, 5, 1, 176, 43, 182, 0, 53]
abbrev dktX15_read_1 : List UInt8 := dkwX15_read_1 ++ dktX15_read_2
def dkwX15_read_0 : List UInt8 := [43, 28, 2, 160, 0, 8, 16, 48, 167, 0, 8, 17, 0, 160, 28, 96, 182, 0, 37, 153, 0, 16, 43]
abbrev dktX15_read_0 : List UInt8 := dkwX15_read_0 ++ dktX15_read_1
theorem dksX15_read_0 : cX15_read.data.toList.drop 0 = dktX15_read_0 := by decide +kernel
theorem dksX15_read_1 : cX15_read.data.toList.drop 23 = dktX15_read_1 := dk_seg dksX15_read_0 23 rfl rfl
theorem dksX15_read_2 : cX15_read.data.toList.drop 47 = dktX15_read_2 := dk_seg dksX15_read_1 24 rfl rfl
theorem dksX15_read_3 : cX15_read.data.toList.drop 69 = dktX15_read_3 := dk_seg dksX15_read_2 22 rfl rfl
theorem dksX15_read_4 : cX15_read.data.toList.drop 93 = dktX15_read_4 := dk_seg dksX15_read_3 24 rfl rfl
theorem dX15_read_0 : decode cX15_read 0 = .ok (.aload_n 1, 1) := dk_43 (dk_at dksX15_read_0 0 rfl rfl)
theorem dX15_read_1 : decode cX15_read 1 = .ok (.iload_n 2, 1) := dk_28 (dk_at dksX15_read_0 1 rfl rfl)
theorem dX15_read_2 : decode cX15_read 2 = .ok (.iconst (-1), 1) := dk_2 (dk_at dksX15_read_0 2 rfl rfl)
theorem dX15_read_3 : decode cX15_read 3 = .ok (.if_icmp .ne 8, 3) := dk_160 0 8 (dk_at dksX15_read_0 3 rfl rfl)
theorem dX15_read_6 : decode cX15_read 6 = .ok (.bipush 48, 2) := dk_16 48 (dk_at dksX15_read_0 6 rfl rfl)
theorem dX15_read_8 : decode cX15_read 8 = .ok (.goto 8, 3) := dk_167 0 8 (dk_at dksX15_read_0 8 rfl rfl)
theorem dX15_read_11 : decode cX15_read 11 = .ok (.sipush 160, 3) := dk_17 0 160 (dk_at dksX15_read_0 11 rfl rfl)
theorem dX15_read_14 : decode cX15_read 14 = .ok (.iload_n 2, 1) := dk_28 (dk_at dksX15_read_0 14 rfl rfl)
theorem dX15_read_15 : decode cX15_read 15 = .ok (.iadd, 1) := dk_96 (dk_at dksX15_read_0 15 rfl rfl)
theorem dX15_read_16 : decode cX15_read 16 = .ok (.invokevirtual 37, 3) := dk_182 0 37 (dk_at dksX15_read_0 16 rfl rfl)
theorem dX15_read_19 : decode cX15_read 19 = .ok (.ifCond .eq 16, 3) := dk_153 0 16 (dk_at dksX15_read_0 19 rfl rfl)
theorem dX15_read_22 : decode cX15_read 22 = .ok (.aload_n 1, 1) := dk_43 (dk_at dksX15_read_0 22 rfl rfl)
theorem dX15_read_23 : decode cX15_read 23 = .ok (.getfield 43, 3) := dk_180 0 43 (dk_at dksX15_read_1 0 rfl rfl)
theorem dX15_read_26 : decode cX15_read 26 = .ok (.bipush 7, 2) := dk_16 7 (dk_at dksX15_read_1 3 rfl rfl)
theorem dX15_read_28 : decode cX15_read 28 = .ok (.iconst 0, 1) := dk_3 (dk_at dksX15_read_1 5 rfl rfl)
theorem dX15_read_29 : decode cX15_read 29 = .ok (.invokevirtual 47, 3) := dk_182 0 47 (dk_at dksX15_read_1 6 rfl rfl)
theorem dX15_read_32 : decode cX15_read 32 = .ok (.goto 4, 3) := dk_167 0 4 (dk_at dksX15_read_1 9 rfl rfl)
theorem dX15_read_35 : decode cX15_read 35 = .ok (.aconst_null, 1) := dk_1 (dk_at dksX15_read_1 12 rfl rfl)
theorem dX15_read_36 : decode cX15_read 36 = .ok (.astore_n 3, 1) := dk_78 (dk_at dksX15_read_1 13 rfl rfl)
theorem dX15_read_37 : decode cX15_read 37 = .ok (.aload_n 3, 1) := dk_45 (dk_at dksX15_read_1 14 rfl rfl)
theorem dX15_read_38 : decode cX15_read 38 = .ok (.ifnonnull 5, 3) := dk_199 0 5 (dk_at dksX15_read_1 15 rfl rfl)
theorem dX15_read_41 : decode cX15_read 41 = .ok (.aconst_null, 1) := dk_1 (dk_at dksX15_read_1 18 rfl rfl)
theorem dX15_read_42 : decode cX15_read 42 = .ok (.areturn, 1) := dk_176 (dk_at dksX15_read_1 19 rfl rfl)
theorem dX15_read_43 : decode cX15_read 43 = .ok (.aload_n 1, 1) := dk_43 (dk_at dksX15_read_1 20 rfl rfl)
theorem dX15_read_44 : decode cX15_read 44 = .ok (.invokevirtual 53, 3) := dk_182 0 53 (dk_at dksX15_read_1 21 rfl rfl)
theorem dX15_read_47 : decode cX15_read 47 = .ok (.ifCond .ne 21, 3) := dk_154 0 21 (dk_at dksX15_read_2 0 rfl rfl)
theorem dX15_read_50 : decode cX15_read 50 = .ok (.aload_n 3, 1) := dk_45 (dk_at dksX15_read_2 3 rfl rfl)
theorem dX15_read_51 : decode cX15_read 51 = .ok (.aload_n 0, 1) := dk_42 (dk_at dksX15_read_2 4 rfl rfl)
theorem dX15_read_52 : decode cX15_read 52 = .ok (.getfield 19, 3) := dk_180 0 19 (dk_at dksX15_read_2 5 rfl rfl)
theorem dX15_read_55 : decode cX15_read 55 = .ok (.aload_n 1, 1) := dk_43 (dk_at dksX15_read_2 8 rfl rfl)
theorem dX15_read_56 : decode cX15_read 56 = .ok (.iconst (-1), 1) := dk_2 (dk_at dksX15_read_2 9 rfl rfl)
theorem dX15_read_57 : decode cX15_read 57 = .ok (.invokevirtual 57, 3) := dk_182 0 57 (dk_at dksX15_read_2 10 rfl rfl)
theorem dX15_read_60 : decode cX15_read 60 = .ok (.invokestatic 61, 3) := dk_184 0 61 (dk_at dksX15_read_2 13 rfl rfl)
theorem dX15_read_63 : decode cX15_read 63 = .ok (.ifCond .ne (-20), 3) := dk_154 255 236 (dk_at dksX15_read_2 16 rfl rfl)
theorem dX15_read_66 : decode cX15_read 66 = .ok (.aconst_null, 1) := dk_1 (dk_at dksX15_read_2 19 rfl rfl)
theorem dX15_read_67 : decode cX15_read 67 = .ok (.areturn, 1) := dk_176 (dk_at dksX15_read_2 20 rfl rfl)
theorem dX15_read_68 : decode cX15_read 68 = .ok (.aload_n 1, 1) := dk_43 (dk_at dksX15_read_2 21 rfl rfl)
theorem dX15_read_69 : decode cX15_read 69 = .ok (.invokevirtual 64, 3) := dk_182 0 64 (dk_at dksX15_read_3 0 rfl rfl)
theorem dX15_read_72 : decode cX15_read 72 = .ok (.ifCond .eq 21, 3) := dk_153 0 21 (dk_at dksX15_read_3 3 rfl rfl)
theorem dX15_read_75 : decode cX15_read 75 = .ok (.aload_n 0, 1) := dk_42 (dk_at dksX15_read_3 6 rfl rfl)
theorem dX15_read_76 : decode cX15_read 76 = .ok (.getfield 12, 3) := dk_180 0 12 (dk_at dksX15_read_3 7 rfl rfl)
theorem dX15_read_79 : decode cX15_read 79 = .ok (.aload_n 3, 1) := dk_45 (dk_at dksX15_read_3 10 rfl rfl)
theorem dX15_read_80 : decode cX15_read 80 = .ok (.getfield 27, 3) := dk_180 0 27 (dk_at dksX15_read_3 11 rfl rfl)
theorem dX15_read_83 : decode cX15_read 83 = .ok (.invokevirtual 67, 3) := dk_182 0 67 (dk_at dksX15_read_3 14 rfl rfl)
theorem dX15_read_86 : decode cX15_read 86 = .ok (.ifCond .eq 7, 3) := dk_153 0 7 (dk_at dksX15_read_3 17 rfl rfl)
theorem dX15_read_89 : decode cX15_read 89 = .ok (.aload_n 3, 1) := dk_45 (dk_at dksX15_read_3 20 rfl rfl)
theorem dX15_read_90 : decode cX15_read 90 = .ok (.goto 4, 3) := dk_167 0 4 (dk_at dksX15_read_3 21 rfl rfl)
theorem dX15_read_93 : decode cX15_read 93 = .ok (.aconst_null, 1) := dk_1 (dk_at dksX15_read_4 0 rfl rfl)
theorem dX15_read_94 : decode cX15_read 94 = .ok (.areturn, 1) := dk_176 (dk_at dksX15_read_4 1 rfl rfl)
abbrev cX15_size : ByteArray := prog_9_method_7_code
def yX15_size : MethodName := ⟨RX15, "size", "(LNotationDesk$Part;)I"⟩
def dkwX15_size_0 : List UInt8 := [42, 43, 182, 0, 81, 184, 0, 84, 172]
abbrev dktX15_size_0 : List UInt8 := dkwX15_size_0 ++ []
theorem dksX15_size_0 : cX15_size.data.toList.drop 0 = dktX15_size_0 := by decide +kernel
theorem dX15_size_0 : decode cX15_size 0 = .ok (.aload_n 0, 1) := dk_42 (dk_at dksX15_size_0 0 rfl rfl)
theorem dX15_size_1 : decode cX15_size 1 = .ok (.aload_n 1, 1) := dk_43 (dk_at dksX15_size_0 1 rfl rfl)
theorem dX15_size_2 : decode cX15_size 2 = .ok (.invokevirtual 81, 3) := dk_182 0 81 (dk_at dksX15_size_0 2 rfl rfl)
theorem dX15_size_5 : decode cX15_size 5 = .ok (.invokestatic 84, 3) := dk_184 0 84 (dk_at dksX15_size_0 5 rfl rfl)
theorem dX15_size_8 : decode cX15_size 8 = .ok (.ireturn, 1) := dk_172 (dk_at dksX15_size_0 8 rfl rfl)
abbrev cX15_content : ByteArray := prog_9_method_6_code
def yX15_content : MethodName := ⟨RX15, "content", "(LNotationDesk$Part;)I"⟩
def dkwX15_content_1 : List UInt8 := [180, 0, 78, 78, 167, 255, 236, 28, 172]
abbrev dktX15_content_1 : List UInt8 := dkwX15_content_1 ++ []
def dkwX15_content_0 : List UInt8 := [3, 61, 43, 180, 0, 70, 78, 45, 198, 0, 22, 28, 42, 180, 0, 19, 45, 182, 0, 74, 96, 61, 45]
abbrev dktX15_content_0 : List UInt8 := dkwX15_content_0 ++ dktX15_content_1
theorem dksX15_content_0 : cX15_content.data.toList.drop 0 = dktX15_content_0 := by decide +kernel
theorem dksX15_content_1 : cX15_content.data.toList.drop 23 = dktX15_content_1 := dk_seg dksX15_content_0 23 rfl rfl
theorem dX15_content_0 : decode cX15_content 0 = .ok (.iconst 0, 1) := dk_3 (dk_at dksX15_content_0 0 rfl rfl)
theorem dX15_content_1 : decode cX15_content 1 = .ok (.istore_n 2, 1) := dk_61 (dk_at dksX15_content_0 1 rfl rfl)
theorem dX15_content_2 : decode cX15_content 2 = .ok (.aload_n 1, 1) := dk_43 (dk_at dksX15_content_0 2 rfl rfl)
theorem dX15_content_3 : decode cX15_content 3 = .ok (.getfield 70, 3) := dk_180 0 70 (dk_at dksX15_content_0 3 rfl rfl)
theorem dX15_content_6 : decode cX15_content 6 = .ok (.astore_n 3, 1) := dk_78 (dk_at dksX15_content_0 6 rfl rfl)
theorem dX15_content_7 : decode cX15_content 7 = .ok (.aload_n 3, 1) := dk_45 (dk_at dksX15_content_0 7 rfl rfl)
theorem dX15_content_8 : decode cX15_content 8 = .ok (.ifnull 22, 3) := dk_198 0 22 (dk_at dksX15_content_0 8 rfl rfl)
theorem dX15_content_11 : decode cX15_content 11 = .ok (.iload_n 2, 1) := dk_28 (dk_at dksX15_content_0 11 rfl rfl)
theorem dX15_content_12 : decode cX15_content 12 = .ok (.aload_n 0, 1) := dk_42 (dk_at dksX15_content_0 12 rfl rfl)
theorem dX15_content_13 : decode cX15_content 13 = .ok (.getfield 19, 3) := dk_180 0 19 (dk_at dksX15_content_0 13 rfl rfl)
theorem dX15_content_16 : decode cX15_content 16 = .ok (.aload_n 3, 1) := dk_45 (dk_at dksX15_content_0 16 rfl rfl)
theorem dX15_content_17 : decode cX15_content 17 = .ok (.invokevirtual 74, 3) := dk_182 0 74 (dk_at dksX15_content_0 17 rfl rfl)
theorem dX15_content_20 : decode cX15_content 20 = .ok (.iadd, 1) := dk_96 (dk_at dksX15_content_0 20 rfl rfl)
theorem dX15_content_21 : decode cX15_content 21 = .ok (.istore_n 2, 1) := dk_61 (dk_at dksX15_content_0 21 rfl rfl)
theorem dX15_content_22 : decode cX15_content 22 = .ok (.aload_n 3, 1) := dk_45 (dk_at dksX15_content_0 22 rfl rfl)
theorem dX15_content_23 : decode cX15_content 23 = .ok (.getfield 78, 3) := dk_180 0 78 (dk_at dksX15_content_1 0 rfl rfl)
theorem dX15_content_26 : decode cX15_content 26 = .ok (.astore_n 3, 1) := dk_78 (dk_at dksX15_content_1 3 rfl rfl)
theorem dX15_content_27 : decode cX15_content 27 = .ok (.goto (-20), 3) := dk_167 255 236 (dk_at dksX15_content_1 4 rfl rfl)
theorem dX15_content_30 : decode cX15_content 30 = .ok (.iload_n 2, 1) := dk_28 (dk_at dksX15_content_1 7 rfl rfl)
theorem dX15_content_31 : decode cX15_content 31 = .ok (.ireturn, 1) := dk_172 (dk_at dksX15_content_1 8 rfl rfl)
abbrev cX15_write : ByteArray := prog_9_method_8_code
def yX15_write : MethodName := ⟨RX15, "write", "(LNotationDesk$Part;LNotationDesk$Writer;I)V"⟩
def dkwX15_write_2 : List UInt8 := [180, 0, 78, 58, 4, 167, 255, 233, 177]
abbrev dktX15_write_2 : List UInt8 := dkwX15_write_2 ++ []
def dkwX15_write_1 : List UInt8 := [43, 180, 0, 70, 58, 4, 25, 4, 198, 0, 24, 42, 180, 0, 19, 25, 4, 44, 2, 182, 0, 94, 25, 4]
abbrev dktX15_write_1 : List UInt8 := dkwX15_write_1 ++ dktX15_write_2
def dkwX15_write_0 : List UInt8 := [44, 29, 2, 160, 0, 8, 16, 48, 167, 0, 8, 17, 0, 160, 29, 96, 42, 43, 182, 0, 81, 182, 0, 88]
abbrev dktX15_write_0 : List UInt8 := dkwX15_write_0 ++ dktX15_write_1
theorem dksX15_write_0 : cX15_write.data.toList.drop 0 = dktX15_write_0 := by decide +kernel
theorem dksX15_write_1 : cX15_write.data.toList.drop 24 = dktX15_write_1 := dk_seg dksX15_write_0 24 rfl rfl
theorem dksX15_write_2 : cX15_write.data.toList.drop 48 = dktX15_write_2 := dk_seg dksX15_write_1 24 rfl rfl
theorem dX15_write_0 : decode cX15_write 0 = .ok (.aload_n 2, 1) := dk_44 (dk_at dksX15_write_0 0 rfl rfl)
theorem dX15_write_1 : decode cX15_write 1 = .ok (.iload_n 3, 1) := dk_29 (dk_at dksX15_write_0 1 rfl rfl)
theorem dX15_write_2 : decode cX15_write 2 = .ok (.iconst (-1), 1) := dk_2 (dk_at dksX15_write_0 2 rfl rfl)
theorem dX15_write_3 : decode cX15_write 3 = .ok (.if_icmp .ne 8, 3) := dk_160 0 8 (dk_at dksX15_write_0 3 rfl rfl)
theorem dX15_write_6 : decode cX15_write 6 = .ok (.bipush 48, 2) := dk_16 48 (dk_at dksX15_write_0 6 rfl rfl)
theorem dX15_write_8 : decode cX15_write 8 = .ok (.goto 8, 3) := dk_167 0 8 (dk_at dksX15_write_0 8 rfl rfl)
theorem dX15_write_11 : decode cX15_write 11 = .ok (.sipush 160, 3) := dk_17 0 160 (dk_at dksX15_write_0 11 rfl rfl)
theorem dX15_write_14 : decode cX15_write 14 = .ok (.iload_n 3, 1) := dk_29 (dk_at dksX15_write_0 14 rfl rfl)
theorem dX15_write_15 : decode cX15_write 15 = .ok (.iadd, 1) := dk_96 (dk_at dksX15_write_0 15 rfl rfl)
theorem dX15_write_16 : decode cX15_write 16 = .ok (.aload_n 0, 1) := dk_42 (dk_at dksX15_write_0 16 rfl rfl)
theorem dX15_write_17 : decode cX15_write 17 = .ok (.aload_n 1, 1) := dk_43 (dk_at dksX15_write_0 17 rfl rfl)
theorem dX15_write_18 : decode cX15_write 18 = .ok (.invokevirtual 81, 3) := dk_182 0 81 (dk_at dksX15_write_0 18 rfl rfl)
theorem dX15_write_21 : decode cX15_write 21 = .ok (.invokevirtual 88, 3) := dk_182 0 88 (dk_at dksX15_write_0 21 rfl rfl)
theorem dX15_write_24 : decode cX15_write 24 = .ok (.aload_n 1, 1) := dk_43 (dk_at dksX15_write_1 0 rfl rfl)
theorem dX15_write_25 : decode cX15_write 25 = .ok (.getfield 70, 3) := dk_180 0 70 (dk_at dksX15_write_1 1 rfl rfl)
theorem dX15_write_28 : decode cX15_write 28 = .ok (.astore 4, 2) := dk_58 4 (dk_at dksX15_write_1 4 rfl rfl)
theorem dX15_write_30 : decode cX15_write 30 = .ok (.aload 4, 2) := dk_25 4 (dk_at dksX15_write_1 6 rfl rfl)
theorem dX15_write_32 : decode cX15_write 32 = .ok (.ifnull 24, 3) := dk_198 0 24 (dk_at dksX15_write_1 8 rfl rfl)
theorem dX15_write_35 : decode cX15_write 35 = .ok (.aload_n 0, 1) := dk_42 (dk_at dksX15_write_1 11 rfl rfl)
theorem dX15_write_36 : decode cX15_write 36 = .ok (.getfield 19, 3) := dk_180 0 19 (dk_at dksX15_write_1 12 rfl rfl)
theorem dX15_write_39 : decode cX15_write 39 = .ok (.aload 4, 2) := dk_25 4 (dk_at dksX15_write_1 15 rfl rfl)
theorem dX15_write_41 : decode cX15_write 41 = .ok (.aload_n 2, 1) := dk_44 (dk_at dksX15_write_1 17 rfl rfl)
theorem dX15_write_42 : decode cX15_write 42 = .ok (.iconst (-1), 1) := dk_2 (dk_at dksX15_write_1 18 rfl rfl)
theorem dX15_write_43 : decode cX15_write 43 = .ok (.invokevirtual 94, 3) := dk_182 0 94 (dk_at dksX15_write_1 19 rfl rfl)
theorem dX15_write_46 : decode cX15_write 46 = .ok (.aload 4, 2) := dk_25 4 (dk_at dksX15_write_1 22 rfl rfl)
theorem dX15_write_48 : decode cX15_write 48 = .ok (.getfield 78, 3) := dk_180 0 78 (dk_at dksX15_write_2 0 rfl rfl)
theorem dX15_write_51 : decode cX15_write 51 = .ok (.astore 4, 2) := dk_58 4 (dk_at dksX15_write_2 3 rfl rfl)
theorem dX15_write_53 : decode cX15_write 53 = .ok (.goto (-23), 3) := dk_167 255 233 (dk_at dksX15_write_2 5 rfl rfl)
theorem dX15_write_56 : decode cX15_write 56 = .ok (.return_, 1) := dk_177 (dk_at dksX15_write_2 8 rfl rfl)
abbrev cX15_pack : ByteArray := prog_9_method_10_code
def yX15_pack : MethodName := ⟨RX15, "pack", "(LNotationDesk$Part;LNotationDesk$Writer;)V"⟩
def dkwX15_pack_1 : List UInt8 := [180, 0, 19, 45, 44, 182, 0, 112, 45, 180, 0, 78, 78, 167, 255, 238, 177]
abbrev dktX15_pack_1 : List UInt8 := dkwX15_pack_1 ++ []
def dkwX15_pack_0 : List UInt8 := [42, 180, 0, 12, 43, 180, 0, 27, 44, 182, 0, 108, 43, 180, 0, 70, 78, 45, 198, 0, 20, 42]
abbrev dktX15_pack_0 : List UInt8 := dkwX15_pack_0 ++ dktX15_pack_1
theorem dksX15_pack_0 : cX15_pack.data.toList.drop 0 = dktX15_pack_0 := by decide +kernel
theorem dksX15_pack_1 : cX15_pack.data.toList.drop 22 = dktX15_pack_1 := dk_seg dksX15_pack_0 22 rfl rfl
theorem dX15_pack_0 : decode cX15_pack 0 = .ok (.aload_n 0, 1) := dk_42 (dk_at dksX15_pack_0 0 rfl rfl)
theorem dX15_pack_1 : decode cX15_pack 1 = .ok (.getfield 12, 3) := dk_180 0 12 (dk_at dksX15_pack_0 1 rfl rfl)
theorem dX15_pack_4 : decode cX15_pack 4 = .ok (.aload_n 1, 1) := dk_43 (dk_at dksX15_pack_0 4 rfl rfl)
theorem dX15_pack_5 : decode cX15_pack 5 = .ok (.getfield 27, 3) := dk_180 0 27 (dk_at dksX15_pack_0 5 rfl rfl)
theorem dX15_pack_8 : decode cX15_pack 8 = .ok (.aload_n 2, 1) := dk_44 (dk_at dksX15_pack_0 8 rfl rfl)
theorem dX15_pack_9 : decode cX15_pack 9 = .ok (.invokevirtual 108, 3) := dk_182 0 108 (dk_at dksX15_pack_0 9 rfl rfl)
theorem dX15_pack_12 : decode cX15_pack 12 = .ok (.aload_n 1, 1) := dk_43 (dk_at dksX15_pack_0 12 rfl rfl)
theorem dX15_pack_13 : decode cX15_pack 13 = .ok (.getfield 70, 3) := dk_180 0 70 (dk_at dksX15_pack_0 13 rfl rfl)
theorem dX15_pack_16 : decode cX15_pack 16 = .ok (.astore_n 3, 1) := dk_78 (dk_at dksX15_pack_0 16 rfl rfl)
theorem dX15_pack_17 : decode cX15_pack 17 = .ok (.aload_n 3, 1) := dk_45 (dk_at dksX15_pack_0 17 rfl rfl)
theorem dX15_pack_18 : decode cX15_pack 18 = .ok (.ifnull 20, 3) := dk_198 0 20 (dk_at dksX15_pack_0 18 rfl rfl)
theorem dX15_pack_21 : decode cX15_pack 21 = .ok (.aload_n 0, 1) := dk_42 (dk_at dksX15_pack_0 21 rfl rfl)
theorem dX15_pack_22 : decode cX15_pack 22 = .ok (.getfield 19, 3) := dk_180 0 19 (dk_at dksX15_pack_1 0 rfl rfl)
theorem dX15_pack_25 : decode cX15_pack 25 = .ok (.aload_n 3, 1) := dk_45 (dk_at dksX15_pack_1 3 rfl rfl)
theorem dX15_pack_26 : decode cX15_pack 26 = .ok (.aload_n 2, 1) := dk_44 (dk_at dksX15_pack_1 4 rfl rfl)
theorem dX15_pack_27 : decode cX15_pack 27 = .ok (.invokevirtual 112, 3) := dk_182 0 112 (dk_at dksX15_pack_1 5 rfl rfl)
theorem dX15_pack_30 : decode cX15_pack 30 = .ok (.aload_n 3, 1) := dk_45 (dk_at dksX15_pack_1 8 rfl rfl)
theorem dX15_pack_31 : decode cX15_pack 31 = .ok (.getfield 78, 3) := dk_180 0 78 (dk_at dksX15_pack_1 9 rfl rfl)
theorem dX15_pack_34 : decode cX15_pack 34 = .ok (.astore_n 3, 1) := dk_78 (dk_at dksX15_pack_1 12 rfl rfl)
theorem dX15_pack_35 : decode cX15_pack 35 = .ok (.goto (-18), 3) := dk_167 255 238 (dk_at dksX15_pack_1 13 rfl rfl)
theorem dX15_pack_38 : decode cX15_pack 38 = .ok (.return_, 1) := dk_177 (dk_at dksX15_pack_1 16 rfl rfl)
theorem q100 : (Jvm.Cond.initialized "NotationDesk$Series") ∈ lw_all := lw_g (lw_at lw_m1 15 rfl) rfl
theorem q240 : (Jvm.Cond.fieldLinkNest "NotationDesk$Series" (43 : Nat) "NotationDesk$Source" "store" "LNotationDesk$Store;" "NotationDesk") ∈ lw_tbl := lw_at lw_m1 155 rfl
theorem q395 : (Jvm.Cond.instanceMethod ({ cls := "NotationDesk$Series", name := "height", desc := "()I" } : Jvm.MethodName)) ∈ lw_all := lw_g (lw_at lw_m2 70 rfl) rfl
theorem q396 : (Jvm.Cond.code ({ cls := "NotationDesk$Series", name := "height", desc := "()I" } : Jvm.MethodName) prog_9_method_3_code (1 : Nat) (Option.some Jvm.ClassFile.FieldType.int)) ∈ lw_all := lw_g (lw_at lw_m2 71 rfl) rfl
theorem q397 : (Jvm.Cond.methodLink "NotationDesk$Series" (23 : Nat) ({ cls := "NotationDesk$Type", name := "height", desc := "()I" } : Jvm.MethodName)) ∈ lw_all := lw_g (lw_at lw_m2 72 rfl) rfl
theorem q404 : (Jvm.Cond.selects "NotationDesk$Series" ({ cls := "NotationDesk$Type", name := "height", desc := "()I" } : Jvm.MethodName) ({ cls := "NotationDesk$Series", name := "height", desc := "()I" } : Jvm.MethodName)) ∈ lw_all := lw_g (lw_at lw_m2 79 rfl) rfl
theorem q520 : (Jvm.Cond.selects "NotationDesk$Series" ({ cls := "NotationDesk$Type", name := "holds", desc := "(I)Z" } : Jvm.MethodName) ({ cls := "NotationDesk$Type", name := "holds", desc := "(I)Z" } : Jvm.MethodName)) ∈ lw_all := lw_g (lw_at lw_m2 195 rfl) rfl
theorem q552 : (Jvm.Cond.instanceMethod ({ cls := "NotationDesk$Series", name := "tags", desc := "()I" } : Jvm.MethodName)) ∈ lw_all := lw_g (lw_at lw_m2 227 rfl) rfl
theorem q553 : (Jvm.Cond.code ({ cls := "NotationDesk$Series", name := "tags", desc := "()I" } : Jvm.MethodName) prog_9_method_2_code (1 : Nat) (Option.some Jvm.ClassFile.FieldType.int)) ∈ lw_all := lw_g (lw_at lw_m2 228 rfl) rfl
theorem q554 : (Jvm.Cond.constant "NotationDesk$Series" (18 : Nat) (65536 : Int32)) ∈ lw_all := lw_g (lw_at lw_m2 229 rfl) rfl
theorem q560 : (Jvm.Cond.selects "NotationDesk$Series" ({ cls := "NotationDesk$Type", name := "tags", desc := "()I" } : Jvm.MethodName) ({ cls := "NotationDesk$Series", name := "tags", desc := "()I" } : Jvm.MethodName)) ∈ lw_all := lw_g (lw_at lw_m2 235 rfl) rfl
theorem q625 : (Jvm.Cond.instantiable "NotationDesk$Series" (2 : Nat)) ∈ lw_all := lw_g (lw_at lw_m3 60 rfl) rfl
theorem q627 : (Jvm.Cond.instanceMethod ({ cls := "NotationDesk$Series", name := "<init>", desc := "()V" } : Jvm.MethodName)) ∈ lw_all := lw_g (lw_at lw_m3 62 rfl) rfl
theorem q628 : (Jvm.Cond.code ({ cls := "NotationDesk$Series", name := "<init>", desc := "()V" } : Jvm.MethodName) prog_9_method_1_code (1 : Nat) (Option.none : Option Jvm.ClassFile.FieldType)) ∈ lw_all := lw_g (lw_at lw_m3 63 rfl) rfl
theorem q629 : (Jvm.Cond.methodLinkNest "NotationDesk$Series" (3 : Nat) ({ cls := "NotationDesk$Type", name := "<init>", desc := "()V" } : Jvm.MethodName) "NotationDesk") ∈ lw_tbl := lw_at lw_m3 64 rfl
theorem q630 : (Jvm.Cond.classLink "NotationDesk$Series" (9 : Nat) "NotationDesk$Size") ∈ lw_all := lw_g (lw_at lw_m3 65 rfl) rfl
theorem q631 : (Jvm.Cond.methodLinkNest "NotationDesk$Series" (11 : Nat) ({ cls := "NotationDesk$Size", name := "<init>", desc := "()V" } : Jvm.MethodName) "NotationDesk") ∈ lw_tbl := lw_at lw_m3 66 rfl
theorem q632 : (Jvm.Cond.fieldLink "NotationDesk$Series" (12 : Nat) "NotationDesk$Series" "many" "LNotationDesk$Size;") ∈ lw_all := lw_g (lw_at lw_m3 67 rfl) rfl
theorem q634 : (Jvm.Cond.fieldLink "NotationDesk$Series" (19 : Nat) "NotationDesk$Series" "item" "LNotationDesk$Type;") ∈ lw_all := lw_g (lw_at lw_m3 69 rfl) rfl
theorem q636 : (Jvm.Cond.laysFinal "NotationDesk$Series" "NotationDesk$Series" "many" "LNotationDesk$Size;") ∈ lw_all := lw_g (lw_at lw_m3 71 rfl) rfl
theorem q637 : (Jvm.Cond.soleField "NotationDesk$Series" "many") ∈ lw_all := lw_g (lw_at lw_m3 72 rfl) rfl
theorem q638 : (Jvm.Cond.lays "NotationDesk$Series" "NotationDesk$Series" "item" "LNotationDesk$Type;") ∈ lw_all := lw_g (lw_at lw_m3 73 rfl) rfl
theorem q639 : (Jvm.Cond.soleField "NotationDesk$Series" "item") ∈ lw_all := lw_g (lw_at lw_m3 74 rfl) rfl
theorem q640 : (Jvm.Cond.superclass "NotationDesk$Series" "NotationDesk$Type") ∈ lw_all := lw_g (lw_at lw_m3 75 rfl) rfl
theorem q669 : (Jvm.Cond.selects "NotationDesk$Series" ({ cls := "NotationDesk$Type", name := "isChoice", desc := "()Z" } : Jvm.MethodName) ({ cls := "NotationDesk$Type", name := "isChoice", desc := "()Z" } : Jvm.MethodName)) ∈ lw_all := lw_g (lw_at lw_m3 104 rfl) rfl
theorem q909 : (Jvm.Cond.fieldLinkNest "NotationDesk$Series" (27 : Nat) "NotationDesk$Part" "number" "I" "NotationDesk") ∈ lw_tbl := lw_at lw_m4 104 rfl
theorem q925 : (Jvm.Cond.fieldLinkNest "NotationDesk$Series" (70 : Nat) "NotationDesk$Part" "first" "LNotationDesk$Part;" "NotationDesk") ∈ lw_tbl := lw_at lw_m4 120 rfl
theorem q931 : (Jvm.Cond.fieldLinkNest "NotationDesk$Series" (78 : Nat) "NotationDesk$Part" "next" "LNotationDesk$Part;" "NotationDesk") ∈ lw_tbl := lw_at lw_m4 126 rfl
theorem q996 : (Jvm.Cond.instanceMethod ({ cls := "NotationDesk$Series", name := "unpack", desc := "(LNotationDesk$Source;)LNotationDesk$Part;" } : Jvm.MethodName)) ∈ lw_all := lw_g (lw_at lw_m4 191 rfl) rfl
theorem q997 : (Jvm.Cond.code ({ cls := "NotationDesk$Series", name := "unpack", desc := "(LNotationDesk$Source;)LNotationDesk$Part;" } : Jvm.MethodName) prog_9_method_9_code (5 : Nat) (Option.some (Jvm.ClassFile.FieldType.object "NotationDesk$Part"))) ∈ lw_all := lw_g (lw_at lw_m4 192 rfl) rfl
theorem q998 : (Jvm.Cond.methodLink "NotationDesk$Series" (98 : Nat) ({ cls := "NotationDesk$Size", name := "unpack", desc := "(LNotationDesk$Source;)I" } : Jvm.MethodName)) ∈ lw_all := lw_g (lw_at lw_m4 193 rfl) rfl
theorem q999 : (Jvm.Cond.methodLink "NotationDesk$Series" (102 : Nat) ({ cls := "NotationDesk$Source", name := "isThere", desc := "()Z" } : Jvm.MethodName)) ∈ lw_all := lw_g (lw_at lw_m4 194 rfl) rfl
theorem q1000 : (Jvm.Cond.methodLink "NotationDesk$Series" (67 : Nat) ({ cls := "NotationDesk$Size", name := "holds", desc := "(I)Z" } : Jvm.MethodName)) ∈ lw_all := lw_g (lw_at lw_m4 195 rfl) rfl
theorem q1001 : (Jvm.Cond.methodLink "NotationDesk$Series" (47 : Nat) ({ cls := "NotationDesk$Store", name := "make", desc := "(II)LNotationDesk$Part;" } : Jvm.MethodName)) ∈ lw_all := lw_g (lw_at lw_m4 196 rfl) rfl
theorem q1002 : (Jvm.Cond.methodLink "NotationDesk$Series" (105 : Nat) ({ cls := "NotationDesk$Type", name := "unpack", desc := "(LNotationDesk$Source;)LNotationDesk$Part;" } : Jvm.MethodName)) ∈ lw_all := lw_g (lw_at lw_m4 197 rfl) rfl
theorem q1006 : (Jvm.Cond.methodLink "NotationDesk$Series" (61 : Nat) ({ cls := "NotationDesk$Series", name := "add", desc := "(LNotationDesk$Part;LNotationDesk$Part;)Z" } : Jvm.MethodName)) ∈ lw_all := lw_g (lw_at lw_m4 201 rfl) rfl
theorem q1007 : (Jvm.Cond.static ({ cls := "NotationDesk$Series", name := "add", desc := "(LNotationDesk$Part;LNotationDesk$Part;)Z" } : Jvm.MethodName)) ∈ lw_all := lw_g (lw_at lw_m4 202 rfl) rfl
theorem q1008 : (Jvm.Cond.code ({ cls := "NotationDesk$Series", name := "add", desc := "(LNotationDesk$Part;LNotationDesk$Part;)Z" } : Jvm.MethodName) prog_9_method_4_code (2 : Nat) (Option.some Jvm.ClassFile.FieldType.boolean)) ∈ lw_all := lw_g (lw_at lw_m4 203 rfl) rfl
theorem q1009 : (Jvm.Cond.methodLink "NotationDesk$Series" (33 : Nat) ({ cls := "NotationDesk$Part", name := "add", desc := "(LNotationDesk$Part;I)V" } : Jvm.MethodName)) ∈ lw_all := lw_g (lw_at lw_m4 204 rfl) rfl
theorem q1024 : (Jvm.Cond.selects "NotationDesk$Series" ({ cls := "NotationDesk$Type", name := "given", desc := "(LNotationDesk$Store;I)LNotationDesk$Part;" } : Jvm.MethodName) ({ cls := "NotationDesk$Type", name := "given", desc := "(LNotationDesk$Store;I)LNotationDesk$Part;" } : Jvm.MethodName)) ∈ lw_all := lw_g (lw_at lw_m4 219 rfl) rfl
theorem q1038 : (Jvm.Cond.selects "NotationDesk$Series" ({ cls := "NotationDesk$Type", name := "unpack", desc := "(LNotationDesk$Source;)LNotationDesk$Part;" } : Jvm.MethodName) ({ cls := "NotationDesk$Series", name := "unpack", desc := "(LNotationDesk$Source;)LNotationDesk$Part;" } : Jvm.MethodName)) ∈ lw_all := lw_g (lw_at lw_m4 233 rfl) rfl
theorem q1082 : (Jvm.Cond.instanceMethod ({ cls := "NotationDesk$Series", name := "read", desc := "(LNotationDesk$Source;I)LNotationDesk$Part;" } : Jvm.MethodName)) ∈ lw_all := lw_g (lw_at lw_m5 37 rfl) rfl
theorem q1083 : (Jvm.Cond.code ({ cls := "NotationDesk$Series", name := "read", desc := "(LNotationDesk$Source;I)LNotationDesk$Part;" } : Jvm.MethodName) prog_9_method_5_code (4 : Nat) (Option.some (Jvm.ClassFile.FieldType.object "NotationDesk$Part"))) ∈ lw_all := lw_g (lw_at lw_m5 38 rfl) rfl
theorem q1084 : (Jvm.Cond.methodLink "NotationDesk$Series" (37 : Nat) ({ cls := "NotationDesk$Source", name := "enter", desc := "(I)Z" } : Jvm.MethodName)) ∈ lw_all := lw_g (lw_at lw_m5 39 rfl) rfl
theorem q1085 : (Jvm.Cond.methodLink "NotationDesk$Series" (53 : Nat) ({ cls := "NotationDesk$Source", name := "isAtEnd", desc := "()Z" } : Jvm.MethodName)) ∈ lw_all := lw_g (lw_at lw_m5 40 rfl) rfl
theorem q1089 : (Jvm.Cond.methodLink "NotationDesk$Series" (57 : Nat) ({ cls := "NotationDesk$Type", name := "read", desc := "(LNotationDesk$Source;I)LNotationDesk$Part;" } : Jvm.MethodName)) ∈ lw_all := lw_g (lw_at lw_m5 44 rfl) rfl
theorem q1098 : (Jvm.Cond.methodLink "NotationDesk$Series" (64 : Nat) ({ cls := "NotationDesk$Source", name := "leave", desc := "()Z" } : Jvm.MethodName)) ∈ lw_all := lw_g (lw_at lw_m5 53 rfl) rfl
theorem q1103 : (Jvm.Cond.selects "NotationDesk$Series" ({ cls := "NotationDesk$Type", name := "read", desc := "(LNotationDesk$Source;I)LNotationDesk$Part;" } : Jvm.MethodName) ({ cls := "NotationDesk$Series", name := "read", desc := "(LNotationDesk$Source;I)LNotationDesk$Part;" } : Jvm.MethodName)) ∈ lw_all := lw_g (lw_at lw_m5 58 rfl) rfl
theorem q1188 : (Jvm.Cond.instanceMethod ({ cls := "NotationDesk$Series", name := "size", desc := "(LNotationDesk$Part;)I" } : Jvm.MethodName)) ∈ lw_all := lw_g (lw_at lw_m5 143 rfl) rfl
theorem q1189 : (Jvm.Cond.code ({ cls := "NotationDesk$Series", name := "size", desc := "(LNotationDesk$Part;)I" } : Jvm.MethodName) prog_9_method_7_code (2 : Nat) (Option.some Jvm.ClassFile.FieldType.int)) ∈ lw_all := lw_g (lw_at lw_m5 144 rfl) rfl
theorem q1190 : (Jvm.Cond.methodLink "NotationDesk$Series" (81 : Nat) ({ cls := "NotationDesk$Series", name := "content", desc := "(LNotationDesk$Part;)I" } : Jvm.MethodName)) ∈ lw_all := lw_g (lw_at lw_m5 145 rfl) rfl
theorem q1191 : (Jvm.Cond.privateMethod ({ cls := "NotationDesk$Series", name := "content", desc := "(LNotationDesk$Part;)I" } : Jvm.MethodName)) ∈ lw_tbl := lw_at lw_m5 146 rfl
theorem q1192 : (Jvm.Cond.instanceMethod ({ cls := "NotationDesk$Series", name := "content", desc := "(LNotationDesk$Part;)I" } : Jvm.MethodName)) ∈ lw_all := lw_g (lw_at lw_m5 147 rfl) rfl
theorem q1193 : (Jvm.Cond.code ({ cls := "NotationDesk$Series", name := "content", desc := "(LNotationDesk$Part;)I" } : Jvm.MethodName) prog_9_method_6_code (4 : Nat) (Option.some Jvm.ClassFile.FieldType.int)) ∈ lw_all := lw_g (lw_at lw_m5 148 rfl) rfl
theorem q1194 : (Jvm.Cond.methodLink "NotationDesk$Series" (74 : Nat) ({ cls := "NotationDesk$Type", name := "size", desc := "(LNotationDesk$Part;)I" } : Jvm.MethodName)) ∈ lw_all := lw_g (lw_at lw_m5 149 rfl) rfl
theorem q1199 : (Jvm.Cond.methodLinkNest "NotationDesk$Series" (84 : Nat) ({ cls := "NotationDesk", name := "headed", desc := "(I)I" } : Jvm.MethodName) "NotationDesk") ∈ lw_tbl := lw_at lw_m5 154 rfl
theorem q1203 : (Jvm.Cond.selects "NotationDesk$Series" ({ cls := "NotationDesk$Type", name := "size", desc := "(LNotationDesk$Part;)I" } : Jvm.MethodName) ({ cls := "NotationDesk$Series", name := "size", desc := "(LNotationDesk$Part;)I" } : Jvm.MethodName)) ∈ lw_all := lw_g (lw_at lw_m5 158 rfl) rfl
theorem q1207 : (Jvm.Cond.instanceMethod ({ cls := "NotationDesk$Series", name := "write", desc := "(LNotationDesk$Part;LNotationDesk$Writer;I)V" } : Jvm.MethodName)) ∈ lw_all := lw_g (lw_at lw_m5 162 rfl) rfl
theorem q1208 : (Jvm.Cond.code ({ cls := "NotationDesk$Series", name := "write", desc := "(LNotationDesk$Part;LNotationDesk$Writer;I)V" } : Jvm.MethodName) prog_9_method_8_code (5 : Nat) (Option.none : Option Jvm.ClassFile.FieldType)) ∈ lw_all := lw_g (lw_at lw_m5 163 rfl) rfl
theorem q1209 : (Jvm.Cond.methodLink "NotationDesk$Series" (88 : Nat) ({ cls := "NotationDesk$Writer", name := "header", desc := "(II)V" } : Jvm.MethodName)) ∈ lw_all := lw_g (lw_at lw_m5 164 rfl) rfl
theorem q1210 : (Jvm.Cond.methodLink "NotationDesk$Series" (94 : Nat) ({ cls := "NotationDesk$Type", name := "write", desc := "(LNotationDesk$Part;LNotationDesk$Writer;I)V" } : Jvm.MethodName)) ∈ lw_all := lw_g (lw_at lw_m5 165 rfl) rfl
theorem q1218 : (Jvm.Cond.selects "NotationDesk$Series" ({ cls := "NotationDesk$Type", name := "write", desc := "(LNotationDesk$Part;LNotationDesk$Writer;I)V" } : Jvm.MethodName) ({ cls := "NotationDesk$Series", name := "write", desc := "(LNotationDesk$Part;LNotationDesk$Writer;I)V" } : Jvm.MethodName)) ∈ lw_all := lw_g (lw_at lw_m5 173 rfl) rfl
theorem q1256 : (Jvm.Cond.instanceMethod ({ cls := "NotationDesk$Series", name := "pack", desc := "(LNotationDesk$Part;LNotationDesk$Writer;)V" } : Jvm.MethodName)) ∈ lw_all := lw_g (lw_at lw_m5 211 rfl) rfl
theorem q1257 : (Jvm.Cond.code ({ cls := "NotationDesk$Series", name := "pack", desc := "(LNotationDesk$Part;LNotationDesk$Writer;)V" } : Jvm.MethodName) prog_9_method_10_code (4 : Nat) (Option.none : Option Jvm.ClassFile.FieldType)) ∈ lw_all := lw_g (lw_at lw_m5 212 rfl) rfl
theorem q1258 : (Jvm.Cond.methodLink "NotationDesk$Series" (108 : Nat) ({ cls := "NotationDesk$Size", name := "pack", desc := "(ILNotationDesk$Writer;)V" } : Jvm.MethodName)) ∈ lw_all := lw_g (lw_at lw_m5 213 rfl) rfl
theorem q1259 : (Jvm.Cond.methodLink "NotationDesk$Series" (112 : Nat) ({ cls := "NotationDesk$Type", name := "pack", desc := "(LNotationDesk$Part;LNotationDesk$Writer;)V" } : Jvm.MethodName)) ∈ lw_all := lw_g (lw_at lw_m5 214 rfl) rfl
theorem q1266 : (Jvm.Cond.selects "NotationDesk$Series" ({ cls := "NotationDesk$Type", name := "pack", desc := "(LNotationDesk$Part;LNotationDesk$Writer;)V" } : Jvm.MethodName) ({ cls := "NotationDesk$Series", name := "pack", desc := "(LNotationDesk$Part;LNotationDesk$Writer;)V" } : Jvm.MethodName)) ∈ lw_all := lw_g (lw_at lw_m5 221 rfl) rfl
theorem q1822 : (Jvm.Cond.castable "NotationDesk$Series" "java/lang/Object") ∈ lw_tbl := lw_at lw_m8 57 rfl
theorem q1837 : (Jvm.Cond.castable "NotationDesk$Series" "NotationDesk$Type") ∈ lw_tbl := lw_at lw_m8 72 rfl
theorem in_X15 : ∀ w ∈ wsX150, w ∈ lw_all := lw_in wsX150 [636, 638] (by decide +kernel) (by decide +kernel)
/-! NotationDesk$Tagged -/
set_option maxRecDepth 100000
def RX16 : String := "NotationDesk$Tagged"
def TX16 : u_T := fun k => match k with
  | 0 => ("NotationDesk$Tagged", "mark", "I", false)
  | 1 => ("NotationDesk$Tagged", "isExplicit", "Z", false)
  | _ => ("NotationDesk$Tagged", "type", "LNotationDesk$Type;", false)
def tyX16 : Nat → FieldType := fun k => match k with
  | 0 => .int
  | 1 => .boolean
  | _ => .object "NotationDesk$Type"
abbrev wsX160 : List Cond := u_ws RX16 TX16 3
theorem nmX16 : ∀ a, a < 3 → ∀ b, b < 3 → a ≠ b → (TX16 a).2.1 ≠ (TX16 b).2.1 := by decide +kernel
theorem tyX16_ok : ∀ k, k < 3 → parseFieldDescriptor (TX16 k).2.2.1 = some (tyX16 k) := by decide +kernel
abbrev cX16_height : ByteArray := prog_14_method_4_code
def yX16_height : MethodName := ⟨RX16, "height", "()I"⟩
def dkwX16_height_0 : List UInt8 := [42, 180, 0, 23, 182, 0, 27, 4, 96, 172]
abbrev dktX16_height_0 : List UInt8 := dkwX16_height_0 ++ []
theorem dksX16_height_0 : cX16_height.data.toList.drop 0 = dktX16_height_0 := by decide +kernel
theorem dX16_height_0 : decode cX16_height 0 = .ok (.aload_n 0, 1) := dk_42 (dk_at dksX16_height_0 0 rfl rfl)
theorem dX16_height_1 : decode cX16_height 1 = .ok (.getfield 23, 3) := dk_180 0 23 (dk_at dksX16_height_0 1 rfl rfl)
theorem dX16_height_4 : decode cX16_height 4 = .ok (.invokevirtual 27, 3) := dk_182 0 27 (dk_at dksX16_height_0 4 rfl rfl)
theorem dX16_height_7 : decode cX16_height 7 = .ok (.iconst 1, 1) := dk_4 (dk_at dksX16_height_0 7 rfl rfl)
theorem dX16_height_8 : decode cX16_height 8 = .ok (.iadd, 1) := dk_96 (dk_at dksX16_height_0 8 rfl rfl)
theorem dX16_height_9 : decode cX16_height 9 = .ok (.ireturn, 1) := dk_172 (dk_at dksX16_height_0 9 rfl rfl)
abbrev cX16_holds : ByteArray := prog_14_method_5_code
def yX16_holds : MethodName := ⟨RX16, "holds", "(I)Z"⟩
def dkwX16_holds_0 : List UInt8 := [42, 180, 0, 23, 27, 182, 0, 31, 172]
abbrev dktX16_holds_0 : List UInt8 := dkwX16_holds_0 ++ []
theorem dksX16_holds_0 : cX16_holds.data.toList.drop 0 = dktX16_holds_0 := by decide +kernel
theorem dX16_holds_0 : decode cX16_holds 0 = .ok (.aload_n 0, 1) := dk_42 (dk_at dksX16_holds_0 0 rfl rfl)
theorem dX16_holds_1 : decode cX16_holds 1 = .ok (.getfield 23, 3) := dk_180 0 23 (dk_at dksX16_holds_0 1 rfl rfl)
theorem dX16_holds_4 : decode cX16_holds 4 = .ok (.iload_n 1, 1) := dk_27 (dk_at dksX16_holds_0 4 rfl rfl)
theorem dX16_holds_5 : decode cX16_holds 5 = .ok (.invokevirtual 31, 3) := dk_182 0 31 (dk_at dksX16_holds_0 5 rfl rfl)
theorem dX16_holds_8 : decode cX16_holds 8 = .ok (.ireturn, 1) := dk_172 (dk_at dksX16_holds_0 8 rfl rfl)
abbrev cX16_tags : ByteArray := prog_14_method_3_code
def yX16_tags : MethodName := ⟨RX16, "tags", "()I"⟩
def dkwX16_tags_0 : List UInt8 := [4, 16, 20, 42, 180, 0, 9, 96, 120, 172]
abbrev dktX16_tags_0 : List UInt8 := dkwX16_tags_0 ++ []
theorem dksX16_tags_0 : cX16_tags.data.toList.drop 0 = dktX16_tags_0 := by decide +kernel
theorem dX16_tags_0 : decode cX16_tags 0 = .ok (.iconst 1, 1) := dk_4 (dk_at dksX16_tags_0 0 rfl rfl)
theorem dX16_tags_1 : decode cX16_tags 1 = .ok (.bipush 20, 2) := dk_16 20 (dk_at dksX16_tags_0 1 rfl rfl)
theorem dX16_tags_3 : decode cX16_tags 3 = .ok (.aload_n 0, 1) := dk_42 (dk_at dksX16_tags_0 3 rfl rfl)
theorem dX16_tags_4 : decode cX16_tags 4 = .ok (.getfield 9, 3) := dk_180 0 9 (dk_at dksX16_tags_0 4 rfl rfl)
theorem dX16_tags_7 : decode cX16_tags 7 = .ok (.iadd, 1) := dk_96 (dk_at dksX16_tags_0 7 rfl rfl)
theorem dX16_tags_8 : decode cX16_tags 8 = .ok (.ishl, 1) := dk_120 (dk_at dksX16_tags_0 8 rfl rfl)
theorem dX16_tags_9 : decode cX16_tags 9 = .ok (.ireturn, 1) := dk_172 (dk_at dksX16_tags_0 9 rfl rfl)
abbrev cX16_init : ByteArray := prog_14_method_1_code
def yX16_init : MethodName := ⟨RX16, "<init>", "()V"⟩
theorem dX16_init_0 : decode cX16_init 0 = .ok (.aload_n 0, 1) := by decide +kernel
theorem dX16_init_1 : decode cX16_init 1 = .ok (.invokespecial 3, 3) := by decide +kernel
theorem dX16_init_4 : decode cX16_init 4 = .ok (.return_, 1) := by decide +kernel
abbrev cX16_become : ByteArray := prog_14_method_2_code
def yX16_become : MethodName := ⟨RX16, "become", "(IZLNotationDesk$Type;)LNotationDesk$Tagged;"⟩
def dkwX16_become_1 : List UInt8 := [181, 0, 19, 42, 45, 181, 0, 23, 42, 176]
abbrev dktX16_become_1 : List UInt8 := dkwX16_become_1 ++ []
def dkwX16_become_0 : List UInt8 := [42, 27, 181, 0, 9, 42, 28, 154, 0, 10, 45, 182, 0, 15, 153, 0, 7, 4, 167, 0, 4, 3]
abbrev dktX16_become_0 : List UInt8 := dkwX16_become_0 ++ dktX16_become_1
theorem dksX16_become_0 : cX16_become.data.toList.drop 0 = dktX16_become_0 := by decide +kernel
theorem dksX16_become_1 : cX16_become.data.toList.drop 22 = dktX16_become_1 := dk_seg dksX16_become_0 22 rfl rfl
theorem dX16_become_0 : decode cX16_become 0 = .ok (.aload_n 0, 1) := dk_42 (dk_at dksX16_become_0 0 rfl rfl)
theorem dX16_become_1 : decode cX16_become 1 = .ok (.iload_n 1, 1) := dk_27 (dk_at dksX16_become_0 1 rfl rfl)
theorem dX16_become_2 : decode cX16_become 2 = .ok (.putfield 9, 3) := dk_181 0 9 (dk_at dksX16_become_0 2 rfl rfl)
theorem dX16_become_5 : decode cX16_become 5 = .ok (.aload_n 0, 1) := dk_42 (dk_at dksX16_become_0 5 rfl rfl)
theorem dX16_become_6 : decode cX16_become 6 = .ok (.iload_n 2, 1) := dk_28 (dk_at dksX16_become_0 6 rfl rfl)
theorem dX16_become_7 : decode cX16_become 7 = .ok (.ifCond .ne 10, 3) := dk_154 0 10 (dk_at dksX16_become_0 7 rfl rfl)
theorem dX16_become_10 : decode cX16_become 10 = .ok (.aload_n 3, 1) := dk_45 (dk_at dksX16_become_0 10 rfl rfl)
theorem dX16_become_11 : decode cX16_become 11 = .ok (.invokevirtual 15, 3) := dk_182 0 15 (dk_at dksX16_become_0 11 rfl rfl)
theorem dX16_become_14 : decode cX16_become 14 = .ok (.ifCond .eq 7, 3) := dk_153 0 7 (dk_at dksX16_become_0 14 rfl rfl)
theorem dX16_become_17 : decode cX16_become 17 = .ok (.iconst 1, 1) := dk_4 (dk_at dksX16_become_0 17 rfl rfl)
theorem dX16_become_18 : decode cX16_become 18 = .ok (.goto 4, 3) := dk_167 0 4 (dk_at dksX16_become_0 18 rfl rfl)
theorem dX16_become_21 : decode cX16_become 21 = .ok (.iconst 0, 1) := dk_3 (dk_at dksX16_become_0 21 rfl rfl)
theorem dX16_become_22 : decode cX16_become 22 = .ok (.putfield 19, 3) := dk_181 0 19 (dk_at dksX16_become_1 0 rfl rfl)
theorem dX16_become_25 : decode cX16_become 25 = .ok (.aload_n 0, 1) := dk_42 (dk_at dksX16_become_1 3 rfl rfl)
theorem dX16_become_26 : decode cX16_become 26 = .ok (.aload_n 3, 1) := dk_45 (dk_at dksX16_become_1 4 rfl rfl)
theorem dX16_become_27 : decode cX16_become 27 = .ok (.putfield 23, 3) := dk_181 0 23 (dk_at dksX16_become_1 5 rfl rfl)
theorem dX16_become_30 : decode cX16_become 30 = .ok (.aload_n 0, 1) := dk_42 (dk_at dksX16_become_1 8 rfl rfl)
theorem dX16_become_31 : decode cX16_become 31 = .ok (.areturn, 1) := dk_176 (dk_at dksX16_become_1 9 rfl rfl)
abbrev cX16_unpack : ByteArray := prog_14_method_10_code
def yX16_unpack : MethodName := ⟨RX16, "unpack", "(LNotationDesk$Source;)LNotationDesk$Part;"⟩
def dkwX16_unpack_0 : List UInt8 := [42, 180, 0, 23, 43, 182, 0, 69, 176]
abbrev dktX16_unpack_0 : List UInt8 := dkwX16_unpack_0 ++ []
theorem dksX16_unpack_0 : cX16_unpack.data.toList.drop 0 = dktX16_unpack_0 := by decide +kernel
theorem dX16_unpack_0 : decode cX16_unpack 0 = .ok (.aload_n 0, 1) := dk_42 (dk_at dksX16_unpack_0 0 rfl rfl)
theorem dX16_unpack_1 : decode cX16_unpack 1 = .ok (.getfield 23, 3) := dk_180 0 23 (dk_at dksX16_unpack_0 1 rfl rfl)
theorem dX16_unpack_4 : decode cX16_unpack 4 = .ok (.aload_n 1, 1) := dk_43 (dk_at dksX16_unpack_0 4 rfl rfl)
theorem dX16_unpack_5 : decode cX16_unpack 5 = .ok (.invokevirtual 69, 3) := dk_182 0 69 (dk_at dksX16_unpack_0 5 rfl rfl)
theorem dX16_unpack_8 : decode cX16_unpack 8 = .ok (.areturn, 1) := dk_176 (dk_at dksX16_unpack_0 8 rfl rfl)
abbrev cX16_given : ByteArray := prog_14_method_6_code
def yX16_given : MethodName := ⟨RX16, "given", "(LNotationDesk$Store;I)LNotationDesk$Part;"⟩
def dkwX16_given_0 : List UInt8 := [42, 180, 0, 23, 43, 28, 182, 0, 35, 176]
abbrev dktX16_given_0 : List UInt8 := dkwX16_given_0 ++ []
theorem dksX16_given_0 : cX16_given.data.toList.drop 0 = dktX16_given_0 := by decide +kernel
theorem dX16_given_0 : decode cX16_given 0 = .ok (.aload_n 0, 1) := dk_42 (dk_at dksX16_given_0 0 rfl rfl)
theorem dX16_given_1 : decode cX16_given 1 = .ok (.getfield 23, 3) := dk_180 0 23 (dk_at dksX16_given_0 1 rfl rfl)
theorem dX16_given_4 : decode cX16_given 4 = .ok (.aload_n 1, 1) := dk_43 (dk_at dksX16_given_0 4 rfl rfl)
theorem dX16_given_5 : decode cX16_given 5 = .ok (.iload_n 2, 1) := dk_28 (dk_at dksX16_given_0 5 rfl rfl)
theorem dX16_given_6 : decode cX16_given 6 = .ok (.invokevirtual 35, 3) := dk_182 0 35 (dk_at dksX16_given_0 6 rfl rfl)
theorem dX16_given_9 : decode cX16_given 9 = .ok (.areturn, 1) := dk_176 (dk_at dksX16_given_0 9 rfl rfl)
abbrev cX16_read : ByteArray := prog_14_method_7_code
def yX16_read : MethodName := ⟨RX16, "read", "(LNotationDesk$Source;I)LNotationDesk$Part;"⟩
def dkwX16_read_3 : List UInt8 := [153, 0, 8, 25, 4, 167, 0, 4, 1, 176]
abbrev dktX16_read_3 : List UInt8 := dkwX16_read_3 ++ []
def dkwX16_read_2 : List UInt8 := [180, 0, 23, 43, 2, 182, 0, 39, 167, 0, 4, 1, 58, 4, 25, 4, 198, 0, 15, 43, 182, 0, 48]
abbrev dktX16_read_2 : List UInt8 := dkwX16_read_2 ++ dktX16_read_3
def dkwX16_read_1 : List UInt8 := [180, 0, 23, 43, 29, 182, 0, 39, 176, 43, 17, 0, 160, 29, 96, 182, 0, 43, 153, 0, 15, 42]
abbrev dktX16_read_1 : List UInt8 := dkwX16_read_1 ++ dktX16_read_2
def dkwX16_read_0 : List UInt8 := [28, 2, 160, 0, 10, 42, 180, 0, 9, 167, 0, 4, 28, 62, 42, 180, 0, 19, 154, 0, 13, 42]
abbrev dktX16_read_0 : List UInt8 := dkwX16_read_0 ++ dktX16_read_1
theorem dksX16_read_0 : cX16_read.data.toList.drop 0 = dktX16_read_0 := by decide +kernel
theorem dksX16_read_1 : cX16_read.data.toList.drop 22 = dktX16_read_1 := dk_seg dksX16_read_0 22 rfl rfl
theorem dksX16_read_2 : cX16_read.data.toList.drop 44 = dktX16_read_2 := dk_seg dksX16_read_1 22 rfl rfl
theorem dksX16_read_3 : cX16_read.data.toList.drop 67 = dktX16_read_3 := dk_seg dksX16_read_2 23 rfl rfl
theorem dX16_read_0 : decode cX16_read 0 = .ok (.iload_n 2, 1) := dk_28 (dk_at dksX16_read_0 0 rfl rfl)
theorem dX16_read_1 : decode cX16_read 1 = .ok (.iconst (-1), 1) := dk_2 (dk_at dksX16_read_0 1 rfl rfl)
theorem dX16_read_2 : decode cX16_read 2 = .ok (.if_icmp .ne 10, 3) := dk_160 0 10 (dk_at dksX16_read_0 2 rfl rfl)
theorem dX16_read_5 : decode cX16_read 5 = .ok (.aload_n 0, 1) := dk_42 (dk_at dksX16_read_0 5 rfl rfl)
theorem dX16_read_6 : decode cX16_read 6 = .ok (.getfield 9, 3) := dk_180 0 9 (dk_at dksX16_read_0 6 rfl rfl)
theorem dX16_read_9 : decode cX16_read 9 = .ok (.goto 4, 3) := dk_167 0 4 (dk_at dksX16_read_0 9 rfl rfl)
theorem dX16_read_12 : decode cX16_read 12 = .ok (.iload_n 2, 1) := dk_28 (dk_at dksX16_read_0 12 rfl rfl)
theorem dX16_read_13 : decode cX16_read 13 = .ok (.istore_n 3, 1) := dk_62 (dk_at dksX16_read_0 13 rfl rfl)
theorem dX16_read_14 : decode cX16_read 14 = .ok (.aload_n 0, 1) := dk_42 (dk_at dksX16_read_0 14 rfl rfl)
theorem dX16_read_15 : decode cX16_read 15 = .ok (.getfield 19, 3) := dk_180 0 19 (dk_at dksX16_read_0 15 rfl rfl)
theorem dX16_read_18 : decode cX16_read 18 = .ok (.ifCond .ne 13, 3) := dk_154 0 13 (dk_at dksX16_read_0 18 rfl rfl)
theorem dX16_read_21 : decode cX16_read 21 = .ok (.aload_n 0, 1) := dk_42 (dk_at dksX16_read_0 21 rfl rfl)
theorem dX16_read_22 : decode cX16_read 22 = .ok (.getfield 23, 3) := dk_180 0 23 (dk_at dksX16_read_1 0 rfl rfl)
theorem dX16_read_25 : decode cX16_read 25 = .ok (.aload_n 1, 1) := dk_43 (dk_at dksX16_read_1 3 rfl rfl)
theorem dX16_read_26 : decode cX16_read 26 = .ok (.iload_n 3, 1) := dk_29 (dk_at dksX16_read_1 4 rfl rfl)
theorem dX16_read_27 : decode cX16_read 27 = .ok (.invokevirtual 39, 3) := dk_182 0 39 (dk_at dksX16_read_1 5 rfl rfl)
theorem dX16_read_30 : decode cX16_read 30 = .ok (.areturn, 1) := dk_176 (dk_at dksX16_read_1 8 rfl rfl)
theorem dX16_read_31 : decode cX16_read 31 = .ok (.aload_n 1, 1) := dk_43 (dk_at dksX16_read_1 9 rfl rfl)
theorem dX16_read_32 : decode cX16_read 32 = .ok (.sipush 160, 3) := dk_17 0 160 (dk_at dksX16_read_1 10 rfl rfl)
theorem dX16_read_35 : decode cX16_read 35 = .ok (.iload_n 3, 1) := dk_29 (dk_at dksX16_read_1 13 rfl rfl)
theorem dX16_read_36 : decode cX16_read 36 = .ok (.iadd, 1) := dk_96 (dk_at dksX16_read_1 14 rfl rfl)
theorem dX16_read_37 : decode cX16_read 37 = .ok (.invokevirtual 43, 3) := dk_182 0 43 (dk_at dksX16_read_1 15 rfl rfl)
theorem dX16_read_40 : decode cX16_read 40 = .ok (.ifCond .eq 15, 3) := dk_153 0 15 (dk_at dksX16_read_1 18 rfl rfl)
theorem dX16_read_43 : decode cX16_read 43 = .ok (.aload_n 0, 1) := dk_42 (dk_at dksX16_read_1 21 rfl rfl)
theorem dX16_read_44 : decode cX16_read 44 = .ok (.getfield 23, 3) := dk_180 0 23 (dk_at dksX16_read_2 0 rfl rfl)
theorem dX16_read_47 : decode cX16_read 47 = .ok (.aload_n 1, 1) := dk_43 (dk_at dksX16_read_2 3 rfl rfl)
theorem dX16_read_48 : decode cX16_read 48 = .ok (.iconst (-1), 1) := dk_2 (dk_at dksX16_read_2 4 rfl rfl)
theorem dX16_read_49 : decode cX16_read 49 = .ok (.invokevirtual 39, 3) := dk_182 0 39 (dk_at dksX16_read_2 5 rfl rfl)
theorem dX16_read_52 : decode cX16_read 52 = .ok (.goto 4, 3) := dk_167 0 4 (dk_at dksX16_read_2 8 rfl rfl)
theorem dX16_read_55 : decode cX16_read 55 = .ok (.aconst_null, 1) := dk_1 (dk_at dksX16_read_2 11 rfl rfl)
theorem dX16_read_56 : decode cX16_read 56 = .ok (.astore 4, 2) := dk_58 4 (dk_at dksX16_read_2 12 rfl rfl)
theorem dX16_read_58 : decode cX16_read 58 = .ok (.aload 4, 2) := dk_25 4 (dk_at dksX16_read_2 14 rfl rfl)
theorem dX16_read_60 : decode cX16_read 60 = .ok (.ifnull 15, 3) := dk_198 0 15 (dk_at dksX16_read_2 16 rfl rfl)
theorem dX16_read_63 : decode cX16_read 63 = .ok (.aload_n 1, 1) := dk_43 (dk_at dksX16_read_2 19 rfl rfl)
theorem dX16_read_64 : decode cX16_read 64 = .ok (.invokevirtual 48, 3) := dk_182 0 48 (dk_at dksX16_read_2 20 rfl rfl)
theorem dX16_read_67 : decode cX16_read 67 = .ok (.ifCond .eq 8, 3) := dk_153 0 8 (dk_at dksX16_read_3 0 rfl rfl)
theorem dX16_read_70 : decode cX16_read 70 = .ok (.aload 4, 2) := dk_25 4 (dk_at dksX16_read_3 3 rfl rfl)
theorem dX16_read_72 : decode cX16_read 72 = .ok (.goto 4, 3) := dk_167 0 4 (dk_at dksX16_read_3 5 rfl rfl)
theorem dX16_read_75 : decode cX16_read 75 = .ok (.aconst_null, 1) := dk_1 (dk_at dksX16_read_3 8 rfl rfl)
theorem dX16_read_76 : decode cX16_read 76 = .ok (.areturn, 1) := dk_176 (dk_at dksX16_read_3 9 rfl rfl)
abbrev cX16_size : ByteArray := prog_14_method_8_code
def yX16_size : MethodName := ⟨RX16, "size", "(LNotationDesk$Part;)I"⟩
def dkwX16_size_1 : List UInt8 := [180, 0, 23, 43, 182, 0, 51, 172]
abbrev dktX16_size_1 : List UInt8 := dkwX16_size_1 ++ []
def dkwX16_size_0 : List UInt8 := [42, 180, 0, 19, 153, 0, 17, 42, 180, 0, 23, 43, 182, 0, 51, 184, 0, 55, 167, 0, 11, 42]
abbrev dktX16_size_0 : List UInt8 := dkwX16_size_0 ++ dktX16_size_1
theorem dksX16_size_0 : cX16_size.data.toList.drop 0 = dktX16_size_0 := by decide +kernel
theorem dksX16_size_1 : cX16_size.data.toList.drop 22 = dktX16_size_1 := dk_seg dksX16_size_0 22 rfl rfl
theorem dX16_size_0 : decode cX16_size 0 = .ok (.aload_n 0, 1) := dk_42 (dk_at dksX16_size_0 0 rfl rfl)
theorem dX16_size_1 : decode cX16_size 1 = .ok (.getfield 19, 3) := dk_180 0 19 (dk_at dksX16_size_0 1 rfl rfl)
theorem dX16_size_4 : decode cX16_size 4 = .ok (.ifCond .eq 17, 3) := dk_153 0 17 (dk_at dksX16_size_0 4 rfl rfl)
theorem dX16_size_7 : decode cX16_size 7 = .ok (.aload_n 0, 1) := dk_42 (dk_at dksX16_size_0 7 rfl rfl)
theorem dX16_size_8 : decode cX16_size 8 = .ok (.getfield 23, 3) := dk_180 0 23 (dk_at dksX16_size_0 8 rfl rfl)
theorem dX16_size_11 : decode cX16_size 11 = .ok (.aload_n 1, 1) := dk_43 (dk_at dksX16_size_0 11 rfl rfl)
theorem dX16_size_12 : decode cX16_size 12 = .ok (.invokevirtual 51, 3) := dk_182 0 51 (dk_at dksX16_size_0 12 rfl rfl)
theorem dX16_size_15 : decode cX16_size 15 = .ok (.invokestatic 55, 3) := dk_184 0 55 (dk_at dksX16_size_0 15 rfl rfl)
theorem dX16_size_18 : decode cX16_size 18 = .ok (.goto 11, 3) := dk_167 0 11 (dk_at dksX16_size_0 18 rfl rfl)
theorem dX16_size_21 : decode cX16_size 21 = .ok (.aload_n 0, 1) := dk_42 (dk_at dksX16_size_0 21 rfl rfl)
theorem dX16_size_22 : decode cX16_size 22 = .ok (.getfield 23, 3) := dk_180 0 23 (dk_at dksX16_size_1 0 rfl rfl)
theorem dX16_size_25 : decode cX16_size 25 = .ok (.aload_n 1, 1) := dk_43 (dk_at dksX16_size_1 3 rfl rfl)
theorem dX16_size_26 : decode cX16_size 26 = .ok (.invokevirtual 51, 3) := dk_182 0 51 (dk_at dksX16_size_1 4 rfl rfl)
theorem dX16_size_29 : decode cX16_size 29 = .ok (.ireturn, 1) := dk_172 (dk_at dksX16_size_1 7 rfl rfl)
abbrev cX16_write : ByteArray := prog_14_method_9_code
def yX16_write : MethodName := ⟨RX16, "write", "(LNotationDesk$Part;LNotationDesk$Writer;I)V"⟩
def dkwX16_write_2 : List UInt8 := [180, 0, 19, 153, 0, 7, 2, 167, 0, 5, 21, 4, 182, 0, 65, 177]
abbrev dktX16_write_2 : List UInt8 := dkwX16_write_2 ++ []
def dkwX16_write_1 : List UInt8 := [17, 0, 160, 21, 4, 96, 42, 180, 0, 23, 43, 182, 0, 51, 182, 0, 59, 42, 180, 0, 23, 43, 44, 42]
abbrev dktX16_write_1 : List UInt8 := dkwX16_write_1 ++ dktX16_write_2
def dkwX16_write_0 : List UInt8 := [29, 2, 160, 0, 10, 42, 180, 0, 9, 167, 0, 4, 29, 54, 4, 42, 180, 0, 19, 153, 0, 21, 44]
abbrev dktX16_write_0 : List UInt8 := dkwX16_write_0 ++ dktX16_write_1
theorem dksX16_write_0 : cX16_write.data.toList.drop 0 = dktX16_write_0 := by decide +kernel
theorem dksX16_write_1 : cX16_write.data.toList.drop 23 = dktX16_write_1 := dk_seg dksX16_write_0 23 rfl rfl
theorem dksX16_write_2 : cX16_write.data.toList.drop 47 = dktX16_write_2 := dk_seg dksX16_write_1 24 rfl rfl
theorem dX16_write_0 : decode cX16_write 0 = .ok (.iload_n 3, 1) := dk_29 (dk_at dksX16_write_0 0 rfl rfl)
theorem dX16_write_1 : decode cX16_write 1 = .ok (.iconst (-1), 1) := dk_2 (dk_at dksX16_write_0 1 rfl rfl)
theorem dX16_write_2 : decode cX16_write 2 = .ok (.if_icmp .ne 10, 3) := dk_160 0 10 (dk_at dksX16_write_0 2 rfl rfl)
theorem dX16_write_5 : decode cX16_write 5 = .ok (.aload_n 0, 1) := dk_42 (dk_at dksX16_write_0 5 rfl rfl)
theorem dX16_write_6 : decode cX16_write 6 = .ok (.getfield 9, 3) := dk_180 0 9 (dk_at dksX16_write_0 6 rfl rfl)
theorem dX16_write_9 : decode cX16_write 9 = .ok (.goto 4, 3) := dk_167 0 4 (dk_at dksX16_write_0 9 rfl rfl)
theorem dX16_write_12 : decode cX16_write 12 = .ok (.iload_n 3, 1) := dk_29 (dk_at dksX16_write_0 12 rfl rfl)
theorem dX16_write_13 : decode cX16_write 13 = .ok (.istore 4, 2) := dk_54 4 (dk_at dksX16_write_0 13 rfl rfl)
theorem dX16_write_15 : decode cX16_write 15 = .ok (.aload_n 0, 1) := dk_42 (dk_at dksX16_write_0 15 rfl rfl)
theorem dX16_write_16 : decode cX16_write 16 = .ok (.getfield 19, 3) := dk_180 0 19 (dk_at dksX16_write_0 16 rfl rfl)
theorem dX16_write_19 : decode cX16_write 19 = .ok (.ifCond .eq 21, 3) := dk_153 0 21 (dk_at dksX16_write_0 19 rfl rfl)
theorem dX16_write_22 : decode cX16_write 22 = .ok (.aload_n 2, 1) := dk_44 (dk_at dksX16_write_0 22 rfl rfl)
theorem dX16_write_23 : decode cX16_write 23 = .ok (.sipush 160, 3) := dk_17 0 160 (dk_at dksX16_write_1 0 rfl rfl)
theorem dX16_write_26 : decode cX16_write 26 = .ok (.iload 4, 2) := dk_21 4 (dk_at dksX16_write_1 3 rfl rfl)
theorem dX16_write_28 : decode cX16_write 28 = .ok (.iadd, 1) := dk_96 (dk_at dksX16_write_1 5 rfl rfl)
theorem dX16_write_29 : decode cX16_write 29 = .ok (.aload_n 0, 1) := dk_42 (dk_at dksX16_write_1 6 rfl rfl)
theorem dX16_write_30 : decode cX16_write 30 = .ok (.getfield 23, 3) := dk_180 0 23 (dk_at dksX16_write_1 7 rfl rfl)
theorem dX16_write_33 : decode cX16_write 33 = .ok (.aload_n 1, 1) := dk_43 (dk_at dksX16_write_1 10 rfl rfl)
theorem dX16_write_34 : decode cX16_write 34 = .ok (.invokevirtual 51, 3) := dk_182 0 51 (dk_at dksX16_write_1 11 rfl rfl)
theorem dX16_write_37 : decode cX16_write 37 = .ok (.invokevirtual 59, 3) := dk_182 0 59 (dk_at dksX16_write_1 14 rfl rfl)
theorem dX16_write_40 : decode cX16_write 40 = .ok (.aload_n 0, 1) := dk_42 (dk_at dksX16_write_1 17 rfl rfl)
theorem dX16_write_41 : decode cX16_write 41 = .ok (.getfield 23, 3) := dk_180 0 23 (dk_at dksX16_write_1 18 rfl rfl)
theorem dX16_write_44 : decode cX16_write 44 = .ok (.aload_n 1, 1) := dk_43 (dk_at dksX16_write_1 21 rfl rfl)
theorem dX16_write_45 : decode cX16_write 45 = .ok (.aload_n 2, 1) := dk_44 (dk_at dksX16_write_1 22 rfl rfl)
theorem dX16_write_46 : decode cX16_write 46 = .ok (.aload_n 0, 1) := dk_42 (dk_at dksX16_write_1 23 rfl rfl)
theorem dX16_write_47 : decode cX16_write 47 = .ok (.getfield 19, 3) := dk_180 0 19 (dk_at dksX16_write_2 0 rfl rfl)
theorem dX16_write_50 : decode cX16_write 50 = .ok (.ifCond .eq 7, 3) := dk_153 0 7 (dk_at dksX16_write_2 3 rfl rfl)
theorem dX16_write_53 : decode cX16_write 53 = .ok (.iconst (-1), 1) := dk_2 (dk_at dksX16_write_2 6 rfl rfl)
theorem dX16_write_54 : decode cX16_write 54 = .ok (.goto 5, 3) := dk_167 0 5 (dk_at dksX16_write_2 7 rfl rfl)
theorem dX16_write_57 : decode cX16_write 57 = .ok (.iload 4, 2) := dk_21 4 (dk_at dksX16_write_2 10 rfl rfl)
theorem dX16_write_59 : decode cX16_write 59 = .ok (.invokevirtual 65, 3) := dk_182 0 65 (dk_at dksX16_write_2 12 rfl rfl)
theorem dX16_write_62 : decode cX16_write 62 = .ok (.return_, 1) := dk_177 (dk_at dksX16_write_2 15 rfl rfl)
abbrev cX16_pack : ByteArray := prog_14_method_11_code
def yX16_pack : MethodName := ⟨RX16, "pack", "(LNotationDesk$Part;LNotationDesk$Writer;)V"⟩
def dkwX16_pack_0 : List UInt8 := [42, 180, 0, 23, 43, 44, 182, 0, 73, 177]
abbrev dktX16_pack_0 : List UInt8 := dkwX16_pack_0 ++ []
theorem dksX16_pack_0 : cX16_pack.data.toList.drop 0 = dktX16_pack_0 := by decide +kernel
theorem dX16_pack_0 : decode cX16_pack 0 = .ok (.aload_n 0, 1) := dk_42 (dk_at dksX16_pack_0 0 rfl rfl)
theorem dX16_pack_1 : decode cX16_pack 1 = .ok (.getfield 23, 3) := dk_180 0 23 (dk_at dksX16_pack_0 1 rfl rfl)
theorem dX16_pack_4 : decode cX16_pack 4 = .ok (.aload_n 1, 1) := dk_43 (dk_at dksX16_pack_0 4 rfl rfl)
theorem dX16_pack_5 : decode cX16_pack 5 = .ok (.aload_n 2, 1) := dk_44 (dk_at dksX16_pack_0 5 rfl rfl)
theorem dX16_pack_6 : decode cX16_pack 6 = .ok (.invokevirtual 73, 3) := dk_182 0 73 (dk_at dksX16_pack_0 6 rfl rfl)
theorem dX16_pack_9 : decode cX16_pack 9 = .ok (.return_, 1) := dk_177 (dk_at dksX16_pack_0 9 rfl rfl)
theorem q101 : (Jvm.Cond.initialized "NotationDesk$Tagged") ∈ lw_all := lw_g (lw_at lw_m1 16 rfl) rfl
theorem q398 : (Jvm.Cond.instanceMethod ({ cls := "NotationDesk$Tagged", name := "height", desc := "()I" } : Jvm.MethodName)) ∈ lw_all := lw_g (lw_at lw_m2 73 rfl) rfl
theorem q399 : (Jvm.Cond.code ({ cls := "NotationDesk$Tagged", name := "height", desc := "()I" } : Jvm.MethodName) prog_14_method_4_code (1 : Nat) (Option.some Jvm.ClassFile.FieldType.int)) ∈ lw_all := lw_g (lw_at lw_m2 74 rfl) rfl
theorem q400 : (Jvm.Cond.methodLink "NotationDesk$Tagged" (27 : Nat) ({ cls := "NotationDesk$Type", name := "height", desc := "()I" } : Jvm.MethodName)) ∈ lw_all := lw_g (lw_at lw_m2 75 rfl) rfl
theorem q405 : (Jvm.Cond.selects "NotationDesk$Tagged" ({ cls := "NotationDesk$Type", name := "height", desc := "()I" } : Jvm.MethodName) ({ cls := "NotationDesk$Tagged", name := "height", desc := "()I" } : Jvm.MethodName)) ∈ lw_all := lw_g (lw_at lw_m2 80 rfl) rfl
theorem q521 : (Jvm.Cond.selects "NotationDesk$Tagged" ({ cls := "NotationDesk$Type", name := "holds", desc := "(I)Z" } : Jvm.MethodName) ({ cls := "NotationDesk$Tagged", name := "holds", desc := "(I)Z" } : Jvm.MethodName)) ∈ lw_all := lw_g (lw_at lw_m2 196 rfl) rfl
theorem q522 : (Jvm.Cond.instanceMethod ({ cls := "NotationDesk$Tagged", name := "holds", desc := "(I)Z" } : Jvm.MethodName)) ∈ lw_all := lw_g (lw_at lw_m2 197 rfl) rfl
theorem q523 : (Jvm.Cond.code ({ cls := "NotationDesk$Tagged", name := "holds", desc := "(I)Z" } : Jvm.MethodName) prog_14_method_5_code (2 : Nat) (Option.some Jvm.ClassFile.FieldType.boolean)) ∈ lw_all := lw_g (lw_at lw_m2 198 rfl) rfl
theorem q524 : (Jvm.Cond.methodLink "NotationDesk$Tagged" (31 : Nat) ({ cls := "NotationDesk$Type", name := "holds", desc := "(I)Z" } : Jvm.MethodName)) ∈ lw_all := lw_g (lw_at lw_m2 199 rfl) rfl
theorem q555 : (Jvm.Cond.instanceMethod ({ cls := "NotationDesk$Tagged", name := "tags", desc := "()I" } : Jvm.MethodName)) ∈ lw_all := lw_g (lw_at lw_m2 230 rfl) rfl
theorem q556 : (Jvm.Cond.code ({ cls := "NotationDesk$Tagged", name := "tags", desc := "()I" } : Jvm.MethodName) prog_14_method_3_code (1 : Nat) (Option.some Jvm.ClassFile.FieldType.int)) ∈ lw_all := lw_g (lw_at lw_m2 231 rfl) rfl
theorem q561 : (Jvm.Cond.selects "NotationDesk$Tagged" ({ cls := "NotationDesk$Type", name := "tags", desc := "()I" } : Jvm.MethodName) ({ cls := "NotationDesk$Tagged", name := "tags", desc := "()I" } : Jvm.MethodName)) ∈ lw_all := lw_g (lw_at lw_m2 236 rfl) rfl
theorem q641 : (Jvm.Cond.instantiable "NotationDesk$Tagged" (3 : Nat)) ∈ lw_all := lw_g (lw_at lw_m3 76 rfl) rfl
theorem q643 : (Jvm.Cond.instanceMethod ({ cls := "NotationDesk$Tagged", name := "<init>", desc := "()V" } : Jvm.MethodName)) ∈ lw_all := lw_g (lw_at lw_m3 78 rfl) rfl
theorem q644 : (Jvm.Cond.code ({ cls := "NotationDesk$Tagged", name := "<init>", desc := "()V" } : Jvm.MethodName) prog_14_method_1_code (1 : Nat) (Option.none : Option Jvm.ClassFile.FieldType)) ∈ lw_all := lw_g (lw_at lw_m3 79 rfl) rfl
theorem q645 : (Jvm.Cond.methodLinkNest "NotationDesk$Tagged" (3 : Nat) ({ cls := "NotationDesk$Type", name := "<init>", desc := "()V" } : Jvm.MethodName) "NotationDesk") ∈ lw_tbl := lw_at lw_m3 80 rfl
theorem q646 : (Jvm.Cond.fieldLink "NotationDesk$Tagged" (9 : Nat) "NotationDesk$Tagged" "mark" "I") ∈ lw_all := lw_g (lw_at lw_m3 81 rfl) rfl
theorem q647 : (Jvm.Cond.fieldLink "NotationDesk$Tagged" (19 : Nat) "NotationDesk$Tagged" "isExplicit" "Z") ∈ lw_all := lw_g (lw_at lw_m3 82 rfl) rfl
theorem q648 : (Jvm.Cond.fieldLink "NotationDesk$Tagged" (23 : Nat) "NotationDesk$Tagged" "type" "LNotationDesk$Type;") ∈ lw_all := lw_g (lw_at lw_m3 83 rfl) rfl
theorem q649 : (Jvm.Cond.lays "NotationDesk$Tagged" "NotationDesk$Tagged" "mark" "I") ∈ lw_all := lw_g (lw_at lw_m3 84 rfl) rfl
theorem q650 : (Jvm.Cond.soleField "NotationDesk$Tagged" "mark") ∈ lw_all := lw_g (lw_at lw_m3 85 rfl) rfl
theorem q651 : (Jvm.Cond.lays "NotationDesk$Tagged" "NotationDesk$Tagged" "isExplicit" "Z") ∈ lw_all := lw_g (lw_at lw_m3 86 rfl) rfl
theorem q652 : (Jvm.Cond.soleField "NotationDesk$Tagged" "isExplicit") ∈ lw_all := lw_g (lw_at lw_m3 87 rfl) rfl
theorem q653 : (Jvm.Cond.lays "NotationDesk$Tagged" "NotationDesk$Tagged" "type" "LNotationDesk$Type;") ∈ lw_all := lw_g (lw_at lw_m3 88 rfl) rfl
theorem q654 : (Jvm.Cond.soleField "NotationDesk$Tagged" "type") ∈ lw_all := lw_g (lw_at lw_m3 89 rfl) rfl
theorem q655 : (Jvm.Cond.superclass "NotationDesk$Tagged" "NotationDesk$Type") ∈ lw_all := lw_g (lw_at lw_m3 90 rfl) rfl
theorem q657 : (Jvm.Cond.instanceMethod ({ cls := "NotationDesk$Tagged", name := "become", desc := "(IZLNotationDesk$Type;)LNotationDesk$Tagged;" } : Jvm.MethodName)) ∈ lw_all := lw_g (lw_at lw_m3 92 rfl) rfl
theorem q658 : (Jvm.Cond.selects "NotationDesk$Tagged" ({ cls := "NotationDesk$Tagged", name := "become", desc := "(IZLNotationDesk$Type;)LNotationDesk$Tagged;" } : Jvm.MethodName) ({ cls := "NotationDesk$Tagged", name := "become", desc := "(IZLNotationDesk$Type;)LNotationDesk$Tagged;" } : Jvm.MethodName)) ∈ lw_all := lw_g (lw_at lw_m3 93 rfl) rfl
theorem q659 : (Jvm.Cond.code ({ cls := "NotationDesk$Tagged", name := "become", desc := "(IZLNotationDesk$Type;)LNotationDesk$Tagged;" } : Jvm.MethodName) prog_14_method_2_code (4 : Nat) (Option.some (Jvm.ClassFile.FieldType.object "NotationDesk$Tagged"))) ∈ lw_all := lw_g (lw_at lw_m3 94 rfl) rfl
theorem q660 : (Jvm.Cond.methodLink "NotationDesk$Tagged" (15 : Nat) ({ cls := "NotationDesk$Type", name := "isChoice", desc := "()Z" } : Jvm.MethodName)) ∈ lw_all := lw_g (lw_at lw_m3 95 rfl) rfl
theorem q670 : (Jvm.Cond.selects "NotationDesk$Tagged" ({ cls := "NotationDesk$Type", name := "isChoice", desc := "()Z" } : Jvm.MethodName) ({ cls := "NotationDesk$Type", name := "isChoice", desc := "()Z" } : Jvm.MethodName)) ∈ lw_all := lw_g (lw_at lw_m3 105 rfl) rfl
theorem q1003 : (Jvm.Cond.instanceMethod ({ cls := "NotationDesk$Tagged", name := "unpack", desc := "(LNotationDesk$Source;)LNotationDesk$Part;" } : Jvm.MethodName)) ∈ lw_all := lw_g (lw_at lw_m4 198 rfl) rfl
theorem q1004 : (Jvm.Cond.code ({ cls := "NotationDesk$Tagged", name := "unpack", desc := "(LNotationDesk$Source;)LNotationDesk$Part;" } : Jvm.MethodName) prog_14_method_10_code (2 : Nat) (Option.some (Jvm.ClassFile.FieldType.object "NotationDesk$Part"))) ∈ lw_all := lw_g (lw_at lw_m4 199 rfl) rfl
theorem q1005 : (Jvm.Cond.methodLink "NotationDesk$Tagged" (69 : Nat) ({ cls := "NotationDesk$Type", name := "unpack", desc := "(LNotationDesk$Source;)LNotationDesk$Part;" } : Jvm.MethodName)) ∈ lw_all := lw_g (lw_at lw_m4 200 rfl) rfl
theorem q1025 : (Jvm.Cond.selects "NotationDesk$Tagged" ({ cls := "NotationDesk$Type", name := "given", desc := "(LNotationDesk$Store;I)LNotationDesk$Part;" } : Jvm.MethodName) ({ cls := "NotationDesk$Tagged", name := "given", desc := "(LNotationDesk$Store;I)LNotationDesk$Part;" } : Jvm.MethodName)) ∈ lw_all := lw_g (lw_at lw_m4 220 rfl) rfl
theorem q1026 : (Jvm.Cond.instanceMethod ({ cls := "NotationDesk$Tagged", name := "given", desc := "(LNotationDesk$Store;I)LNotationDesk$Part;" } : Jvm.MethodName)) ∈ lw_all := lw_g (lw_at lw_m4 221 rfl) rfl
theorem q1027 : (Jvm.Cond.code ({ cls := "NotationDesk$Tagged", name := "given", desc := "(LNotationDesk$Store;I)LNotationDesk$Part;" } : Jvm.MethodName) prog_14_method_6_code (3 : Nat) (Option.some (Jvm.ClassFile.FieldType.object "NotationDesk$Part"))) ∈ lw_all := lw_g (lw_at lw_m4 222 rfl) rfl
theorem q1028 : (Jvm.Cond.methodLink "NotationDesk$Tagged" (35 : Nat) ({ cls := "NotationDesk$Type", name := "given", desc := "(LNotationDesk$Store;I)LNotationDesk$Part;" } : Jvm.MethodName)) ∈ lw_all := lw_g (lw_at lw_m4 223 rfl) rfl
theorem q1039 : (Jvm.Cond.selects "NotationDesk$Tagged" ({ cls := "NotationDesk$Type", name := "unpack", desc := "(LNotationDesk$Source;)LNotationDesk$Part;" } : Jvm.MethodName) ({ cls := "NotationDesk$Tagged", name := "unpack", desc := "(LNotationDesk$Source;)LNotationDesk$Part;" } : Jvm.MethodName)) ∈ lw_all := lw_g (lw_at lw_m4 234 rfl) rfl
theorem q1090 : (Jvm.Cond.instanceMethod ({ cls := "NotationDesk$Tagged", name := "read", desc := "(LNotationDesk$Source;I)LNotationDesk$Part;" } : Jvm.MethodName)) ∈ lw_all := lw_g (lw_at lw_m5 45 rfl) rfl
theorem q1091 : (Jvm.Cond.code ({ cls := "NotationDesk$Tagged", name := "read", desc := "(LNotationDesk$Source;I)LNotationDesk$Part;" } : Jvm.MethodName) prog_14_method_7_code (5 : Nat) (Option.some (Jvm.ClassFile.FieldType.object "NotationDesk$Part"))) ∈ lw_all := lw_g (lw_at lw_m5 46 rfl) rfl
theorem q1092 : (Jvm.Cond.methodLink "NotationDesk$Tagged" (39 : Nat) ({ cls := "NotationDesk$Type", name := "read", desc := "(LNotationDesk$Source;I)LNotationDesk$Part;" } : Jvm.MethodName)) ∈ lw_all := lw_g (lw_at lw_m5 47 rfl) rfl
theorem q1093 : (Jvm.Cond.methodLink "NotationDesk$Tagged" (43 : Nat) ({ cls := "NotationDesk$Source", name := "enter", desc := "(I)Z" } : Jvm.MethodName)) ∈ lw_all := lw_g (lw_at lw_m5 48 rfl) rfl
theorem q1094 : (Jvm.Cond.methodLink "NotationDesk$Tagged" (48 : Nat) ({ cls := "NotationDesk$Source", name := "leave", desc := "()Z" } : Jvm.MethodName)) ∈ lw_all := lw_g (lw_at lw_m5 49 rfl) rfl
theorem q1104 : (Jvm.Cond.selects "NotationDesk$Tagged" ({ cls := "NotationDesk$Type", name := "read", desc := "(LNotationDesk$Source;I)LNotationDesk$Part;" } : Jvm.MethodName) ({ cls := "NotationDesk$Tagged", name := "read", desc := "(LNotationDesk$Source;I)LNotationDesk$Part;" } : Jvm.MethodName)) ∈ lw_all := lw_g (lw_at lw_m5 59 rfl) rfl
theorem q1195 : (Jvm.Cond.instanceMethod ({ cls := "NotationDesk$Tagged", name := "size", desc := "(LNotationDesk$Part;)I" } : Jvm.MethodName)) ∈ lw_all := lw_g (lw_at lw_m5 150 rfl) rfl
theorem q1196 : (Jvm.Cond.code ({ cls := "NotationDesk$Tagged", name := "size", desc := "(LNotationDesk$Part;)I" } : Jvm.MethodName) prog_14_method_8_code (2 : Nat) (Option.some Jvm.ClassFile.FieldType.int)) ∈ lw_all := lw_g (lw_at lw_m5 151 rfl) rfl
theorem q1197 : (Jvm.Cond.methodLink "NotationDesk$Tagged" (51 : Nat) ({ cls := "NotationDesk$Type", name := "size", desc := "(LNotationDesk$Part;)I" } : Jvm.MethodName)) ∈ lw_all := lw_g (lw_at lw_m5 152 rfl) rfl
theorem q1198 : (Jvm.Cond.methodLinkNest "NotationDesk$Tagged" (55 : Nat) ({ cls := "NotationDesk", name := "headed", desc := "(I)I" } : Jvm.MethodName) "NotationDesk") ∈ lw_tbl := lw_at lw_m5 153 rfl
theorem q1204 : (Jvm.Cond.selects "NotationDesk$Tagged" ({ cls := "NotationDesk$Type", name := "size", desc := "(LNotationDesk$Part;)I" } : Jvm.MethodName) ({ cls := "NotationDesk$Tagged", name := "size", desc := "(LNotationDesk$Part;)I" } : Jvm.MethodName)) ∈ lw_all := lw_g (lw_at lw_m5 159 rfl) rfl
theorem q1211 : (Jvm.Cond.instanceMethod ({ cls := "NotationDesk$Tagged", name := "write", desc := "(LNotationDesk$Part;LNotationDesk$Writer;I)V" } : Jvm.MethodName)) ∈ lw_all := lw_g (lw_at lw_m5 166 rfl) rfl
theorem q1212 : (Jvm.Cond.code ({ cls := "NotationDesk$Tagged", name := "write", desc := "(LNotationDesk$Part;LNotationDesk$Writer;I)V" } : Jvm.MethodName) prog_14_method_9_code (5 : Nat) (Option.none : Option Jvm.ClassFile.FieldType)) ∈ lw_all := lw_g (lw_at lw_m5 167 rfl) rfl
theorem q1213 : (Jvm.Cond.methodLink "NotationDesk$Tagged" (59 : Nat) ({ cls := "NotationDesk$Writer", name := "header", desc := "(II)V" } : Jvm.MethodName)) ∈ lw_all := lw_g (lw_at lw_m5 168 rfl) rfl
theorem q1214 : (Jvm.Cond.methodLink "NotationDesk$Tagged" (65 : Nat) ({ cls := "NotationDesk$Type", name := "write", desc := "(LNotationDesk$Part;LNotationDesk$Writer;I)V" } : Jvm.MethodName)) ∈ lw_all := lw_g (lw_at lw_m5 169 rfl) rfl
theorem q1219 : (Jvm.Cond.selects "NotationDesk$Tagged" ({ cls := "NotationDesk$Type", name := "write", desc := "(LNotationDesk$Part;LNotationDesk$Writer;I)V" } : Jvm.MethodName) ({ cls := "NotationDesk$Tagged", name := "write", desc := "(LNotationDesk$Part;LNotationDesk$Writer;I)V" } : Jvm.MethodName)) ∈ lw_all := lw_g (lw_at lw_m5 174 rfl) rfl
theorem q1260 : (Jvm.Cond.instanceMethod ({ cls := "NotationDesk$Tagged", name := "pack", desc := "(LNotationDesk$Part;LNotationDesk$Writer;)V" } : Jvm.MethodName)) ∈ lw_all := lw_g (lw_at lw_m5 215 rfl) rfl
theorem q1261 : (Jvm.Cond.code ({ cls := "NotationDesk$Tagged", name := "pack", desc := "(LNotationDesk$Part;LNotationDesk$Writer;)V" } : Jvm.MethodName) prog_14_method_11_code (3 : Nat) (Option.none : Option Jvm.ClassFile.FieldType)) ∈ lw_all := lw_g (lw_at lw_m5 216 rfl) rfl
theorem q1262 : (Jvm.Cond.methodLink "NotationDesk$Tagged" (73 : Nat) ({ cls := "NotationDesk$Type", name := "pack", desc := "(LNotationDesk$Part;LNotationDesk$Writer;)V" } : Jvm.MethodName)) ∈ lw_all := lw_g (lw_at lw_m5 217 rfl) rfl
theorem q1267 : (Jvm.Cond.selects "NotationDesk$Tagged" ({ cls := "NotationDesk$Type", name := "pack", desc := "(LNotationDesk$Part;LNotationDesk$Writer;)V" } : Jvm.MethodName) ({ cls := "NotationDesk$Tagged", name := "pack", desc := "(LNotationDesk$Part;LNotationDesk$Writer;)V" } : Jvm.MethodName)) ∈ lw_all := lw_g (lw_at lw_m5 222 rfl) rfl
theorem q1823 : (Jvm.Cond.castable "NotationDesk$Tagged" "java/lang/Object") ∈ lw_tbl := lw_at lw_m8 58 rfl
theorem q1838 : (Jvm.Cond.castable "NotationDesk$Tagged" "NotationDesk$Type") ∈ lw_tbl := lw_at lw_m8 73 rfl
theorem in_X16 : ∀ w ∈ wsX160, w ∈ lw_all := lw_in wsX160 [649, 651, 653] (by decide +kernel) (by decide +kernel)
/-! NotationDesk$Part -/
set_option maxRecDepth 100000
def RX17 : String := "NotationDesk$Part"
def TX17 : u_T := fun k => match k with
  | 0 => ("NotationDesk$Part", "kind", "I", false)
  | 1 => ("NotationDesk$Part", "number", "I", false)
  | 2 => ("NotationDesk$Part", "from", "I", false)
  | 3 => ("NotationDesk$Part", "which", "I", false)
  | 4 => ("NotationDesk$Part", "above", "I", false)
  | 5 => ("NotationDesk$Part", "place", "I", false)
  | 6 => ("NotationDesk$Part", "first", "LNotationDesk$Part;", false)
  | 7 => ("NotationDesk$Part", "last", "LNotationDesk$Part;", false)
  | _ => ("NotationDesk$Part", "next", "LNotationDesk$Part;", false)
def tyX17 : Nat → FieldType := fun k => match k with
  | 0 => .int
  | 1 => .int
  | 2 => .int
  | 3 => .int
  | 4 => .int
  | 5 => .int
  | 6 => .object "NotationDesk$Part"
  | 7 => .object "NotationDesk$Part"
  | _ => .object "NotationDesk$Part"
abbrev wsX170 : List Cond := u_ws RX17 TX17 9
theorem nmX17 : ∀ a, a < 9 → ∀ b, b < 9 → a ≠ b → (TX17 a).2.1 ≠ (TX17 b).2.1 := by decide +kernel
theorem tyX17_ok : ∀ k, k < 9 → parseFieldDescriptor (TX17 k).2.2.1 = some (tyX17 k) := by decide +kernel
abbrev cX17_init : ByteArray := prog_7_method_1_code
def yX17_init : MethodName := ⟨RX17, "<init>", "()V"⟩
theorem dX17_init_0 : decode cX17_init 0 = .ok (.aload_n 0, 1) := by decide +kernel
theorem dX17_init_1 : decode cX17_init 1 = .ok (.invokespecial 1, 3) := by decide +kernel
theorem dX17_init_4 : decode cX17_init 4 = .ok (.return_, 1) := by decide +kernel
abbrev cX17_add : ByteArray := prog_7_method_2_code
def yX17_add : MethodName := ⟨RX17, "add", "(LNotationDesk$Part;I)V"⟩
def dkwX17_add_1 : List UInt8 := [167, 0, 11, 42, 180, 0, 20, 43, 181, 0, 13, 42, 43, 181, 0, 20, 177]
abbrev dktX17_add_1 : List UInt8 := dkwX17_add_1 ++ []
def dkwX17_add_0 : List UInt8 := [43, 28, 181, 0, 7, 43, 1, 181, 0, 13, 42, 180, 0, 17, 199, 0, 11, 42, 43, 181, 0, 17]
abbrev dktX17_add_0 : List UInt8 := dkwX17_add_0 ++ dktX17_add_1
theorem dksX17_add_0 : cX17_add.data.toList.drop 0 = dktX17_add_0 := by decide +kernel
theorem dksX17_add_1 : cX17_add.data.toList.drop 22 = dktX17_add_1 := dk_seg dksX17_add_0 22 rfl rfl
theorem dX17_add_0 : decode cX17_add 0 = .ok (.aload_n 1, 1) := dk_43 (dk_at dksX17_add_0 0 rfl rfl)
theorem dX17_add_1 : decode cX17_add 1 = .ok (.iload_n 2, 1) := dk_28 (dk_at dksX17_add_0 1 rfl rfl)
theorem dX17_add_2 : decode cX17_add 2 = .ok (.putfield 7, 3) := dk_181 0 7 (dk_at dksX17_add_0 2 rfl rfl)
theorem dX17_add_5 : decode cX17_add 5 = .ok (.aload_n 1, 1) := dk_43 (dk_at dksX17_add_0 5 rfl rfl)
theorem dX17_add_6 : decode cX17_add 6 = .ok (.aconst_null, 1) := dk_1 (dk_at dksX17_add_0 6 rfl rfl)
theorem dX17_add_7 : decode cX17_add 7 = .ok (.putfield 13, 3) := dk_181 0 13 (dk_at dksX17_add_0 7 rfl rfl)
theorem dX17_add_10 : decode cX17_add 10 = .ok (.aload_n 0, 1) := dk_42 (dk_at dksX17_add_0 10 rfl rfl)
theorem dX17_add_11 : decode cX17_add 11 = .ok (.getfield 17, 3) := dk_180 0 17 (dk_at dksX17_add_0 11 rfl rfl)
theorem dX17_add_14 : decode cX17_add 14 = .ok (.ifnonnull 11, 3) := dk_199 0 11 (dk_at dksX17_add_0 14 rfl rfl)
theorem dX17_add_17 : decode cX17_add 17 = .ok (.aload_n 0, 1) := dk_42 (dk_at dksX17_add_0 17 rfl rfl)
theorem dX17_add_18 : decode cX17_add 18 = .ok (.aload_n 1, 1) := dk_43 (dk_at dksX17_add_0 18 rfl rfl)
theorem dX17_add_19 : decode cX17_add 19 = .ok (.putfield 17, 3) := dk_181 0 17 (dk_at dksX17_add_0 19 rfl rfl)
theorem dX17_add_22 : decode cX17_add 22 = .ok (.goto 11, 3) := dk_167 0 11 (dk_at dksX17_add_1 0 rfl rfl)
theorem dX17_add_25 : decode cX17_add 25 = .ok (.aload_n 0, 1) := dk_42 (dk_at dksX17_add_1 3 rfl rfl)
theorem dX17_add_26 : decode cX17_add 26 = .ok (.getfield 20, 3) := dk_180 0 20 (dk_at dksX17_add_1 4 rfl rfl)
theorem dX17_add_29 : decode cX17_add 29 = .ok (.aload_n 1, 1) := dk_43 (dk_at dksX17_add_1 7 rfl rfl)
theorem dX17_add_30 : decode cX17_add 30 = .ok (.putfield 13, 3) := dk_181 0 13 (dk_at dksX17_add_1 8 rfl rfl)
theorem dX17_add_33 : decode cX17_add 33 = .ok (.aload_n 0, 1) := dk_42 (dk_at dksX17_add_1 11 rfl rfl)
theorem dX17_add_34 : decode cX17_add 34 = .ok (.aload_n 1, 1) := dk_43 (dk_at dksX17_add_1 12 rfl rfl)
theorem dX17_add_35 : decode cX17_add 35 = .ok (.putfield 20, 3) := dk_181 0 20 (dk_at dksX17_add_1 13 rfl rfl)
theorem dX17_add_38 : decode cX17_add 38 = .ok (.return_, 1) := dk_177 (dk_at dksX17_add_1 16 rfl rfl)
abbrev cX17_component : ByteArray := prog_7_method_3_code
def yX17_component : MethodName := ⟨RX17, "component", "(I)LNotationDesk$Part;"⟩
def dkwX17_component_1 : List UInt8 := [167, 255, 237, 1, 176]
abbrev dktX17_component_1 : List UInt8 := dkwX17_component_1 ++ []
def dkwX17_component_0 : List UInt8 := [42, 180, 0, 17, 77, 44, 198, 0, 21, 44, 180, 0, 7, 27, 160, 0, 5, 44, 176, 44, 180, 0, 13, 77]
abbrev dktX17_component_0 : List UInt8 := dkwX17_component_0 ++ dktX17_component_1
theorem dksX17_component_0 : cX17_component.data.toList.drop 0 = dktX17_component_0 := by decide +kernel
theorem dksX17_component_1 : cX17_component.data.toList.drop 24 = dktX17_component_1 := dk_seg dksX17_component_0 24 rfl rfl
theorem dX17_component_0 : decode cX17_component 0 = .ok (.aload_n 0, 1) := dk_42 (dk_at dksX17_component_0 0 rfl rfl)
theorem dX17_component_1 : decode cX17_component 1 = .ok (.getfield 17, 3) := dk_180 0 17 (dk_at dksX17_component_0 1 rfl rfl)
theorem dX17_component_4 : decode cX17_component 4 = .ok (.astore_n 2, 1) := dk_77 (dk_at dksX17_component_0 4 rfl rfl)
theorem dX17_component_5 : decode cX17_component 5 = .ok (.aload_n 2, 1) := dk_44 (dk_at dksX17_component_0 5 rfl rfl)
theorem dX17_component_6 : decode cX17_component 6 = .ok (.ifnull 21, 3) := dk_198 0 21 (dk_at dksX17_component_0 6 rfl rfl)
theorem dX17_component_9 : decode cX17_component 9 = .ok (.aload_n 2, 1) := dk_44 (dk_at dksX17_component_0 9 rfl rfl)
theorem dX17_component_10 : decode cX17_component 10 = .ok (.getfield 7, 3) := dk_180 0 7 (dk_at dksX17_component_0 10 rfl rfl)
theorem dX17_component_13 : decode cX17_component 13 = .ok (.iload_n 1, 1) := dk_27 (dk_at dksX17_component_0 13 rfl rfl)
theorem dX17_component_14 : decode cX17_component 14 = .ok (.if_icmp .ne 5, 3) := dk_160 0 5 (dk_at dksX17_component_0 14 rfl rfl)
theorem dX17_component_17 : decode cX17_component 17 = .ok (.aload_n 2, 1) := dk_44 (dk_at dksX17_component_0 17 rfl rfl)
theorem dX17_component_18 : decode cX17_component 18 = .ok (.areturn, 1) := dk_176 (dk_at dksX17_component_0 18 rfl rfl)
theorem dX17_component_19 : decode cX17_component 19 = .ok (.aload_n 2, 1) := dk_44 (dk_at dksX17_component_0 19 rfl rfl)
theorem dX17_component_20 : decode cX17_component 20 = .ok (.getfield 13, 3) := dk_180 0 13 (dk_at dksX17_component_0 20 rfl rfl)
theorem dX17_component_23 : decode cX17_component 23 = .ok (.astore_n 2, 1) := dk_77 (dk_at dksX17_component_0 23 rfl rfl)
theorem dX17_component_24 : decode cX17_component 24 = .ok (.goto (-19), 3) := dk_167 255 237 (dk_at dksX17_component_1 0 rfl rfl)
theorem dX17_component_27 : decode cX17_component 27 = .ok (.aconst_null, 1) := dk_1 (dk_at dksX17_component_1 3 rfl rfl)
theorem dX17_component_28 : decode cX17_component 28 = .ok (.areturn, 1) := dk_176 (dk_at dksX17_component_1 4 rfl rfl)
theorem q111 : (Jvm.Cond.initialized "NotationDesk$Part") ∈ lw_all := lw_g (lw_at lw_m1 26 rfl) rfl
theorem q900 : (Jvm.Cond.instantiable "NotationDesk$Part" (9 : Nat)) ∈ lw_all := lw_g (lw_at lw_m4 95 rfl) rfl
theorem q902 : (Jvm.Cond.instanceMethod ({ cls := "NotationDesk$Part", name := "<init>", desc := "()V" } : Jvm.MethodName)) ∈ lw_all := lw_g (lw_at lw_m4 97 rfl) rfl
theorem q903 : (Jvm.Cond.code ({ cls := "NotationDesk$Part", name := "<init>", desc := "()V" } : Jvm.MethodName) prog_7_method_1_code (1 : Nat) (Option.none : Option Jvm.ClassFile.FieldType)) ∈ lw_all := lw_g (lw_at lw_m4 98 rfl) rfl
theorem q904 : (Jvm.Cond.methodLink "NotationDesk$Part" (1 : Nat) ({ cls := "java/lang/Object", name := "<init>", desc := "()V" } : Jvm.MethodName)) ∈ lw_all := lw_g (lw_at lw_m4 99 rfl) rfl
theorem q917 : (Jvm.Cond.fieldLink "NotationDesk$Part" (7 : Nat) "NotationDesk$Part" "which" "I") ∈ lw_all := lw_g (lw_at lw_m4 112 rfl) rfl
theorem q923 : (Jvm.Cond.fieldLink "NotationDesk$Part" (17 : Nat) "NotationDesk$Part" "first" "LNotationDesk$Part;") ∈ lw_all := lw_g (lw_at lw_m4 118 rfl) rfl
theorem q927 : (Jvm.Cond.fieldLink "NotationDesk$Part" (20 : Nat) "NotationDesk$Part" "last" "LNotationDesk$Part;") ∈ lw_all := lw_g (lw_at lw_m4 122 rfl) rfl
theorem q929 : (Jvm.Cond.fieldLink "NotationDesk$Part" (13 : Nat) "NotationDesk$Part" "next" "LNotationDesk$Part;") ∈ lw_all := lw_g (lw_at lw_m4 124 rfl) rfl
theorem q932 : (Jvm.Cond.lays "NotationDesk$Part" "NotationDesk$Part" "kind" "I") ∈ lw_all := lw_g (lw_at lw_m4 127 rfl) rfl
theorem q933 : (Jvm.Cond.soleField "NotationDesk$Part" "kind") ∈ lw_all := lw_g (lw_at lw_m4 128 rfl) rfl
theorem q934 : (Jvm.Cond.lays "NotationDesk$Part" "NotationDesk$Part" "number" "I") ∈ lw_all := lw_g (lw_at lw_m4 129 rfl) rfl
theorem q935 : (Jvm.Cond.soleField "NotationDesk$Part" "number") ∈ lw_all := lw_g (lw_at lw_m4 130 rfl) rfl
theorem q936 : (Jvm.Cond.lays "NotationDesk$Part" "NotationDesk$Part" "from" "I") ∈ lw_all := lw_g (lw_at lw_m4 131 rfl) rfl
theorem q937 : (Jvm.Cond.soleField "NotationDesk$Part" "from") ∈ lw_all := lw_g (lw_at lw_m4 132 rfl) rfl
theorem q938 : (Jvm.Cond.lays "NotationDesk$Part" "NotationDesk$Part" "which" "I") ∈ lw_all := lw_g (lw_at lw_m4 133 rfl) rfl
theorem q939 : (Jvm.Cond.soleField "NotationDesk$Part" "which") ∈ lw_all := lw_g (lw_at lw_m4 134 rfl) rfl
theorem q940 : (Jvm.Cond.lays "NotationDesk$Part" "NotationDesk$Part" "above" "I") ∈ lw_all := lw_g (lw_at lw_m4 135 rfl) rfl
theorem q941 : (Jvm.Cond.soleField "NotationDesk$Part" "above") ∈ lw_all := lw_g (lw_at lw_m4 136 rfl) rfl
theorem q942 : (Jvm.Cond.lays "NotationDesk$Part" "NotationDesk$Part" "place" "I") ∈ lw_all := lw_g (lw_at lw_m4 137 rfl) rfl
theorem q943 : (Jvm.Cond.soleField "NotationDesk$Part" "place") ∈ lw_all := lw_g (lw_at lw_m4 138 rfl) rfl
theorem q944 : (Jvm.Cond.lays "NotationDesk$Part" "NotationDesk$Part" "first" "LNotationDesk$Part;") ∈ lw_all := lw_g (lw_at lw_m4 139 rfl) rfl
theorem q945 : (Jvm.Cond.soleField "NotationDesk$Part" "first") ∈ lw_all := lw_g (lw_at lw_m4 140 rfl) rfl
theorem q946 : (Jvm.Cond.lays "NotationDesk$Part" "NotationDesk$Part" "last" "LNotationDesk$Part;") ∈ lw_all := lw_g (lw_at lw_m4 141 rfl) rfl
theorem q947 : (Jvm.Cond.soleField "NotationDesk$Part" "last") ∈ lw_all := lw_g (lw_at lw_m4 142 rfl) rfl
theorem q948 : (Jvm.Cond.lays "NotationDesk$Part" "NotationDesk$Part" "next" "LNotationDesk$Part;") ∈ lw_all := lw_g (lw_at lw_m4 143 rfl) rfl
theorem q949 : (Jvm.Cond.soleField "NotationDesk$Part" "next") ∈ lw_all := lw_g (lw_at lw_m4 144 rfl) rfl
theorem q950 : (Jvm.Cond.superclass "NotationDesk$Part" "java/lang/Object") ∈ lw_all := lw_g (lw_at lw_m4 145 rfl) rfl
theorem q1010 : (Jvm.Cond.instanceMethod ({ cls := "NotationDesk$Part", name := "add", desc := "(LNotationDesk$Part;I)V" } : Jvm.MethodName)) ∈ lw_all := lw_g (lw_at lw_m4 205 rfl) rfl
theorem q1011 : (Jvm.Cond.selects "NotationDesk$Part" ({ cls := "NotationDesk$Part", name := "add", desc := "(LNotationDesk$Part;I)V" } : Jvm.MethodName) ({ cls := "NotationDesk$Part", name := "add", desc := "(LNotationDesk$Part;I)V" } : Jvm.MethodName)) ∈ lw_all := lw_g (lw_at lw_m4 206 rfl) rfl
theorem q1012 : (Jvm.Cond.code ({ cls := "NotationDesk$Part", name := "add", desc := "(LNotationDesk$Part;I)V" } : Jvm.MethodName) prog_7_method_2_code (3 : Nat) (Option.none : Option Jvm.ClassFile.FieldType)) ∈ lw_all := lw_g (lw_at lw_m4 207 rfl) rfl
theorem q1170 : (Jvm.Cond.instanceMethod ({ cls := "NotationDesk$Part", name := "component", desc := "(I)LNotationDesk$Part;" } : Jvm.MethodName)) ∈ lw_all := lw_g (lw_at lw_m5 125 rfl) rfl
theorem q1171 : (Jvm.Cond.selects "NotationDesk$Part" ({ cls := "NotationDesk$Part", name := "component", desc := "(I)LNotationDesk$Part;" } : Jvm.MethodName) ({ cls := "NotationDesk$Part", name := "component", desc := "(I)LNotationDesk$Part;" } : Jvm.MethodName)) ∈ lw_all := lw_g (lw_at lw_m5 126 rfl) rfl
theorem q1172 : (Jvm.Cond.code ({ cls := "NotationDesk$Part", name := "component", desc := "(I)LNotationDesk$Part;" } : Jvm.MethodName) prog_7_method_3_code (3 : Nat) (Option.some (Jvm.ClassFile.FieldType.object "NotationDesk$Part"))) ∈ lw_all := lw_g (lw_at lw_m5 127 rfl) rfl
theorem q1829 : (Jvm.Cond.castable "NotationDesk$Part" "java/lang/Object") ∈ lw_tbl := lw_at lw_m8 64 rfl
theorem in_X17 : ∀ w ∈ wsX170, w ∈ lw_all := lw_in wsX170 [932, 934, 936, 938, 940, 942, 944, 946, 948] (by decide +kernel) (by decide +kernel)
