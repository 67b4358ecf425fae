set_option maxRecDepth 100000
abbrev cX1_within : ByteArray := prog_1_method_1_code
abbrev yX1_within : MethodName := { cls := "WornSkin", name := "within", desc := "(III)Z" }
def dkwX1_within_0 : List UInt8 := [26, 27, 161, 0, 12, 26, 28, 163, 0, 7, 4, 167, 0, 4, 3, 172]
abbrev dktX1_within_0 : List UInt8 := dkwX1_within_0 ++ []
theorem dksX1_within_0 : cX1_within.data.toList.drop 0 = dktX1_within_0 := by decide +kernel
theorem dX1_within_0 : decode cX1_within 0 = .ok (.iload_n 0, 1) := dk_26 (dk_at dksX1_within_0 0 rfl rfl)
theorem dX1_within_1 : decode cX1_within 1 = .ok (.iload_n 1, 1) := dk_27 (dk_at dksX1_within_0 1 rfl rfl)
theorem dX1_within_2 : decode cX1_within 2 = .ok (.if_icmp .lt 12, 3) := dk_161 0 12 (dk_at dksX1_within_0 2 rfl rfl)
theorem dX1_within_5 : decode cX1_within 5 = .ok (.iload_n 0, 1) := dk_26 (dk_at dksX1_within_0 5 rfl rfl)
theorem dX1_within_6 : decode cX1_within 6 = .ok (.iload_n 2, 1) := dk_28 (dk_at dksX1_within_0 6 rfl rfl)
theorem dX1_within_7 : decode cX1_within 7 = .ok (.if_icmp .gt 7, 3) := dk_163 0 7 (dk_at dksX1_within_0 7 rfl rfl)
theorem dX1_within_10 : decode cX1_within 10 = .ok (.iconst 1, 1) := dk_4 (dk_at dksX1_within_0 10 rfl rfl)
theorem dX1_within_11 : decode cX1_within 11 = .ok (.goto 4, 3) := dk_167 0 4 (dk_at dksX1_within_0 11 rfl rfl)
theorem dX1_within_14 : decode cX1_within 14 = .ok (.iconst 0, 1) := dk_3 (dk_at dksX1_within_0 14 rfl rfl)
theorem dX1_within_15 : decode cX1_within 15 = .ok (.ireturn, 1) := dk_172 (dk_at dksX1_within_0 15 rfl rfl)
abbrev cX1_has : ByteArray := prog_1_method_2_code
abbrev yX1_has : MethodName := { cls := "WornSkin", name := "has", desc := "(II)Z" }
def dkwX1_has_0 : List UInt8 := [26, 27, 122, 4, 126, 4, 160, 0, 7, 4, 167, 0, 4, 3, 172]
abbrev dktX1_has_0 : List UInt8 := dkwX1_has_0 ++ []
theorem dksX1_has_0 : cX1_has.data.toList.drop 0 = dktX1_has_0 := by decide +kernel
theorem dX1_has_0 : decode cX1_has 0 = .ok (.iload_n 0, 1) := dk_26 (dk_at dksX1_has_0 0 rfl rfl)
theorem dX1_has_1 : decode cX1_has 1 = .ok (.iload_n 1, 1) := dk_27 (dk_at dksX1_has_0 1 rfl rfl)
theorem dX1_has_2 : decode cX1_has 2 = .ok (.ishr, 1) := dk_122 (dk_at dksX1_has_0 2 rfl rfl)
theorem dX1_has_3 : decode cX1_has 3 = .ok (.iconst 1, 1) := dk_4 (dk_at dksX1_has_0 3 rfl rfl)
theorem dX1_has_4 : decode cX1_has 4 = .ok (.iand, 1) := dk_126 (dk_at dksX1_has_0 4 rfl rfl)
theorem dX1_has_5 : decode cX1_has 5 = .ok (.iconst 1, 1) := dk_4 (dk_at dksX1_has_0 5 rfl rfl)
theorem dX1_has_6 : decode cX1_has 6 = .ok (.if_icmp .ne 7, 3) := dk_160 0 7 (dk_at dksX1_has_0 6 rfl rfl)
theorem dX1_has_9 : decode cX1_has 9 = .ok (.iconst 1, 1) := dk_4 (dk_at dksX1_has_0 9 rfl rfl)
theorem dX1_has_10 : decode cX1_has 10 = .ok (.goto 4, 3) := dk_167 0 4 (dk_at dksX1_has_0 10 rfl rfl)
theorem dX1_has_13 : decode cX1_has 13 = .ok (.iconst 0, 1) := dk_3 (dk_at dksX1_has_0 13 rfl rfl)
theorem dX1_has_14 : decode cX1_has 14 = .ok (.ireturn, 1) := dk_172 (dk_at dksX1_has_0 14 rfl rfl)
abbrev cX1_bits : ByteArray := prog_1_method_3_code
abbrev yX1_bits : MethodName := { cls := "WornSkin", name := "bits", desc := "(I)I" }
def dkwX1_bits_0 : List UInt8 := [3, 60, 26, 61, 28, 153, 0, 15, 132, 1, 1, 28, 28, 4, 100, 126, 61, 167, 255, 243, 27, 172]
abbrev dktX1_bits_0 : List UInt8 := dkwX1_bits_0 ++ []
theorem dksX1_bits_0 : cX1_bits.data.toList.drop 0 = dktX1_bits_0 := by decide +kernel
theorem dX1_bits_0 : decode cX1_bits 0 = .ok (.iconst 0, 1) := dk_3 (dk_at dksX1_bits_0 0 rfl rfl)
theorem dX1_bits_1 : decode cX1_bits 1 = .ok (.istore_n 1, 1) := dk_60 (dk_at dksX1_bits_0 1 rfl rfl)
theorem dX1_bits_2 : decode cX1_bits 2 = .ok (.iload_n 0, 1) := dk_26 (dk_at dksX1_bits_0 2 rfl rfl)
theorem dX1_bits_3 : decode cX1_bits 3 = .ok (.istore_n 2, 1) := dk_61 (dk_at dksX1_bits_0 3 rfl rfl)
theorem dX1_bits_4 : decode cX1_bits 4 = .ok (.iload_n 2, 1) := dk_28 (dk_at dksX1_bits_0 4 rfl rfl)
theorem dX1_bits_5 : decode cX1_bits 5 = .ok (.ifCond .eq 15, 3) := dk_153 0 15 (dk_at dksX1_bits_0 5 rfl rfl)
theorem dX1_bits_8 : decode cX1_bits 8 = .ok (.iinc 1 1, 3) := dk_132 1 1 (dk_at dksX1_bits_0 8 rfl rfl)
theorem dX1_bits_11 : decode cX1_bits 11 = .ok (.iload_n 2, 1) := dk_28 (dk_at dksX1_bits_0 11 rfl rfl)
theorem dX1_bits_12 : decode cX1_bits 12 = .ok (.iload_n 2, 1) := dk_28 (dk_at dksX1_bits_0 12 rfl rfl)
theorem dX1_bits_13 : decode cX1_bits 13 = .ok (.iconst 1, 1) := dk_4 (dk_at dksX1_bits_0 13 rfl rfl)
theorem dX1_bits_14 : decode cX1_bits 14 = .ok (.isub, 1) := dk_100 (dk_at dksX1_bits_0 14 rfl rfl)
theorem dX1_bits_15 : decode cX1_bits 15 = .ok (.iand, 1) := dk_126 (dk_at dksX1_bits_0 15 rfl rfl)
theorem dX1_bits_16 : decode cX1_bits 16 = .ok (.istore_n 2, 1) := dk_61 (dk_at dksX1_bits_0 16 rfl rfl)
theorem dX1_bits_17 : decode cX1_bits 17 = .ok (.goto (-13), 3) := dk_167 255 243 (dk_at dksX1_bits_0 17 rfl rfl)
theorem dX1_bits_20 : decode cX1_bits 20 = .ok (.iload_n 1, 1) := dk_27 (dk_at dksX1_bits_0 20 rfl rfl)
theorem dX1_bits_21 : decode cX1_bits 21 = .ok (.ireturn, 1) := dk_172 (dk_at dksX1_bits_0 21 rfl rfl)
abbrev cX1_made : ByteArray := prog_1_method_4_code
abbrev yX1_made : MethodName := { cls := "WornSkin", name := "made", desc := "(IZI)LWornSkin$Text;" }
def dkwX1_made_3 : List UInt8 := [27, 28, 183, 0, 12, 176, 187, 0, 13, 89, 27, 28, 183, 0, 15, 176]
abbrev dktX1_made_3 : List UInt8 := dkwX1_made_3 ++ []
def dkwX1_made_2 : List UInt8 := [187, 0, 1, 89, 27, 28, 183, 0, 3, 176, 187, 0, 7, 89, 27, 28, 183, 0, 9, 176, 187, 0, 10, 89]
abbrev dktX1_made_2 : List UInt8 := dkwX1_made_2 ++ dktX1_made_3
def dkwX1_made_1 : List UInt8 := [170, 0, 0, 0, 0, 0, 57, 0, 0, 0, 1, 0, 0, 0, 3, 0, 0, 0, 27, 0, 0, 0, 37, 0, 0, 0, 47]
abbrev dktX1_made_1 : List UInt8 := dkwX1_made_1 ++ dktX1_made_2
def dkwX1_made_0 : List UInt8 := [26]
abbrev dktX1_made_0 : List UInt8 := dkwX1_made_0 ++ dktX1_made_1
theorem dksX1_made_0 : cX1_made.data.toList.drop 0 = dktX1_made_0 := by decide +kernel
theorem dksX1_made_1 : cX1_made.data.toList.drop 1 = dktX1_made_1 := dk_seg dksX1_made_0 1 rfl rfl
theorem dksX1_made_2 : cX1_made.data.toList.drop 28 = dktX1_made_2 := dk_seg dksX1_made_1 27 rfl rfl
theorem dksX1_made_3 : cX1_made.data.toList.drop 52 = dktX1_made_3 := dk_seg dksX1_made_2 24 rfl rfl
theorem dX1_made_0 : decode cX1_made 0 = .ok (.iload_n 0, 1) := dk_26 (dk_at dksX1_made_0 0 rfl rfl)
theorem dX1_made_1 : decode cX1_made 1 = .ok (.tableswitch 57 1 3 #[27, 37, 47], 27) := by decide +kernel
theorem dX1_made_28 : decode cX1_made 28 = .ok (.new 1, 3) := dk_187 0 1 (dk_at dksX1_made_2 0 rfl rfl)
theorem dX1_made_31 : decode cX1_made 31 = .ok (.dup, 1) := dk_89 (dk_at dksX1_made_2 3 rfl rfl)
theorem dX1_made_32 : decode cX1_made 32 = .ok (.iload_n 1, 1) := dk_27 (dk_at dksX1_made_2 4 rfl rfl)
theorem dX1_made_33 : decode cX1_made 33 = .ok (.iload_n 2, 1) := dk_28 (dk_at dksX1_made_2 5 rfl rfl)
theorem dX1_made_34 : decode cX1_made 34 = .ok (.invokespecial 3, 3) := dk_183 0 3 (dk_at dksX1_made_2 6 rfl rfl)
theorem dX1_made_37 : decode cX1_made 37 = .ok (.areturn, 1) := dk_176 (dk_at dksX1_made_2 9 rfl rfl)
theorem dX1_made_38 : decode cX1_made 38 = .ok (.new 7, 3) := dk_187 0 7 (dk_at dksX1_made_2 10 rfl rfl)
theorem dX1_made_41 : decode cX1_made 41 = .ok (.dup, 1) := dk_89 (dk_at dksX1_made_2 13 rfl rfl)
theorem dX1_made_42 : decode cX1_made 42 = .ok (.iload_n 1, 1) := dk_27 (dk_at dksX1_made_2 14 rfl rfl)
theorem dX1_made_43 : decode cX1_made 43 = .ok (.iload_n 2, 1) := dk_28 (dk_at dksX1_made_2 15 rfl rfl)
theorem dX1_made_44 : decode cX1_made 44 = .ok (.invokespecial 9, 3) := dk_183 0 9 (dk_at dksX1_made_2 16 rfl rfl)
theorem dX1_made_47 : decode cX1_made 47 = .ok (.areturn, 1) := dk_176 (dk_at dksX1_made_2 19 rfl rfl)
theorem dX1_made_48 : decode cX1_made 48 = .ok (.new 10, 3) := dk_187 0 10 (dk_at dksX1_made_2 20 rfl rfl)
theorem dX1_made_51 : decode cX1_made 51 = .ok (.dup, 1) := dk_89 (dk_at dksX1_made_2 23 rfl rfl)
theorem dX1_made_52 : decode cX1_made 52 = .ok (.iload_n 1, 1) := dk_27 (dk_at dksX1_made_3 0 rfl rfl)
theorem dX1_made_53 : decode cX1_made 53 = .ok (.iload_n 2, 1) := dk_28 (dk_at dksX1_made_3 1 rfl rfl)
theorem dX1_made_54 : decode cX1_made 54 = .ok (.invokespecial 12, 3) := dk_183 0 12 (dk_at dksX1_made_3 2 rfl rfl)
theorem dX1_made_57 : decode cX1_made 57 = .ok (.areturn, 1) := dk_176 (dk_at dksX1_made_3 5 rfl rfl)
theorem dX1_made_58 : decode cX1_made 58 = .ok (.new 13, 3) := dk_187 0 13 (dk_at dksX1_made_3 6 rfl rfl)
theorem dX1_made_61 : decode cX1_made 61 = .ok (.dup, 1) := dk_89 (dk_at dksX1_made_3 9 rfl rfl)
theorem dX1_made_62 : decode cX1_made 62 = .ok (.iload_n 1, 1) := dk_27 (dk_at dksX1_made_3 10 rfl rfl)
theorem dX1_made_63 : decode cX1_made 63 = .ok (.iload_n 2, 1) := dk_28 (dk_at dksX1_made_3 11 rfl rfl)
theorem dX1_made_64 : decode cX1_made 64 = .ok (.invokespecial 15, 3) := dk_183 0 15 (dk_at dksX1_made_3 12 rfl rfl)
theorem dX1_made_67 : decode cX1_made 67 = .ok (.areturn, 1) := dk_176 (dk_at dksX1_made_3 15 rfl rfl)
abbrev cX1_gets : ByteArray := prog_1_method_51_code
abbrev yX1_gets : MethodName := { cls := "WornSkin", name := "gets", desc := "(ZZIII)I" }
def dkwX1_gets_1 : List UInt8 := [3, 172]
abbrev dktX1_gets_1 : List UInt8 := dkwX1_gets_1 ++ []
def dkwX1_gets_0 : List UInt8 := [26, 153, 0, 14, 27, 153, 0, 8, 28, 116, 167, 0, 4, 29, 172, 27, 153, 0, 8, 21, 4, 167, 0, 4]
abbrev dktX1_gets_0 : List UInt8 := dkwX1_gets_0 ++ dktX1_gets_1
theorem dksX1_gets_0 : cX1_gets.data.toList.drop 0 = dktX1_gets_0 := by decide +kernel
theorem dksX1_gets_1 : cX1_gets.data.toList.drop 24 = dktX1_gets_1 := dk_seg dksX1_gets_0 24 rfl rfl
theorem dX1_gets_0 : decode cX1_gets 0 = .ok (.iload_n 0, 1) := dk_26 (dk_at dksX1_gets_0 0 rfl rfl)
theorem dX1_gets_1 : decode cX1_gets 1 = .ok (.ifCond .eq 14, 3) := dk_153 0 14 (dk_at dksX1_gets_0 1 rfl rfl)
theorem dX1_gets_4 : decode cX1_gets 4 = .ok (.iload_n 1, 1) := dk_27 (dk_at dksX1_gets_0 4 rfl rfl)
theorem dX1_gets_5 : decode cX1_gets 5 = .ok (.ifCond .eq 8, 3) := dk_153 0 8 (dk_at dksX1_gets_0 5 rfl rfl)
theorem dX1_gets_8 : decode cX1_gets 8 = .ok (.iload_n 2, 1) := dk_28 (dk_at dksX1_gets_0 8 rfl rfl)
theorem dX1_gets_9 : decode cX1_gets 9 = .ok (.ineg, 1) := dk_116 (dk_at dksX1_gets_0 9 rfl rfl)
theorem dX1_gets_10 : decode cX1_gets 10 = .ok (.goto 4, 3) := dk_167 0 4 (dk_at dksX1_gets_0 10 rfl rfl)
theorem dX1_gets_13 : decode cX1_gets 13 = .ok (.iload_n 3, 1) := dk_29 (dk_at dksX1_gets_0 13 rfl rfl)
theorem dX1_gets_14 : decode cX1_gets 14 = .ok (.ireturn, 1) := dk_172 (dk_at dksX1_gets_0 14 rfl rfl)
theorem dX1_gets_15 : decode cX1_gets 15 = .ok (.iload_n 1, 1) := dk_27 (dk_at dksX1_gets_0 15 rfl rfl)
theorem dX1_gets_16 : decode cX1_gets 16 = .ok (.ifCond .eq 8, 3) := dk_153 0 8 (dk_at dksX1_gets_0 16 rfl rfl)
theorem dX1_gets_19 : decode cX1_gets 19 = .ok (.iload 4, 2) := dk_21 4 (dk_at dksX1_gets_0 19 rfl rfl)
theorem dX1_gets_21 : decode cX1_gets 21 = .ok (.goto 4, 3) := dk_167 0 4 (dk_at dksX1_gets_0 21 rfl rfl)
theorem dX1_gets_24 : decode cX1_gets 24 = .ok (.iconst 0, 1) := dk_3 (dk_at dksX1_gets_1 0 rfl rfl)
theorem dX1_gets_25 : decode cX1_gets 25 = .ok (.ireturn, 1) := dk_172 (dk_at dksX1_gets_1 1 rfl rfl)
abbrev cX1_isRest : ByteArray := prog_1_method_52_code
abbrev yX1_isRest : MethodName := { cls := "WornSkin", name := "isRest", desc := "(ZZIII)Z" }
def dkwX1_isRest_2 : List UInt8 := [26, 28, 29, 21, 4, 184, 1, 52, 163, 0, 7, 4, 167, 0, 4, 3, 172]
abbrev dktX1_isRest_2 : List UInt8 := dkwX1_isRest_2 ++ []
def dkwX1_isRest_1 : List UInt8 := [184, 1, 52, 163, 0, 36, 27, 154, 0, 7, 4, 167, 0, 4, 3, 26, 28, 29, 21, 4, 184, 1, 52, 27]
abbrev dktX1_isRest_1 : List UInt8 := dkwX1_isRest_1 ++ dktX1_isRest_2
def dkwX1_isRest_0 : List UInt8 := [26, 154, 0, 7, 4, 167, 0, 4, 3, 27, 28, 29, 21, 4, 184, 1, 52, 26, 27, 28, 29, 21, 4]
abbrev dktX1_isRest_0 : List UInt8 := dkwX1_isRest_0 ++ dktX1_isRest_1
theorem dksX1_isRest_0 : cX1_isRest.data.toList.drop 0 = dktX1_isRest_0 := by decide +kernel
theorem dksX1_isRest_1 : cX1_isRest.data.toList.drop 23 = dktX1_isRest_1 := dk_seg dksX1_isRest_0 23 rfl rfl
theorem dksX1_isRest_2 : cX1_isRest.data.toList.drop 47 = dktX1_isRest_2 := dk_seg dksX1_isRest_1 24 rfl rfl
theorem dX1_isRest_0 : decode cX1_isRest 0 = .ok (.iload_n 0, 1) := dk_26 (dk_at dksX1_isRest_0 0 rfl rfl)
theorem dX1_isRest_1 : decode cX1_isRest 1 = .ok (.ifCond .ne 7, 3) := dk_154 0 7 (dk_at dksX1_isRest_0 1 rfl rfl)
theorem dX1_isRest_4 : decode cX1_isRest 4 = .ok (.iconst 1, 1) := dk_4 (dk_at dksX1_isRest_0 4 rfl rfl)
theorem dX1_isRest_5 : decode cX1_isRest 5 = .ok (.goto 4, 3) := dk_167 0 4 (dk_at dksX1_isRest_0 5 rfl rfl)
theorem dX1_isRest_8 : decode cX1_isRest 8 = .ok (.iconst 0, 1) := dk_3 (dk_at dksX1_isRest_0 8 rfl rfl)
theorem dX1_isRest_9 : decode cX1_isRest 9 = .ok (.iload_n 1, 1) := dk_27 (dk_at dksX1_isRest_0 9 rfl rfl)
theorem dX1_isRest_10 : decode cX1_isRest 10 = .ok (.iload_n 2, 1) := dk_28 (dk_at dksX1_isRest_0 10 rfl rfl)
theorem dX1_isRest_11 : decode cX1_isRest 11 = .ok (.iload_n 3, 1) := dk_29 (dk_at dksX1_isRest_0 11 rfl rfl)
theorem dX1_isRest_12 : decode cX1_isRest 12 = .ok (.iload 4, 2) := dk_21 4 (dk_at dksX1_isRest_0 12 rfl rfl)
theorem dX1_isRest_14 : decode cX1_isRest 14 = .ok (.invokestatic 308, 3) := dk_184 1 52 (dk_at dksX1_isRest_0 14 rfl rfl)
theorem dX1_isRest_17 : decode cX1_isRest 17 = .ok (.iload_n 0, 1) := dk_26 (dk_at dksX1_isRest_0 17 rfl rfl)
theorem dX1_isRest_18 : decode cX1_isRest 18 = .ok (.iload_n 1, 1) := dk_27 (dk_at dksX1_isRest_0 18 rfl rfl)
theorem dX1_isRest_19 : decode cX1_isRest 19 = .ok (.iload_n 2, 1) := dk_28 (dk_at dksX1_isRest_0 19 rfl rfl)
theorem dX1_isRest_20 : decode cX1_isRest 20 = .ok (.iload_n 3, 1) := dk_29 (dk_at dksX1_isRest_0 20 rfl rfl)
theorem dX1_isRest_21 : decode cX1_isRest 21 = .ok (.iload 4, 2) := dk_21 4 (dk_at dksX1_isRest_0 21 rfl rfl)
theorem dX1_isRest_23 : decode cX1_isRest 23 = .ok (.invokestatic 308, 3) := dk_184 1 52 (dk_at dksX1_isRest_1 0 rfl rfl)
theorem dX1_isRest_26 : decode cX1_isRest 26 = .ok (.if_icmp .gt 36, 3) := dk_163 0 36 (dk_at dksX1_isRest_1 3 rfl rfl)
theorem dX1_isRest_29 : decode cX1_isRest 29 = .ok (.iload_n 1, 1) := dk_27 (dk_at dksX1_isRest_1 6 rfl rfl)
theorem dX1_isRest_30 : decode cX1_isRest 30 = .ok (.ifCond .ne 7, 3) := dk_154 0 7 (dk_at dksX1_isRest_1 7 rfl rfl)
theorem dX1_isRest_33 : decode cX1_isRest 33 = .ok (.iconst 1, 1) := dk_4 (dk_at dksX1_isRest_1 10 rfl rfl)
theorem dX1_isRest_34 : decode cX1_isRest 34 = .ok (.goto 4, 3) := dk_167 0 4 (dk_at dksX1_isRest_1 11 rfl rfl)
theorem dX1_isRest_37 : decode cX1_isRest 37 = .ok (.iconst 0, 1) := dk_3 (dk_at dksX1_isRest_1 14 rfl rfl)
theorem dX1_isRest_38 : decode cX1_isRest 38 = .ok (.iload_n 0, 1) := dk_26 (dk_at dksX1_isRest_1 15 rfl rfl)
theorem dX1_isRest_39 : decode cX1_isRest 39 = .ok (.iload_n 2, 1) := dk_28 (dk_at dksX1_isRest_1 16 rfl rfl)
theorem dX1_isRest_40 : decode cX1_isRest 40 = .ok (.iload_n 3, 1) := dk_29 (dk_at dksX1_isRest_1 17 rfl rfl)
theorem dX1_isRest_41 : decode cX1_isRest 41 = .ok (.iload 4, 2) := dk_21 4 (dk_at dksX1_isRest_1 18 rfl rfl)
theorem dX1_isRest_43 : decode cX1_isRest 43 = .ok (.invokestatic 308, 3) := dk_184 1 52 (dk_at dksX1_isRest_1 20 rfl rfl)
theorem dX1_isRest_46 : decode cX1_isRest 46 = .ok (.iload_n 1, 1) := dk_27 (dk_at dksX1_isRest_1 23 rfl rfl)
theorem dX1_isRest_47 : decode cX1_isRest 47 = .ok (.iload_n 0, 1) := dk_26 (dk_at dksX1_isRest_2 0 rfl rfl)
theorem dX1_isRest_48 : decode cX1_isRest 48 = .ok (.iload_n 2, 1) := dk_28 (dk_at dksX1_isRest_2 1 rfl rfl)
theorem dX1_isRest_49 : decode cX1_isRest 49 = .ok (.iload_n 3, 1) := dk_29 (dk_at dksX1_isRest_2 2 rfl rfl)
theorem dX1_isRest_50 : decode cX1_isRest 50 = .ok (.iload 4, 2) := dk_21 4 (dk_at dksX1_isRest_2 3 rfl rfl)
theorem dX1_isRest_52 : decode cX1_isRest 52 = .ok (.invokestatic 308, 3) := dk_184 1 52 (dk_at dksX1_isRest_2 5 rfl rfl)
theorem dX1_isRest_55 : decode cX1_isRest 55 = .ok (.if_icmp .gt 7, 3) := dk_163 0 7 (dk_at dksX1_isRest_2 8 rfl rfl)
theorem dX1_isRest_58 : decode cX1_isRest 58 = .ok (.iconst 1, 1) := dk_4 (dk_at dksX1_isRest_2 11 rfl rfl)
theorem dX1_isRest_59 : decode cX1_isRest 59 = .ok (.goto 4, 3) := dk_167 0 4 (dk_at dksX1_isRest_2 12 rfl rfl)
theorem dX1_isRest_62 : decode cX1_isRest 62 = .ok (.iconst 0, 1) := dk_3 (dk_at dksX1_isRest_2 15 rfl rfl)
theorem dX1_isRest_63 : decode cX1_isRest 63 = .ok (.ireturn, 1) := dk_172 (dk_at dksX1_isRest_2 16 rfl rfl)
abbrev cX1_feed : ByteArray := prog_1_method_6_code
abbrev yX1_feed : MethodName := { cls := "WornSkin", name := "feed", desc := "(JJJ)I" }
def dkwX1_feed_1 : List UInt8 := [182, 0, 78, 42, 180, 0, 24, 180, 0, 82, 172]
abbrev dktX1_feed_1 : List UInt8 := dkwX1_feed_1 ++ []
def dkwX1_feed_0 : List UInt8 := [42, 180, 0, 24, 31, 182, 0, 78, 42, 180, 0, 24, 33, 182, 0, 78, 42, 180, 0, 24, 22, 5]
abbrev dktX1_feed_0 : List UInt8 := dkwX1_feed_0 ++ dktX1_feed_1
theorem dksX1_feed_0 : cX1_feed.data.toList.drop 0 = dktX1_feed_0 := by decide +kernel
theorem dksX1_feed_1 : cX1_feed.data.toList.drop 22 = dktX1_feed_1 := dk_seg dksX1_feed_0 22 rfl rfl
theorem dX1_feed_0 : decode cX1_feed 0 = .ok (.aload_n 0, 1) := dk_42 (dk_at dksX1_feed_0 0 rfl rfl)
theorem dX1_feed_1 : decode cX1_feed 1 = .ok (.getfield 24, 3) := dk_180 0 24 (dk_at dksX1_feed_0 1 rfl rfl)
theorem dX1_feed_4 : decode cX1_feed 4 = .ok (.lload_n 1, 1) := dk_31 (dk_at dksX1_feed_0 4 rfl rfl)
theorem dX1_feed_5 : decode cX1_feed 5 = .ok (.invokevirtual 78, 3) := dk_182 0 78 (dk_at dksX1_feed_0 5 rfl rfl)
theorem dX1_feed_8 : decode cX1_feed 8 = .ok (.aload_n 0, 1) := dk_42 (dk_at dksX1_feed_0 8 rfl rfl)
theorem dX1_feed_9 : decode cX1_feed 9 = .ok (.getfield 24, 3) := dk_180 0 24 (dk_at dksX1_feed_0 9 rfl rfl)
theorem dX1_feed_12 : decode cX1_feed 12 = .ok (.lload_n 3, 1) := dk_33 (dk_at dksX1_feed_0 12 rfl rfl)
theorem dX1_feed_13 : decode cX1_feed 13 = .ok (.invokevirtual 78, 3) := dk_182 0 78 (dk_at dksX1_feed_0 13 rfl rfl)
theorem dX1_feed_16 : decode cX1_feed 16 = .ok (.aload_n 0, 1) := dk_42 (dk_at dksX1_feed_0 16 rfl rfl)
theorem dX1_feed_17 : decode cX1_feed 17 = .ok (.getfield 24, 3) := dk_180 0 24 (dk_at dksX1_feed_0 17 rfl rfl)
theorem dX1_feed_20 : decode cX1_feed 20 = .ok (.lload 5, 2) := dk_22 5 (dk_at dksX1_feed_0 20 rfl rfl)
theorem dX1_feed_22 : decode cX1_feed 22 = .ok (.invokevirtual 78, 3) := dk_182 0 78 (dk_at dksX1_feed_1 0 rfl rfl)
theorem dX1_feed_25 : decode cX1_feed 25 = .ok (.aload_n 0, 1) := dk_42 (dk_at dksX1_feed_1 3 rfl rfl)
theorem dX1_feed_26 : decode cX1_feed 26 = .ok (.getfield 24, 3) := dk_180 0 24 (dk_at dksX1_feed_1 4 rfl rfl)
theorem dX1_feed_29 : decode cX1_feed 29 = .ok (.getfield 82, 3) := dk_180 0 82 (dk_at dksX1_feed_1 7 rfl rfl)
theorem dX1_feed_32 : decode cX1_feed 32 = .ok (.ireturn, 1) := dk_172 (dk_at dksX1_feed_1 10 rfl rfl)
abbrev cX1_library : ByteArray := prog_1_method_7_code
abbrev yX1_library : MethodName := { cls := "WornSkin", name := "library", desc := "()I" }
def dkwX1_library_3 : List UInt8 := [167, 255, 241, 3, 172, 76, 43, 180, 0, 95, 172]
abbrev dktX1_library_3 : List UInt8 := dkwX1_library_3 ++ []
def dkwX1_library_2 : List UInt8 := [180, 0, 60, 182, 0, 90, 3, 60, 27, 7, 162, 0, 16, 42, 180, 0, 74, 27, 1, 83, 132, 1, 1]
abbrev dktX1_library_2 : List UInt8 := dkwX1_library_2 ++ dktX1_library_3
def dkwX1_library_1 : List UInt8 := [187, 0, 47, 89, 5, 183, 0, 49, 181, 0, 52, 42, 187, 0, 47, 89, 5, 183, 0, 49, 181, 0, 56, 42]
abbrev dktX1_library_1 : List UInt8 := dkwX1_library_1 ++ dktX1_library_2
def dkwX1_library_0 : List UInt8 := [42, 187, 0, 30, 89, 183, 0, 32, 42, 180, 0, 24, 182, 0, 86, 182, 0, 36, 181, 0, 40, 42]
abbrev dktX1_library_0 : List UInt8 := dkwX1_library_0 ++ dktX1_library_1
theorem dksX1_library_0 : cX1_library.data.toList.drop 0 = dktX1_library_0 := by decide +kernel
theorem dksX1_library_1 : cX1_library.data.toList.drop 22 = dktX1_library_1 := dk_seg dksX1_library_0 22 rfl rfl
theorem dksX1_library_2 : cX1_library.data.toList.drop 46 = dktX1_library_2 := dk_seg dksX1_library_1 24 rfl rfl
theorem dksX1_library_3 : cX1_library.data.toList.drop 69 = dktX1_library_3 := dk_seg dksX1_library_2 23 rfl rfl
theorem dX1_library_0 : decode cX1_library 0 = .ok (.aload_n 0, 1) := dk_42 (dk_at dksX1_library_0 0 rfl rfl)
theorem dX1_library_1 : decode cX1_library 1 = .ok (.new 30, 3) := dk_187 0 30 (dk_at dksX1_library_0 1 rfl rfl)
theorem dX1_library_4 : decode cX1_library 4 = .ok (.dup, 1) := dk_89 (dk_at dksX1_library_0 4 rfl rfl)
theorem dX1_library_5 : decode cX1_library 5 = .ok (.invokespecial 32, 3) := dk_183 0 32 (dk_at dksX1_library_0 5 rfl rfl)
theorem dX1_library_8 : decode cX1_library 8 = .ok (.aload_n 0, 1) := dk_42 (dk_at dksX1_library_0 8 rfl rfl)
theorem dX1_library_9 : decode cX1_library 9 = .ok (.getfield 24, 3) := dk_180 0 24 (dk_at dksX1_library_0 9 rfl rfl)
theorem dX1_library_12 : decode cX1_library 12 = .ok (.invokevirtual 86, 3) := dk_182 0 86 (dk_at dksX1_library_0 12 rfl rfl)
theorem dX1_library_15 : decode cX1_library 15 = .ok (.invokevirtual 36, 3) := dk_182 0 36 (dk_at dksX1_library_0 15 rfl rfl)
theorem dX1_library_18 : decode cX1_library 18 = .ok (.putfield 40, 3) := dk_181 0 40 (dk_at dksX1_library_0 18 rfl rfl)
theorem dX1_library_21 : decode cX1_library 21 = .ok (.aload_n 0, 1) := dk_42 (dk_at dksX1_library_0 21 rfl rfl)
theorem dX1_library_22 : decode cX1_library 22 = .ok (.new 47, 3) := dk_187 0 47 (dk_at dksX1_library_1 0 rfl rfl)
theorem dX1_library_25 : decode cX1_library 25 = .ok (.dup, 1) := dk_89 (dk_at dksX1_library_1 3 rfl rfl)
theorem dX1_library_26 : decode cX1_library 26 = .ok (.iconst 2, 1) := dk_5 (dk_at dksX1_library_1 4 rfl rfl)
theorem dX1_library_27 : decode cX1_library 27 = .ok (.invokespecial 49, 3) := dk_183 0 49 (dk_at dksX1_library_1 5 rfl rfl)
theorem dX1_library_30 : decode cX1_library 30 = .ok (.putfield 52, 3) := dk_181 0 52 (dk_at dksX1_library_1 8 rfl rfl)
theorem dX1_library_33 : decode cX1_library 33 = .ok (.aload_n 0, 1) := dk_42 (dk_at dksX1_library_1 11 rfl rfl)
theorem dX1_library_34 : decode cX1_library 34 = .ok (.new 47, 3) := dk_187 0 47 (dk_at dksX1_library_1 12 rfl rfl)
theorem dX1_library_37 : decode cX1_library 37 = .ok (.dup, 1) := dk_89 (dk_at dksX1_library_1 15 rfl rfl)
theorem dX1_library_38 : decode cX1_library 38 = .ok (.iconst 2, 1) := dk_5 (dk_at dksX1_library_1 16 rfl rfl)
theorem dX1_library_39 : decode cX1_library 39 = .ok (.invokespecial 49, 3) := dk_183 0 49 (dk_at dksX1_library_1 17 rfl rfl)
theorem dX1_library_42 : decode cX1_library 42 = .ok (.putfield 56, 3) := dk_181 0 56 (dk_at dksX1_library_1 20 rfl rfl)
theorem dX1_library_45 : decode cX1_library 45 = .ok (.aload_n 0, 1) := dk_42 (dk_at dksX1_library_1 23 rfl rfl)
theorem dX1_library_46 : decode cX1_library 46 = .ok (.getfield 60, 3) := dk_180 0 60 (dk_at dksX1_library_2 0 rfl rfl)
theorem dX1_library_49 : decode cX1_library 49 = .ok (.invokevirtual 90, 3) := dk_182 0 90 (dk_at dksX1_library_2 3 rfl rfl)
theorem dX1_library_52 : decode cX1_library 52 = .ok (.iconst 0, 1) := dk_3 (dk_at dksX1_library_2 6 rfl rfl)
theorem dX1_library_53 : decode cX1_library 53 = .ok (.istore_n 1, 1) := dk_60 (dk_at dksX1_library_2 7 rfl rfl)
theorem dX1_library_54 : decode cX1_library 54 = .ok (.iload_n 1, 1) := dk_27 (dk_at dksX1_library_2 8 rfl rfl)
theorem dX1_library_55 : decode cX1_library 55 = .ok (.iconst 4, 1) := dk_7 (dk_at dksX1_library_2 9 rfl rfl)
theorem dX1_library_56 : decode cX1_library 56 = .ok (.if_icmp .ge 16, 3) := dk_162 0 16 (dk_at dksX1_library_2 10 rfl rfl)
theorem dX1_library_59 : decode cX1_library 59 = .ok (.aload_n 0, 1) := dk_42 (dk_at dksX1_library_2 13 rfl rfl)
theorem dX1_library_60 : decode cX1_library 60 = .ok (.getfield 74, 3) := dk_180 0 74 (dk_at dksX1_library_2 14 rfl rfl)
theorem dX1_library_63 : decode cX1_library 63 = .ok (.iload_n 1, 1) := dk_27 (dk_at dksX1_library_2 17 rfl rfl)
theorem dX1_library_64 : decode cX1_library 64 = .ok (.aconst_null, 1) := dk_1 (dk_at dksX1_library_2 18 rfl rfl)
theorem dX1_library_65 : decode cX1_library 65 = .ok (.aastore, 1) := dk_83 (dk_at dksX1_library_2 19 rfl rfl)
theorem dX1_library_66 : decode cX1_library 66 = .ok (.iinc 1 1, 3) := dk_132 1 1 (dk_at dksX1_library_2 20 rfl rfl)
theorem dX1_library_69 : decode cX1_library 69 = .ok (.goto (-15), 3) := dk_167 255 241 (dk_at dksX1_library_3 0 rfl rfl)
theorem dX1_library_72 : decode cX1_library 72 = .ok (.iconst 0, 1) := dk_3 (dk_at dksX1_library_3 3 rfl rfl)
theorem dX1_library_73 : decode cX1_library 73 = .ok (.ireturn, 1) := dk_172 (dk_at dksX1_library_3 4 rfl rfl)
theorem dX1_library_74 : decode cX1_library 74 = .ok (.astore_n 1, 1) := dk_76 (dk_at dksX1_library_3 5 rfl rfl)
theorem dX1_library_75 : decode cX1_library 75 = .ok (.aload_n 1, 1) := dk_43 (dk_at dksX1_library_3 6 rfl rfl)
theorem dX1_library_76 : decode cX1_library 76 = .ok (.getfield 95, 3) := dk_180 0 95 (dk_at dksX1_library_3 7 rfl rfl)
theorem dX1_library_79 : decode cX1_library 79 = .ok (.ireturn, 1) := dk_172 (dk_at dksX1_library_3 10 rfl rfl)
abbrev cX1_now : ByteArray := prog_1_method_9_code
abbrev yX1_now : MethodName := { cls := "WornSkin", name := "now", desc := "()LWornSkin$Library;" }
def dkwX1_now_0 : List UInt8 := [42, 180, 0, 40, 180, 0, 105, 176]
abbrev dktX1_now_0 : List UInt8 := dkwX1_now_0 ++ []
theorem dksX1_now_0 : cX1_now.data.toList.drop 0 = dktX1_now_0 := by decide +kernel
theorem dX1_now_0 : decode cX1_now 0 = .ok (.aload_n 0, 1) := dk_42 (dk_at dksX1_now_0 0 rfl rfl)
theorem dX1_now_1 : decode cX1_now 1 = .ok (.getfield 40, 3) := dk_180 0 40 (dk_at dksX1_now_0 1 rfl rfl)
theorem dX1_now_4 : decode cX1_now 4 = .ok (.getfield 105, 3) := dk_180 0 105 (dk_at dksX1_now_0 4 rfl rfl)
theorem dX1_now_7 : decode cX1_now 7 = .ok (.areturn, 1) := dk_176 (dk_at dksX1_now_0 7 rfl rfl)
abbrev cX1_year : ByteArray := prog_1_method_8_code
abbrev yX1_year : MethodName := { cls := "WornSkin", name := "year", desc := "()I" }
def dkwX1_year_0 : List UInt8 := [42, 42, 180, 0, 24, 42, 182, 0, 98, 182, 0, 101, 181, 0, 52, 3, 172, 76, 43, 180, 0, 95, 172]
abbrev dktX1_year_0 : List UInt8 := dkwX1_year_0 ++ []
theorem dksX1_year_0 : cX1_year.data.toList.drop 0 = dktX1_year_0 := by decide +kernel
theorem dX1_year_0 : decode cX1_year 0 = .ok (.aload_n 0, 1) := dk_42 (dk_at dksX1_year_0 0 rfl rfl)
theorem dX1_year_1 : decode cX1_year 1 = .ok (.aload_n 0, 1) := dk_42 (dk_at dksX1_year_0 1 rfl rfl)
theorem dX1_year_2 : decode cX1_year 2 = .ok (.getfield 24, 3) := dk_180 0 24 (dk_at dksX1_year_0 2 rfl rfl)
theorem dX1_year_5 : decode cX1_year 5 = .ok (.aload_n 0, 1) := dk_42 (dk_at dksX1_year_0 5 rfl rfl)
theorem dX1_year_6 : decode cX1_year 6 = .ok (.invokevirtual 98, 3) := dk_182 0 98 (dk_at dksX1_year_0 6 rfl rfl)
theorem dX1_year_9 : decode cX1_year 9 = .ok (.invokevirtual 101, 3) := dk_182 0 101 (dk_at dksX1_year_0 9 rfl rfl)
theorem dX1_year_12 : decode cX1_year 12 = .ok (.putfield 52, 3) := dk_181 0 52 (dk_at dksX1_year_0 12 rfl rfl)
theorem dX1_year_15 : decode cX1_year 15 = .ok (.iconst 0, 1) := dk_3 (dk_at dksX1_year_0 15 rfl rfl)
theorem dX1_year_16 : decode cX1_year 16 = .ok (.ireturn, 1) := dk_172 (dk_at dksX1_year_0 16 rfl rfl)
theorem dX1_year_17 : decode cX1_year 17 = .ok (.astore_n 1, 1) := dk_76 (dk_at dksX1_year_0 17 rfl rfl)
theorem dX1_year_18 : decode cX1_year 18 = .ok (.aload_n 1, 1) := dk_43 (dk_at dksX1_year_0 18 rfl rfl)
theorem dX1_year_19 : decode cX1_year 19 = .ok (.getfield 95, 3) := dk_180 0 95 (dk_at dksX1_year_0 19 rfl rfl)
theorem dX1_year_22 : decode cX1_year 22 = .ok (.ireturn, 1) := dk_172 (dk_at dksX1_year_0 22 rfl rfl)
abbrev cX1_skins : ByteArray := prog_1_method_10_code
abbrev yX1_skins : MethodName := { cls := "WornSkin", name := "skins", desc := "()I" }
def dkwX1_skins_0 : List UInt8 := [42, 182, 0, 98, 180, 0, 108, 182, 0, 111, 172]
abbrev dktX1_skins_0 : List UInt8 := dkwX1_skins_0 ++ []
theorem dksX1_skins_0 : cX1_skins.data.toList.drop 0 = dktX1_skins_0 := by decide +kernel
theorem dX1_skins_0 : decode cX1_skins 0 = .ok (.aload_n 0, 1) := dk_42 (dk_at dksX1_skins_0 0 rfl rfl)
theorem dX1_skins_1 : decode cX1_skins 1 = .ok (.invokevirtual 98, 3) := dk_182 0 98 (dk_at dksX1_skins_0 1 rfl rfl)
theorem dX1_skins_4 : decode cX1_skins 4 = .ok (.getfield 108, 3) := dk_180 0 108 (dk_at dksX1_skins_0 4 rfl rfl)
theorem dX1_skins_7 : decode cX1_skins 7 = .ok (.invokevirtual 111, 3) := dk_182 0 111 (dk_at dksX1_skins_0 7 rfl rfl)
theorem dX1_skins_10 : decode cX1_skins 10 = .ok (.ireturn, 1) := dk_172 (dk_at dksX1_skins_0 10 rfl rfl)
abbrev cX1_isSkin : ByteArray := prog_1_method_12_code
abbrev yX1_isSkin : MethodName := { cls := "WornSkin", name := "isSkin", desc := "(I)Z" }
def dkwX1_isSkin_0 : List UInt8 := [27, 3, 42, 182, 0, 118, 4, 100, 184, 0, 120, 172]
abbrev dktX1_isSkin_0 : List UInt8 := dkwX1_isSkin_0 ++ []
theorem dksX1_isSkin_0 : cX1_isSkin.data.toList.drop 0 = dktX1_isSkin_0 := by decide +kernel
theorem dX1_isSkin_0 : decode cX1_isSkin 0 = .ok (.iload_n 1, 1) := dk_27 (dk_at dksX1_isSkin_0 0 rfl rfl)
theorem dX1_isSkin_1 : decode cX1_isSkin 1 = .ok (.iconst 0, 1) := dk_3 (dk_at dksX1_isSkin_0 1 rfl rfl)
theorem dX1_isSkin_2 : decode cX1_isSkin 2 = .ok (.aload_n 0, 1) := dk_42 (dk_at dksX1_isSkin_0 2 rfl rfl)
theorem dX1_isSkin_3 : decode cX1_isSkin 3 = .ok (.invokevirtual 118, 3) := dk_182 0 118 (dk_at dksX1_isSkin_0 3 rfl rfl)
theorem dX1_isSkin_6 : decode cX1_isSkin 6 = .ok (.iconst 1, 1) := dk_4 (dk_at dksX1_isSkin_0 6 rfl rfl)
theorem dX1_isSkin_7 : decode cX1_isSkin 7 = .ok (.isub, 1) := dk_100 (dk_at dksX1_isSkin_0 7 rfl rfl)
theorem dX1_isSkin_8 : decode cX1_isSkin 8 = .ok (.invokestatic 120, 3) := dk_184 0 120 (dk_at dksX1_isSkin_0 8 rfl rfl)
theorem dX1_isSkin_11 : decode cX1_isSkin 11 = .ok (.ireturn, 1) := dk_172 (dk_at dksX1_isSkin_0 11 rfl rfl)
abbrev cX1_readIn : ByteArray := prog_1_method_16_code
abbrev yX1_readIn : MethodName := { cls := "WornSkin", name := "readIn", desc := "(I)I" }
def dkwX1_readIn_1 : List UInt8 := [182, 0, 155, 2, 159, 0, 9, 28, 4, 29, 120, 128, 61, 132, 3, 1, 167, 255, 221, 28, 172]
abbrev dktX1_readIn_1 : List UInt8 := dkwX1_readIn_1 ++ []
def dkwX1_readIn_0 : List UInt8 := [3, 61, 3, 62, 29, 16, 6, 162, 0, 35, 42, 180, 0, 40, 27, 29, 42, 180, 0, 40, 182, 0, 152]
abbrev dktX1_readIn_0 : List UInt8 := dkwX1_readIn_0 ++ dktX1_readIn_1
theorem dksX1_readIn_0 : cX1_readIn.data.toList.drop 0 = dktX1_readIn_0 := by decide +kernel
theorem dksX1_readIn_1 : cX1_readIn.data.toList.drop 23 = dktX1_readIn_1 := dk_seg dksX1_readIn_0 23 rfl rfl
theorem dX1_readIn_0 : decode cX1_readIn 0 = .ok (.iconst 0, 1) := dk_3 (dk_at dksX1_readIn_0 0 rfl rfl)
theorem dX1_readIn_1 : decode cX1_readIn 1 = .ok (.istore_n 2, 1) := dk_61 (dk_at dksX1_readIn_0 1 rfl rfl)
theorem dX1_readIn_2 : decode cX1_readIn 2 = .ok (.iconst 0, 1) := dk_3 (dk_at dksX1_readIn_0 2 rfl rfl)
theorem dX1_readIn_3 : decode cX1_readIn 3 = .ok (.istore_n 3, 1) := dk_62 (dk_at dksX1_readIn_0 3 rfl rfl)
theorem dX1_readIn_4 : decode cX1_readIn 4 = .ok (.iload_n 3, 1) := dk_29 (dk_at dksX1_readIn_0 4 rfl rfl)
theorem dX1_readIn_5 : decode cX1_readIn 5 = .ok (.bipush 6, 2) := dk_16 6 (dk_at dksX1_readIn_0 5 rfl rfl)
theorem dX1_readIn_7 : decode cX1_readIn 7 = .ok (.if_icmp .ge 35, 3) := dk_162 0 35 (dk_at dksX1_readIn_0 7 rfl rfl)
theorem dX1_readIn_10 : decode cX1_readIn 10 = .ok (.aload_n 0, 1) := dk_42 (dk_at dksX1_readIn_0 10 rfl rfl)
theorem dX1_readIn_11 : decode cX1_readIn 11 = .ok (.getfield 40, 3) := dk_180 0 40 (dk_at dksX1_readIn_0 11 rfl rfl)
theorem dX1_readIn_14 : decode cX1_readIn 14 = .ok (.iload_n 1, 1) := dk_27 (dk_at dksX1_readIn_0 14 rfl rfl)
theorem dX1_readIn_15 : decode cX1_readIn 15 = .ok (.iload_n 3, 1) := dk_29 (dk_at dksX1_readIn_0 15 rfl rfl)
theorem dX1_readIn_16 : decode cX1_readIn 16 = .ok (.aload_n 0, 1) := dk_42 (dk_at dksX1_readIn_0 16 rfl rfl)
theorem dX1_readIn_17 : decode cX1_readIn 17 = .ok (.getfield 40, 3) := dk_180 0 40 (dk_at dksX1_readIn_0 17 rfl rfl)
theorem dX1_readIn_20 : decode cX1_readIn 20 = .ok (.invokevirtual 152, 3) := dk_182 0 152 (dk_at dksX1_readIn_0 20 rfl rfl)
theorem dX1_readIn_23 : decode cX1_readIn 23 = .ok (.invokevirtual 155, 3) := dk_182 0 155 (dk_at dksX1_readIn_1 0 rfl rfl)
theorem dX1_readIn_26 : decode cX1_readIn 26 = .ok (.iconst (-1), 1) := dk_2 (dk_at dksX1_readIn_1 3 rfl rfl)
theorem dX1_readIn_27 : decode cX1_readIn 27 = .ok (.if_icmp .eq 9, 3) := dk_159 0 9 (dk_at dksX1_readIn_1 4 rfl rfl)
theorem dX1_readIn_30 : decode cX1_readIn 30 = .ok (.iload_n 2, 1) := dk_28 (dk_at dksX1_readIn_1 7 rfl rfl)
theorem dX1_readIn_31 : decode cX1_readIn 31 = .ok (.iconst 1, 1) := dk_4 (dk_at dksX1_readIn_1 8 rfl rfl)
theorem dX1_readIn_32 : decode cX1_readIn 32 = .ok (.iload_n 3, 1) := dk_29 (dk_at dksX1_readIn_1 9 rfl rfl)
theorem dX1_readIn_33 : decode cX1_readIn 33 = .ok (.ishl, 1) := dk_120 (dk_at dksX1_readIn_1 10 rfl rfl)
theorem dX1_readIn_34 : decode cX1_readIn 34 = .ok (.ior, 1) := dk_128 (dk_at dksX1_readIn_1 11 rfl rfl)
theorem dX1_readIn_35 : decode cX1_readIn 35 = .ok (.istore_n 2, 1) := dk_61 (dk_at dksX1_readIn_1 12 rfl rfl)
theorem dX1_readIn_36 : decode cX1_readIn 36 = .ok (.iinc 3 1, 3) := dk_132 3 1 (dk_at dksX1_readIn_1 13 rfl rfl)
theorem dX1_readIn_39 : decode cX1_readIn 39 = .ok (.goto (-35), 3) := dk_167 255 221 (dk_at dksX1_readIn_1 16 rfl rfl)
theorem dX1_readIn_42 : decode cX1_readIn 42 = .ok (.iload_n 2, 1) := dk_28 (dk_at dksX1_readIn_1 19 rfl rfl)
theorem dX1_readIn_43 : decode cX1_readIn 43 = .ok (.ireturn, 1) := dk_172 (dk_at dksX1_readIn_1 20 rfl rfl)
abbrev cX1_skin : ByteArray := prog_1_method_15_code
abbrev yX1_skin : MethodName := { cls := "WornSkin", name := "skin", desc := "(II)I" }
def dkwX1_skin_4 : List UInt8 := [182, 0, 149, 172, 2, 172]
abbrev dktX1_skin_4 : List UInt8 := dkwX1_skin_4 ++ []
def dkwX1_skin_3 : List UInt8 := [180, 0, 40, 27, 182, 0, 130, 180, 0, 142, 172, 42, 180, 0, 40, 27, 182, 0, 145, 172, 42, 27]
abbrev dktX1_skin_3 : List UInt8 := dkwX1_skin_3 ++ dktX1_skin_4
def dkwX1_skin_2 : List UInt8 := [42, 180, 0, 40, 27, 182, 0, 130, 180, 0, 134, 172, 42, 180, 0, 40, 180, 0, 138, 27, 46, 172, 42]
abbrev dktX1_skin_2 : List UInt8 := dkwX1_skin_2 ++ dktX1_skin_3
def dkwX1_skin_1 : List UInt8 := [170, 0, 0, 0, 82, 0, 0, 0, 0, 0, 0, 0, 4, 0, 0, 0, 33, 0, 0, 0, 45, 0, 0, 0, 55, 0, 0, 0, 67, 0, 0, 0, 76]
abbrev dktX1_skin_1 : List UInt8 := dkwX1_skin_1 ++ dktX1_skin_2
def dkwX1_skin_0 : List UInt8 := [42, 27, 182, 0, 126, 154, 0, 5, 2, 172, 28]
abbrev dktX1_skin_0 : List UInt8 := dkwX1_skin_0 ++ dktX1_skin_1
theorem dksX1_skin_0 : cX1_skin.data.toList.drop 0 = dktX1_skin_0 := by decide +kernel
theorem dksX1_skin_1 : cX1_skin.data.toList.drop 11 = dktX1_skin_1 := dk_seg dksX1_skin_0 11 rfl rfl
theorem dksX1_skin_2 : cX1_skin.data.toList.drop 44 = dktX1_skin_2 := dk_seg dksX1_skin_1 33 rfl rfl
theorem dksX1_skin_3 : cX1_skin.data.toList.drop 67 = dktX1_skin_3 := dk_seg dksX1_skin_2 23 rfl rfl
theorem dksX1_skin_4 : cX1_skin.data.toList.drop 89 = dktX1_skin_4 := dk_seg dksX1_skin_3 22 rfl rfl
theorem dX1_skin_0 : decode cX1_skin 0 = .ok (.aload_n 0, 1) := dk_42 (dk_at dksX1_skin_0 0 rfl rfl)
theorem dX1_skin_1 : decode cX1_skin 1 = .ok (.iload_n 1, 1) := dk_27 (dk_at dksX1_skin_0 1 rfl rfl)
theorem dX1_skin_2 : decode cX1_skin 2 = .ok (.invokevirtual 126, 3) := dk_182 0 126 (dk_at dksX1_skin_0 2 rfl rfl)
theorem dX1_skin_5 : decode cX1_skin 5 = .ok (.ifCond .ne 5, 3) := dk_154 0 5 (dk_at dksX1_skin_0 5 rfl rfl)
theorem dX1_skin_8 : decode cX1_skin 8 = .ok (.iconst (-1), 1) := dk_2 (dk_at dksX1_skin_0 8 rfl rfl)
theorem dX1_skin_9 : decode cX1_skin 9 = .ok (.ireturn, 1) := dk_172 (dk_at dksX1_skin_0 9 rfl rfl)
theorem dX1_skin_10 : decode cX1_skin 10 = .ok (.iload_n 2, 1) := dk_28 (dk_at dksX1_skin_0 10 rfl rfl)
theorem dX1_skin_11 : decode cX1_skin 11 = .ok (.tableswitch 82 0 4 #[33, 45, 55, 67, 76], 33) := by decide +kernel
theorem dX1_skin_44 : decode cX1_skin 44 = .ok (.aload_n 0, 1) := dk_42 (dk_at dksX1_skin_2 0 rfl rfl)
theorem dX1_skin_45 : decode cX1_skin 45 = .ok (.getfield 40, 3) := dk_180 0 40 (dk_at dksX1_skin_2 1 rfl rfl)
theorem dX1_skin_48 : decode cX1_skin 48 = .ok (.iload_n 1, 1) := dk_27 (dk_at dksX1_skin_2 4 rfl rfl)
theorem dX1_skin_49 : decode cX1_skin 49 = .ok (.invokevirtual 130, 3) := dk_182 0 130 (dk_at dksX1_skin_2 5 rfl rfl)
theorem dX1_skin_52 : decode cX1_skin 52 = .ok (.getfield 134, 3) := dk_180 0 134 (dk_at dksX1_skin_2 8 rfl rfl)
theorem dX1_skin_55 : decode cX1_skin 55 = .ok (.ireturn, 1) := dk_172 (dk_at dksX1_skin_2 11 rfl rfl)
theorem dX1_skin_56 : decode cX1_skin 56 = .ok (.aload_n 0, 1) := dk_42 (dk_at dksX1_skin_2 12 rfl rfl)
theorem dX1_skin_57 : decode cX1_skin 57 = .ok (.getfield 40, 3) := dk_180 0 40 (dk_at dksX1_skin_2 13 rfl rfl)
theorem dX1_skin_60 : decode cX1_skin 60 = .ok (.getfield 138, 3) := dk_180 0 138 (dk_at dksX1_skin_2 16 rfl rfl)
theorem dX1_skin_63 : decode cX1_skin 63 = .ok (.iload_n 1, 1) := dk_27 (dk_at dksX1_skin_2 19 rfl rfl)
theorem dX1_skin_64 : decode cX1_skin 64 = .ok (.iaload, 1) := dk_46 (dk_at dksX1_skin_2 20 rfl rfl)
theorem dX1_skin_65 : decode cX1_skin 65 = .ok (.ireturn, 1) := dk_172 (dk_at dksX1_skin_2 21 rfl rfl)
theorem dX1_skin_66 : decode cX1_skin 66 = .ok (.aload_n 0, 1) := dk_42 (dk_at dksX1_skin_2 22 rfl rfl)
theorem dX1_skin_67 : decode cX1_skin 67 = .ok (.getfield 40, 3) := dk_180 0 40 (dk_at dksX1_skin_3 0 rfl rfl)
theorem dX1_skin_70 : decode cX1_skin 70 = .ok (.iload_n 1, 1) := dk_27 (dk_at dksX1_skin_3 3 rfl rfl)
theorem dX1_skin_71 : decode cX1_skin 71 = .ok (.invokevirtual 130, 3) := dk_182 0 130 (dk_at dksX1_skin_3 4 rfl rfl)
theorem dX1_skin_74 : decode cX1_skin 74 = .ok (.getfield 142, 3) := dk_180 0 142 (dk_at dksX1_skin_3 7 rfl rfl)
theorem dX1_skin_77 : decode cX1_skin 77 = .ok (.ireturn, 1) := dk_172 (dk_at dksX1_skin_3 10 rfl rfl)
theorem dX1_skin_78 : decode cX1_skin 78 = .ok (.aload_n 0, 1) := dk_42 (dk_at dksX1_skin_3 11 rfl rfl)
theorem dX1_skin_79 : decode cX1_skin 79 = .ok (.getfield 40, 3) := dk_180 0 40 (dk_at dksX1_skin_3 12 rfl rfl)
theorem dX1_skin_82 : decode cX1_skin 82 = .ok (.iload_n 1, 1) := dk_27 (dk_at dksX1_skin_3 15 rfl rfl)
theorem dX1_skin_83 : decode cX1_skin 83 = .ok (.invokevirtual 145, 3) := dk_182 0 145 (dk_at dksX1_skin_3 16 rfl rfl)
theorem dX1_skin_86 : decode cX1_skin 86 = .ok (.ireturn, 1) := dk_172 (dk_at dksX1_skin_3 19 rfl rfl)
theorem dX1_skin_87 : decode cX1_skin 87 = .ok (.aload_n 0, 1) := dk_42 (dk_at dksX1_skin_3 20 rfl rfl)
theorem dX1_skin_88 : decode cX1_skin 88 = .ok (.iload_n 1, 1) := dk_27 (dk_at dksX1_skin_3 21 rfl rfl)
theorem dX1_skin_89 : decode cX1_skin 89 = .ok (.invokevirtual 149, 3) := dk_182 0 149 (dk_at dksX1_skin_4 0 rfl rfl)
theorem dX1_skin_92 : decode cX1_skin 92 = .ok (.ireturn, 1) := dk_172 (dk_at dksX1_skin_4 3 rfl rfl)
theorem dX1_skin_93 : decode cX1_skin 93 = .ok (.iconst (-1), 1) := dk_2 (dk_at dksX1_skin_4 4 rfl rfl)
theorem dX1_skin_94 : decode cX1_skin 94 = .ok (.ireturn, 1) := dk_172 (dk_at dksX1_skin_4 5 rfl rfl)
abbrev cX1_texts : ByteArray := prog_1_method_11_code
abbrev yX1_texts : MethodName := { cls := "WornSkin", name := "texts", desc := "()I" }
def dkwX1_texts_0 : List UInt8 := [42, 182, 0, 98, 180, 0, 115, 182, 0, 111, 172]
abbrev dktX1_texts_0 : List UInt8 := dkwX1_texts_0 ++ []
theorem dksX1_texts_0 : cX1_texts.data.toList.drop 0 = dktX1_texts_0 := by decide +kernel
theorem dX1_texts_0 : decode cX1_texts 0 = .ok (.aload_n 0, 1) := dk_42 (dk_at dksX1_texts_0 0 rfl rfl)
theorem dX1_texts_1 : decode cX1_texts 1 = .ok (.invokevirtual 98, 3) := dk_182 0 98 (dk_at dksX1_texts_0 1 rfl rfl)
theorem dX1_texts_4 : decode cX1_texts 4 = .ok (.getfield 115, 3) := dk_180 0 115 (dk_at dksX1_texts_0 4 rfl rfl)
theorem dX1_texts_7 : decode cX1_texts 7 = .ok (.invokevirtual 111, 3) := dk_182 0 111 (dk_at dksX1_texts_0 7 rfl rfl)
theorem dX1_texts_10 : decode cX1_texts 10 = .ok (.ireturn, 1) := dk_172 (dk_at dksX1_texts_0 10 rfl rfl)
abbrev cX1_isText : ByteArray := prog_1_method_13_code
abbrev yX1_isText : MethodName := { cls := "WornSkin", name := "isText", desc := "(I)Z" }
def dkwX1_isText_0 : List UInt8 := [27, 3, 42, 182, 0, 124, 4, 100, 184, 0, 120, 172]
abbrev dktX1_isText_0 : List UInt8 := dkwX1_isText_0 ++ []
theorem dksX1_isText_0 : cX1_isText.data.toList.drop 0 = dktX1_isText_0 := by decide +kernel
theorem dX1_isText_0 : decode cX1_isText 0 = .ok (.iload_n 1, 1) := dk_27 (dk_at dksX1_isText_0 0 rfl rfl)
theorem dX1_isText_1 : decode cX1_isText 1 = .ok (.iconst 0, 1) := dk_3 (dk_at dksX1_isText_0 1 rfl rfl)
theorem dX1_isText_2 : decode cX1_isText 2 = .ok (.aload_n 0, 1) := dk_42 (dk_at dksX1_isText_0 2 rfl rfl)
theorem dX1_isText_3 : decode cX1_isText 3 = .ok (.invokevirtual 124, 3) := dk_182 0 124 (dk_at dksX1_isText_0 3 rfl rfl)
theorem dX1_isText_6 : decode cX1_isText 6 = .ok (.iconst 1, 1) := dk_4 (dk_at dksX1_isText_0 6 rfl rfl)
theorem dX1_isText_7 : decode cX1_isText 7 = .ok (.isub, 1) := dk_100 (dk_at dksX1_isText_0 7 rfl rfl)
theorem dX1_isText_8 : decode cX1_isText 8 = .ok (.invokestatic 120, 3) := dk_184 0 120 (dk_at dksX1_isText_0 8 rfl rfl)
theorem dX1_isText_11 : decode cX1_isText 11 = .ok (.ireturn, 1) := dk_172 (dk_at dksX1_isText_0 11 rfl rfl)
abbrev cX1_made_2 : ByteArray := prog_1_method_18_code
abbrev yX1_made_2 : MethodName := { cls := "WornSkin", name := "made", desc := "(II)I" }
def dkwX1_made_2_2 : List UInt8 := [167, 255, 227, 132, 4, 1, 167, 255, 209, 29, 172]
abbrev dktX1_made_2_2 : List UInt8 := dkwX1_made_2_2 ++ []
def dkwX1_made_2_1 : List UInt8 := [42, 180, 0, 40, 21, 4, 21, 5, 28, 182, 0, 155, 27, 160, 0, 6, 132, 3, 1, 132, 5, 1]
abbrev dktX1_made_2_1 : List UInt8 := dkwX1_made_2_1 ++ dktX1_made_2_2
def dkwX1_made_2_0 : List UInt8 := [3, 62, 3, 54, 4, 21, 4, 42, 182, 0, 118, 162, 0, 44, 3, 54, 5, 21, 5, 16, 6, 162, 0, 28]
abbrev dktX1_made_2_0 : List UInt8 := dkwX1_made_2_0 ++ dktX1_made_2_1
theorem dksX1_made_2_0 : cX1_made_2.data.toList.drop 0 = dktX1_made_2_0 := by decide +kernel
theorem dksX1_made_2_1 : cX1_made_2.data.toList.drop 24 = dktX1_made_2_1 := dk_seg dksX1_made_2_0 24 rfl rfl
theorem dksX1_made_2_2 : cX1_made_2.data.toList.drop 46 = dktX1_made_2_2 := dk_seg dksX1_made_2_1 22 rfl rfl
theorem dX1_made_2_0 : decode cX1_made_2 0 = .ok (.iconst 0, 1) := dk_3 (dk_at dksX1_made_2_0 0 rfl rfl)
theorem dX1_made_2_1 : decode cX1_made_2 1 = .ok (.istore_n 3, 1) := dk_62 (dk_at dksX1_made_2_0 1 rfl rfl)
theorem dX1_made_2_2 : decode cX1_made_2 2 = .ok (.iconst 0, 1) := dk_3 (dk_at dksX1_made_2_0 2 rfl rfl)
theorem dX1_made_2_3 : decode cX1_made_2 3 = .ok (.istore 4, 2) := dk_54 4 (dk_at dksX1_made_2_0 3 rfl rfl)
theorem dX1_made_2_5 : decode cX1_made_2 5 = .ok (.iload 4, 2) := dk_21 4 (dk_at dksX1_made_2_0 5 rfl rfl)
theorem dX1_made_2_7 : decode cX1_made_2 7 = .ok (.aload_n 0, 1) := dk_42 (dk_at dksX1_made_2_0 7 rfl rfl)
theorem dX1_made_2_8 : decode cX1_made_2 8 = .ok (.invokevirtual 118, 3) := dk_182 0 118 (dk_at dksX1_made_2_0 8 rfl rfl)
theorem dX1_made_2_11 : decode cX1_made_2 11 = .ok (.if_icmp .ge 44, 3) := dk_162 0 44 (dk_at dksX1_made_2_0 11 rfl rfl)
theorem dX1_made_2_14 : decode cX1_made_2 14 = .ok (.iconst 0, 1) := dk_3 (dk_at dksX1_made_2_0 14 rfl rfl)
theorem dX1_made_2_15 : decode cX1_made_2 15 = .ok (.istore 5, 2) := dk_54 5 (dk_at dksX1_made_2_0 15 rfl rfl)
theorem dX1_made_2_17 : decode cX1_made_2 17 = .ok (.iload 5, 2) := dk_21 5 (dk_at dksX1_made_2_0 17 rfl rfl)
theorem dX1_made_2_19 : decode cX1_made_2 19 = .ok (.bipush 6, 2) := dk_16 6 (dk_at dksX1_made_2_0 19 rfl rfl)
theorem dX1_made_2_21 : decode cX1_made_2 21 = .ok (.if_icmp .ge 28, 3) := dk_162 0 28 (dk_at dksX1_made_2_0 21 rfl rfl)
theorem dX1_made_2_24 : decode cX1_made_2 24 = .ok (.aload_n 0, 1) := dk_42 (dk_at dksX1_made_2_1 0 rfl rfl)
theorem dX1_made_2_25 : decode cX1_made_2 25 = .ok (.getfield 40, 3) := dk_180 0 40 (dk_at dksX1_made_2_1 1 rfl rfl)
theorem dX1_made_2_28 : decode cX1_made_2 28 = .ok (.iload 4, 2) := dk_21 4 (dk_at dksX1_made_2_1 4 rfl rfl)
theorem dX1_made_2_30 : decode cX1_made_2 30 = .ok (.iload 5, 2) := dk_21 5 (dk_at dksX1_made_2_1 6 rfl rfl)
theorem dX1_made_2_32 : decode cX1_made_2 32 = .ok (.iload_n 2, 1) := dk_28 (dk_at dksX1_made_2_1 8 rfl rfl)
theorem dX1_made_2_33 : decode cX1_made_2 33 = .ok (.invokevirtual 155, 3) := dk_182 0 155 (dk_at dksX1_made_2_1 9 rfl rfl)
theorem dX1_made_2_36 : decode cX1_made_2 36 = .ok (.iload_n 1, 1) := dk_27 (dk_at dksX1_made_2_1 12 rfl rfl)
theorem dX1_made_2_37 : decode cX1_made_2 37 = .ok (.if_icmp .ne 6, 3) := dk_160 0 6 (dk_at dksX1_made_2_1 13 rfl rfl)
theorem dX1_made_2_40 : decode cX1_made_2 40 = .ok (.iinc 3 1, 3) := dk_132 3 1 (dk_at dksX1_made_2_1 16 rfl rfl)
theorem dX1_made_2_43 : decode cX1_made_2 43 = .ok (.iinc 5 1, 3) := dk_132 5 1 (dk_at dksX1_made_2_1 19 rfl rfl)
theorem dX1_made_2_46 : decode cX1_made_2 46 = .ok (.goto (-29), 3) := dk_167 255 227 (dk_at dksX1_made_2_2 0 rfl rfl)
theorem dX1_made_2_49 : decode cX1_made_2 49 = .ok (.iinc 4 1, 3) := dk_132 4 1 (dk_at dksX1_made_2_2 3 rfl rfl)
theorem dX1_made_2_52 : decode cX1_made_2 52 = .ok (.goto (-47), 3) := dk_167 255 209 (dk_at dksX1_made_2_2 6 rfl rfl)
theorem dX1_made_2_55 : decode cX1_made_2 55 = .ok (.iload_n 3, 1) := dk_29 (dk_at dksX1_made_2_2 9 rfl rfl)
theorem dX1_made_2_56 : decode cX1_made_2 56 = .ok (.ireturn, 1) := dk_172 (dk_at dksX1_made_2_2 10 rfl rfl)
abbrev cX1_text : ByteArray := prog_1_method_17_code
abbrev yX1_text : MethodName := { cls := "WornSkin", name := "text", desc := "(II)I" }
def dkwX1_text_4 : List UInt8 := [27, 42, 180, 0, 40, 182, 0, 152, 182, 0, 178, 172, 16, 254, 172]
abbrev dktX1_text_4 : List UInt8 := dkwX1_text_4 ++ []
def dkwX1_text_3 : List UInt8 := [180, 0, 40, 27, 42, 180, 0, 40, 182, 0, 152, 182, 0, 174, 153, 0, 7, 4, 167, 0, 4, 3, 172, 42]
abbrev dktX1_text_3 : List UInt8 := dkwX1_text_3 ++ dktX1_text_4
def dkwX1_text_2 : List UInt8 := [45, 182, 0, 166, 172, 45, 180, 0, 169, 153, 0, 7, 4, 167, 0, 4, 3, 172, 45, 180, 0, 173, 172, 42]
abbrev dktX1_text_2 : List UInt8 := dkwX1_text_2 ++ dktX1_text_3
def dkwX1_text_1 : List UInt8 := [170, 0, 0, 0, 0, 0, 95, 0, 0, 0, 0, 0, 0, 0, 4, 0, 0, 0, 35, 0, 0, 0, 40, 0, 0, 0, 53, 0, 0, 0, 58, 0, 0, 0, 82]
abbrev dktX1_text_1 : List UInt8 := dkwX1_text_1 ++ dktX1_text_2
def dkwX1_text_0 : List UInt8 := [42, 27, 182, 0, 159, 154, 0, 6, 16, 254, 172, 42, 180, 0, 40, 27, 182, 0, 162, 78, 28]
abbrev dktX1_text_0 : List UInt8 := dkwX1_text_0 ++ dktX1_text_1
theorem dksX1_text_0 : cX1_text.data.toList.drop 0 = dktX1_text_0 := by decide +kernel
theorem dksX1_text_1 : cX1_text.data.toList.drop 21 = dktX1_text_1 := dk_seg dksX1_text_0 21 rfl rfl
theorem dksX1_text_2 : cX1_text.data.toList.drop 56 = dktX1_text_2 := dk_seg dksX1_text_1 35 rfl rfl
theorem dksX1_text_3 : cX1_text.data.toList.drop 80 = dktX1_text_3 := dk_seg dksX1_text_2 24 rfl rfl
theorem dksX1_text_4 : cX1_text.data.toList.drop 104 = dktX1_text_4 := dk_seg dksX1_text_3 24 rfl rfl
theorem dX1_text_0 : decode cX1_text 0 = .ok (.aload_n 0, 1) := dk_42 (dk_at dksX1_text_0 0 rfl rfl)
theorem dX1_text_1 : decode cX1_text 1 = .ok (.iload_n 1, 1) := dk_27 (dk_at dksX1_text_0 1 rfl rfl)
theorem dX1_text_2 : decode cX1_text 2 = .ok (.invokevirtual 159, 3) := dk_182 0 159 (dk_at dksX1_text_0 2 rfl rfl)
theorem dX1_text_5 : decode cX1_text 5 = .ok (.ifCond .ne 6, 3) := dk_154 0 6 (dk_at dksX1_text_0 5 rfl rfl)
theorem dX1_text_8 : decode cX1_text 8 = .ok (.bipush (-2), 2) := dk_16 254 (dk_at dksX1_text_0 8 rfl rfl)
theorem dX1_text_10 : decode cX1_text 10 = .ok (.ireturn, 1) := dk_172 (dk_at dksX1_text_0 10 rfl rfl)
theorem dX1_text_11 : decode cX1_text 11 = .ok (.aload_n 0, 1) := dk_42 (dk_at dksX1_text_0 11 rfl rfl)
theorem dX1_text_12 : decode cX1_text 12 = .ok (.getfield 40, 3) := dk_180 0 40 (dk_at dksX1_text_0 12 rfl rfl)
theorem dX1_text_15 : decode cX1_text 15 = .ok (.iload_n 1, 1) := dk_27 (dk_at dksX1_text_0 15 rfl rfl)
theorem dX1_text_16 : decode cX1_text 16 = .ok (.invokevirtual 162, 3) := dk_182 0 162 (dk_at dksX1_text_0 16 rfl rfl)
theorem dX1_text_19 : decode cX1_text 19 = .ok (.astore_n 3, 1) := dk_78 (dk_at dksX1_text_0 19 rfl rfl)
theorem dX1_text_20 : decode cX1_text 20 = .ok (.iload_n 2, 1) := dk_28 (dk_at dksX1_text_0 20 rfl rfl)
theorem dX1_text_21 : decode cX1_text 21 = .ok (.tableswitch 95 0 4 #[35, 40, 53, 58, 82], 35) := by decide +kernel
theorem dX1_text_56 : decode cX1_text 56 = .ok (.aload_n 3, 1) := dk_45 (dk_at dksX1_text_2 0 rfl rfl)
theorem dX1_text_57 : decode cX1_text 57 = .ok (.invokevirtual 166, 3) := dk_182 0 166 (dk_at dksX1_text_2 1 rfl rfl)
theorem dX1_text_60 : decode cX1_text 60 = .ok (.ireturn, 1) := dk_172 (dk_at dksX1_text_2 4 rfl rfl)
theorem dX1_text_61 : decode cX1_text 61 = .ok (.aload_n 3, 1) := dk_45 (dk_at dksX1_text_2 5 rfl rfl)
theorem dX1_text_62 : decode cX1_text 62 = .ok (.getfield 169, 3) := dk_180 0 169 (dk_at dksX1_text_2 6 rfl rfl)
theorem dX1_text_65 : decode cX1_text 65 = .ok (.ifCond .eq 7, 3) := dk_153 0 7 (dk_at dksX1_text_2 9 rfl rfl)
theorem dX1_text_68 : decode cX1_text 68 = .ok (.iconst 1, 1) := dk_4 (dk_at dksX1_text_2 12 rfl rfl)
theorem dX1_text_69 : decode cX1_text 69 = .ok (.goto 4, 3) := dk_167 0 4 (dk_at dksX1_text_2 13 rfl rfl)
theorem dX1_text_72 : decode cX1_text 72 = .ok (.iconst 0, 1) := dk_3 (dk_at dksX1_text_2 16 rfl rfl)
theorem dX1_text_73 : decode cX1_text 73 = .ok (.ireturn, 1) := dk_172 (dk_at dksX1_text_2 17 rfl rfl)
theorem dX1_text_74 : decode cX1_text 74 = .ok (.aload_n 3, 1) := dk_45 (dk_at dksX1_text_2 18 rfl rfl)
theorem dX1_text_75 : decode cX1_text 75 = .ok (.getfield 173, 3) := dk_180 0 173 (dk_at dksX1_text_2 19 rfl rfl)
theorem dX1_text_78 : decode cX1_text 78 = .ok (.ireturn, 1) := dk_172 (dk_at dksX1_text_2 22 rfl rfl)
theorem dX1_text_79 : decode cX1_text 79 = .ok (.aload_n 0, 1) := dk_42 (dk_at dksX1_text_2 23 rfl rfl)
theorem dX1_text_80 : decode cX1_text 80 = .ok (.getfield 40, 3) := dk_180 0 40 (dk_at dksX1_text_3 0 rfl rfl)
theorem dX1_text_83 : decode cX1_text 83 = .ok (.iload_n 1, 1) := dk_27 (dk_at dksX1_text_3 3 rfl rfl)
theorem dX1_text_84 : decode cX1_text 84 = .ok (.aload_n 0, 1) := dk_42 (dk_at dksX1_text_3 4 rfl rfl)
theorem dX1_text_85 : decode cX1_text 85 = .ok (.getfield 40, 3) := dk_180 0 40 (dk_at dksX1_text_3 5 rfl rfl)
theorem dX1_text_88 : decode cX1_text 88 = .ok (.invokevirtual 152, 3) := dk_182 0 152 (dk_at dksX1_text_3 8 rfl rfl)
theorem dX1_text_91 : decode cX1_text 91 = .ok (.invokevirtual 174, 3) := dk_182 0 174 (dk_at dksX1_text_3 11 rfl rfl)
theorem dX1_text_94 : decode cX1_text 94 = .ok (.ifCond .eq 7, 3) := dk_153 0 7 (dk_at dksX1_text_3 14 rfl rfl)
theorem dX1_text_97 : decode cX1_text 97 = .ok (.iconst 1, 1) := dk_4 (dk_at dksX1_text_3 17 rfl rfl)
theorem dX1_text_98 : decode cX1_text 98 = .ok (.goto 4, 3) := dk_167 0 4 (dk_at dksX1_text_3 18 rfl rfl)
theorem dX1_text_101 : decode cX1_text 101 = .ok (.iconst 0, 1) := dk_3 (dk_at dksX1_text_3 21 rfl rfl)
theorem dX1_text_102 : decode cX1_text 102 = .ok (.ireturn, 1) := dk_172 (dk_at dksX1_text_3 22 rfl rfl)
theorem dX1_text_103 : decode cX1_text 103 = .ok (.aload_n 0, 1) := dk_42 (dk_at dksX1_text_3 23 rfl rfl)
theorem dX1_text_104 : decode cX1_text 104 = .ok (.iload_n 1, 1) := dk_27 (dk_at dksX1_text_4 0 rfl rfl)
theorem dX1_text_105 : decode cX1_text 105 = .ok (.aload_n 0, 1) := dk_42 (dk_at dksX1_text_4 1 rfl rfl)
theorem dX1_text_106 : decode cX1_text 106 = .ok (.getfield 40, 3) := dk_180 0 40 (dk_at dksX1_text_4 2 rfl rfl)
theorem dX1_text_109 : decode cX1_text 109 = .ok (.invokevirtual 152, 3) := dk_182 0 152 (dk_at dksX1_text_4 5 rfl rfl)
theorem dX1_text_112 : decode cX1_text 112 = .ok (.invokevirtual 178, 3) := dk_182 0 178 (dk_at dksX1_text_4 8 rfl rfl)
theorem dX1_text_115 : decode cX1_text 115 = .ok (.ireturn, 1) := dk_172 (dk_at dksX1_text_4 11 rfl rfl)
theorem dX1_text_116 : decode cX1_text 116 = .ok (.bipush (-2), 2) := dk_16 254 (dk_at dksX1_text_4 12 rfl rfl)
theorem dX1_text_118 : decode cX1_text 118 = .ok (.ireturn, 1) := dk_172 (dk_at dksX1_text_4 14 rfl rfl)
abbrev cX1_isLine : ByteArray := prog_1_method_14_code
abbrev yX1_isLine : MethodName := { cls := "WornSkin", name := "isLine", desc := "(II)Z" }
def dkwX1_isLine_1 : List UInt8 := [184, 0, 120, 153, 0, 7, 4, 167, 0, 4, 3, 172]
abbrev dktX1_isLine_1 : List UInt8 := dkwX1_isLine_1 ++ []
def dkwX1_isLine_0 : List UInt8 := [42, 27, 182, 0, 126, 153, 0, 28, 28, 3, 42, 180, 0, 40, 27, 182, 0, 130, 180, 0, 134, 4, 100]
abbrev dktX1_isLine_0 : List UInt8 := dkwX1_isLine_0 ++ dktX1_isLine_1
theorem dksX1_isLine_0 : cX1_isLine.data.toList.drop 0 = dktX1_isLine_0 := by decide +kernel
theorem dksX1_isLine_1 : cX1_isLine.data.toList.drop 23 = dktX1_isLine_1 := dk_seg dksX1_isLine_0 23 rfl rfl
theorem dX1_isLine_0 : decode cX1_isLine 0 = .ok (.aload_n 0, 1) := dk_42 (dk_at dksX1_isLine_0 0 rfl rfl)
theorem dX1_isLine_1 : decode cX1_isLine 1 = .ok (.iload_n 1, 1) := dk_27 (dk_at dksX1_isLine_0 1 rfl rfl)
theorem dX1_isLine_2 : decode cX1_isLine 2 = .ok (.invokevirtual 126, 3) := dk_182 0 126 (dk_at dksX1_isLine_0 2 rfl rfl)
theorem dX1_isLine_5 : decode cX1_isLine 5 = .ok (.ifCond .eq 28, 3) := dk_153 0 28 (dk_at dksX1_isLine_0 5 rfl rfl)
theorem dX1_isLine_8 : decode cX1_isLine 8 = .ok (.iload_n 2, 1) := dk_28 (dk_at dksX1_isLine_0 8 rfl rfl)
theorem dX1_isLine_9 : decode cX1_isLine 9 = .ok (.iconst 0, 1) := dk_3 (dk_at dksX1_isLine_0 9 rfl rfl)
theorem dX1_isLine_10 : decode cX1_isLine 10 = .ok (.aload_n 0, 1) := dk_42 (dk_at dksX1_isLine_0 10 rfl rfl)
theorem dX1_isLine_11 : decode cX1_isLine 11 = .ok (.getfield 40, 3) := dk_180 0 40 (dk_at dksX1_isLine_0 11 rfl rfl)
theorem dX1_isLine_14 : decode cX1_isLine 14 = .ok (.iload_n 1, 1) := dk_27 (dk_at dksX1_isLine_0 14 rfl rfl)
theorem dX1_isLine_15 : decode cX1_isLine 15 = .ok (.invokevirtual 130, 3) := dk_182 0 130 (dk_at dksX1_isLine_0 15 rfl rfl)
theorem dX1_isLine_18 : decode cX1_isLine 18 = .ok (.getfield 134, 3) := dk_180 0 134 (dk_at dksX1_isLine_0 18 rfl rfl)
theorem dX1_isLine_21 : decode cX1_isLine 21 = .ok (.iconst 1, 1) := dk_4 (dk_at dksX1_isLine_0 21 rfl rfl)
theorem dX1_isLine_22 : decode cX1_isLine 22 = .ok (.isub, 1) := dk_100 (dk_at dksX1_isLine_0 22 rfl rfl)
theorem dX1_isLine_23 : decode cX1_isLine 23 = .ok (.invokestatic 120, 3) := dk_184 0 120 (dk_at dksX1_isLine_1 0 rfl rfl)
theorem dX1_isLine_26 : decode cX1_isLine 26 = .ok (.ifCond .eq 7, 3) := dk_153 0 7 (dk_at dksX1_isLine_1 3 rfl rfl)
theorem dX1_isLine_29 : decode cX1_isLine 29 = .ok (.iconst 1, 1) := dk_4 (dk_at dksX1_isLine_1 6 rfl rfl)
theorem dX1_isLine_30 : decode cX1_isLine 30 = .ok (.goto 4, 3) := dk_167 0 4 (dk_at dksX1_isLine_1 7 rfl rfl)
theorem dX1_isLine_33 : decode cX1_isLine 33 = .ok (.iconst 0, 1) := dk_3 (dk_at dksX1_isLine_1 10 rfl rfl)
theorem dX1_isLine_34 : decode cX1_isLine 34 = .ok (.ireturn, 1) := dk_172 (dk_at dksX1_isLine_1 11 rfl rfl)
abbrev cX1_layers : ByteArray := prog_1_method_19_code
abbrev yX1_layers : MethodName := { cls := "WornSkin", name := "layers", desc := "(II)I" }
def dkwX1_layers_1 : List UInt8 := [167, 0, 4, 2, 172]
abbrev dktX1_layers_1 : List UInt8 := dkwX1_layers_1 ++ []
def dkwX1_layers_0 : List UInt8 := [42, 27, 28, 182, 0, 182, 153, 0, 20, 42, 180, 0, 40, 180, 0, 185, 16, 6, 27, 104, 28, 96, 46]
abbrev dktX1_layers_0 : List UInt8 := dkwX1_layers_0 ++ dktX1_layers_1
theorem dksX1_layers_0 : cX1_layers.data.toList.drop 0 = dktX1_layers_0 := by decide +kernel
theorem dksX1_layers_1 : cX1_layers.data.toList.drop 23 = dktX1_layers_1 := dk_seg dksX1_layers_0 23 rfl rfl
theorem dX1_layers_0 : decode cX1_layers 0 = .ok (.aload_n 0, 1) := dk_42 (dk_at dksX1_layers_0 0 rfl rfl)
theorem dX1_layers_1 : decode cX1_layers 1 = .ok (.iload_n 1, 1) := dk_27 (dk_at dksX1_layers_0 1 rfl rfl)
theorem dX1_layers_2 : decode cX1_layers 2 = .ok (.iload_n 2, 1) := dk_28 (dk_at dksX1_layers_0 2 rfl rfl)
theorem dX1_layers_3 : decode cX1_layers 3 = .ok (.invokevirtual 182, 3) := dk_182 0 182 (dk_at dksX1_layers_0 3 rfl rfl)
theorem dX1_layers_6 : decode cX1_layers 6 = .ok (.ifCond .eq 20, 3) := dk_153 0 20 (dk_at dksX1_layers_0 6 rfl rfl)
theorem dX1_layers_9 : decode cX1_layers 9 = .ok (.aload_n 0, 1) := dk_42 (dk_at dksX1_layers_0 9 rfl rfl)
theorem dX1_layers_10 : decode cX1_layers 10 = .ok (.getfield 40, 3) := dk_180 0 40 (dk_at dksX1_layers_0 10 rfl rfl)
theorem dX1_layers_13 : decode cX1_layers 13 = .ok (.getfield 185, 3) := dk_180 0 185 (dk_at dksX1_layers_0 13 rfl rfl)
theorem dX1_layers_16 : decode cX1_layers 16 = .ok (.bipush 6, 2) := dk_16 6 (dk_at dksX1_layers_0 16 rfl rfl)
theorem dX1_layers_18 : decode cX1_layers 18 = .ok (.iload_n 1, 1) := dk_27 (dk_at dksX1_layers_0 18 rfl rfl)
theorem dX1_layers_19 : decode cX1_layers 19 = .ok (.imul, 1) := dk_104 (dk_at dksX1_layers_0 19 rfl rfl)
theorem dX1_layers_20 : decode cX1_layers 20 = .ok (.iload_n 2, 1) := dk_28 (dk_at dksX1_layers_0 20 rfl rfl)
theorem dX1_layers_21 : decode cX1_layers 21 = .ok (.iadd, 1) := dk_96 (dk_at dksX1_layers_0 21 rfl rfl)
theorem dX1_layers_22 : decode cX1_layers 22 = .ok (.iaload, 1) := dk_46 (dk_at dksX1_layers_0 22 rfl rfl)
theorem dX1_layers_23 : decode cX1_layers 23 = .ok (.goto 4, 3) := dk_167 0 4 (dk_at dksX1_layers_1 0 rfl rfl)
theorem dX1_layers_26 : decode cX1_layers 26 = .ok (.iconst (-1), 1) := dk_2 (dk_at dksX1_layers_1 3 rfl rfl)
theorem dX1_layers_27 : decode cX1_layers 27 = .ok (.ireturn, 1) := dk_172 (dk_at dksX1_layers_1 4 rfl rfl)
abbrev cX1_layer : ByteArray := prog_1_method_20_code
abbrev yX1_layer : MethodName := { cls := "WornSkin", name := "layer", desc := "(III)I" }
def dkwX1_layer_1 : List UInt8 := [153, 0, 20, 42, 180, 0, 40, 16, 6, 27, 104, 28, 96, 29, 182, 0, 191, 167, 0, 4, 2, 172]
abbrev dktX1_layer_1 : List UInt8 := dkwX1_layer_1 ++ []
def dkwX1_layer_0 : List UInt8 := [42, 27, 28, 182, 0, 182, 153, 0, 36, 29, 3, 42, 27, 28, 182, 0, 188, 4, 100, 184, 0, 120]
abbrev dktX1_layer_0 : List UInt8 := dkwX1_layer_0 ++ dktX1_layer_1
theorem dksX1_layer_0 : cX1_layer.data.toList.drop 0 = dktX1_layer_0 := by decide +kernel
theorem dksX1_layer_1 : cX1_layer.data.toList.drop 22 = dktX1_layer_1 := dk_seg dksX1_layer_0 22 rfl rfl
theorem dX1_layer_0 : decode cX1_layer 0 = .ok (.aload_n 0, 1) := dk_42 (dk_at dksX1_layer_0 0 rfl rfl)
theorem dX1_layer_1 : decode cX1_layer 1 = .ok (.iload_n 1, 1) := dk_27 (dk_at dksX1_layer_0 1 rfl rfl)
theorem dX1_layer_2 : decode cX1_layer 2 = .ok (.iload_n 2, 1) := dk_28 (dk_at dksX1_layer_0 2 rfl rfl)
theorem dX1_layer_3 : decode cX1_layer 3 = .ok (.invokevirtual 182, 3) := dk_182 0 182 (dk_at dksX1_layer_0 3 rfl rfl)
theorem dX1_layer_6 : decode cX1_layer 6 = .ok (.ifCond .eq 36, 3) := dk_153 0 36 (dk_at dksX1_layer_0 6 rfl rfl)
theorem dX1_layer_9 : decode cX1_layer 9 = .ok (.iload_n 3, 1) := dk_29 (dk_at dksX1_layer_0 9 rfl rfl)
theorem dX1_layer_10 : decode cX1_layer 10 = .ok (.iconst 0, 1) := dk_3 (dk_at dksX1_layer_0 10 rfl rfl)
theorem dX1_layer_11 : decode cX1_layer 11 = .ok (.aload_n 0, 1) := dk_42 (dk_at dksX1_layer_0 11 rfl rfl)
theorem dX1_layer_12 : decode cX1_layer 12 = .ok (.iload_n 1, 1) := dk_27 (dk_at dksX1_layer_0 12 rfl rfl)
theorem dX1_layer_13 : decode cX1_layer 13 = .ok (.iload_n 2, 1) := dk_28 (dk_at dksX1_layer_0 13 rfl rfl)
theorem dX1_layer_14 : decode cX1_layer 14 = .ok (.invokevirtual 188, 3) := dk_182 0 188 (dk_at dksX1_layer_0 14 rfl rfl)
theorem dX1_layer_17 : decode cX1_layer 17 = .ok (.iconst 1, 1) := dk_4 (dk_at dksX1_layer_0 17 rfl rfl)
theorem dX1_layer_18 : decode cX1_layer 18 = .ok (.isub, 1) := dk_100 (dk_at dksX1_layer_0 18 rfl rfl)
theorem dX1_layer_19 : decode cX1_layer 19 = .ok (.invokestatic 120, 3) := dk_184 0 120 (dk_at dksX1_layer_0 19 rfl rfl)
theorem dX1_layer_22 : decode cX1_layer 22 = .ok (.ifCond .eq 20, 3) := dk_153 0 20 (dk_at dksX1_layer_1 0 rfl rfl)
theorem dX1_layer_25 : decode cX1_layer 25 = .ok (.aload_n 0, 1) := dk_42 (dk_at dksX1_layer_1 3 rfl rfl)
theorem dX1_layer_26 : decode cX1_layer 26 = .ok (.getfield 40, 3) := dk_180 0 40 (dk_at dksX1_layer_1 4 rfl rfl)
theorem dX1_layer_29 : decode cX1_layer 29 = .ok (.bipush 6, 2) := dk_16 6 (dk_at dksX1_layer_1 7 rfl rfl)
theorem dX1_layer_31 : decode cX1_layer 31 = .ok (.iload_n 1, 1) := dk_27 (dk_at dksX1_layer_1 9 rfl rfl)
theorem dX1_layer_32 : decode cX1_layer 32 = .ok (.imul, 1) := dk_104 (dk_at dksX1_layer_1 10 rfl rfl)
theorem dX1_layer_33 : decode cX1_layer 33 = .ok (.iload_n 2, 1) := dk_28 (dk_at dksX1_layer_1 11 rfl rfl)
theorem dX1_layer_34 : decode cX1_layer 34 = .ok (.iadd, 1) := dk_96 (dk_at dksX1_layer_1 12 rfl rfl)
theorem dX1_layer_35 : decode cX1_layer 35 = .ok (.iload_n 3, 1) := dk_29 (dk_at dksX1_layer_1 13 rfl rfl)
theorem dX1_layer_36 : decode cX1_layer 36 = .ok (.invokevirtual 191, 3) := dk_182 0 191 (dk_at dksX1_layer_1 14 rfl rfl)
theorem dX1_layer_39 : decode cX1_layer 39 = .ok (.goto 4, 3) := dk_167 0 4 (dk_at dksX1_layer_1 17 rfl rfl)
theorem dX1_layer_42 : decode cX1_layer 42 = .ok (.iconst (-1), 1) := dk_2 (dk_at dksX1_layer_1 20 rfl rfl)
theorem dX1_layer_43 : decode cX1_layer 43 = .ok (.ireturn, 1) := dk_172 (dk_at dksX1_layer_1 21 rfl rfl)
abbrev cX1_read : ByteArray := prog_1_method_21_code
abbrev yX1_read : MethodName := { cls := "WornSkin", name := "read", desc := "(II)I" }
def dkwX1_read_1 : List UInt8 := [182, 0, 155, 167, 0, 4, 2, 172]
abbrev dktX1_read_1 : List UInt8 := dkwX1_read_1 ++ []
def dkwX1_read_0 : List UInt8 := [42, 27, 28, 182, 0, 182, 153, 0, 22, 42, 180, 0, 40, 27, 28, 42, 180, 0, 40, 182, 0, 152]
abbrev dktX1_read_0 : List UInt8 := dkwX1_read_0 ++ dktX1_read_1
theorem dksX1_read_0 : cX1_read.data.toList.drop 0 = dktX1_read_0 := by decide +kernel
theorem dksX1_read_1 : cX1_read.data.toList.drop 22 = dktX1_read_1 := dk_seg dksX1_read_0 22 rfl rfl
theorem dX1_read_0 : decode cX1_read 0 = .ok (.aload_n 0, 1) := dk_42 (dk_at dksX1_read_0 0 rfl rfl)
theorem dX1_read_1 : decode cX1_read 1 = .ok (.iload_n 1, 1) := dk_27 (dk_at dksX1_read_0 1 rfl rfl)
theorem dX1_read_2 : decode cX1_read 2 = .ok (.iload_n 2, 1) := dk_28 (dk_at dksX1_read_0 2 rfl rfl)
theorem dX1_read_3 : decode cX1_read 3 = .ok (.invokevirtual 182, 3) := dk_182 0 182 (dk_at dksX1_read_0 3 rfl rfl)
theorem dX1_read_6 : decode cX1_read 6 = .ok (.ifCond .eq 22, 3) := dk_153 0 22 (dk_at dksX1_read_0 6 rfl rfl)
theorem dX1_read_9 : decode cX1_read 9 = .ok (.aload_n 0, 1) := dk_42 (dk_at dksX1_read_0 9 rfl rfl)
theorem dX1_read_10 : decode cX1_read 10 = .ok (.getfield 40, 3) := dk_180 0 40 (dk_at dksX1_read_0 10 rfl rfl)
theorem dX1_read_13 : decode cX1_read 13 = .ok (.iload_n 1, 1) := dk_27 (dk_at dksX1_read_0 13 rfl rfl)
theorem dX1_read_14 : decode cX1_read 14 = .ok (.iload_n 2, 1) := dk_28 (dk_at dksX1_read_0 14 rfl rfl)
theorem dX1_read_15 : decode cX1_read 15 = .ok (.aload_n 0, 1) := dk_42 (dk_at dksX1_read_0 15 rfl rfl)
theorem dX1_read_16 : decode cX1_read 16 = .ok (.getfield 40, 3) := dk_180 0 40 (dk_at dksX1_read_0 16 rfl rfl)
theorem dX1_read_19 : decode cX1_read 19 = .ok (.invokevirtual 152, 3) := dk_182 0 152 (dk_at dksX1_read_0 19 rfl rfl)
theorem dX1_read_22 : decode cX1_read 22 = .ok (.invokevirtual 155, 3) := dk_182 0 155 (dk_at dksX1_read_1 0 rfl rfl)
theorem dX1_read_25 : decode cX1_read 25 = .ok (.goto 4, 3) := dk_167 0 4 (dk_at dksX1_read_1 3 rfl rfl)
theorem dX1_read_28 : decode cX1_read 28 = .ok (.iconst (-1), 1) := dk_2 (dk_at dksX1_read_1 6 rfl rfl)
theorem dX1_read_29 : decode cX1_read 29 = .ok (.ireturn, 1) := dk_172 (dk_at dksX1_read_1 7 rfl rfl)
abbrev cX1_keep : ByteArray := prog_1_method_22_code
abbrev yX1_keep : MethodName := { cls := "WornSkin", name := "keep", desc := "()V" }
def dkwX1_keep_1 : List UInt8 := [180, 0, 60, 42, 180, 0, 40, 182, 0, 198, 182, 0, 202, 87, 177]
abbrev dktX1_keep_1 : List UInt8 := dkwX1_keep_1 ++ []
def dkwX1_keep_0 : List UInt8 := [42, 180, 0, 60, 182, 0, 111, 16, 16, 160, 0, 12, 42, 180, 0, 60, 3, 182, 0, 194, 87, 42]
abbrev dktX1_keep_0 : List UInt8 := dkwX1_keep_0 ++ dktX1_keep_1
theorem dksX1_keep_0 : cX1_keep.data.toList.drop 0 = dktX1_keep_0 := by decide +kernel
theorem dksX1_keep_1 : cX1_keep.data.toList.drop 22 = dktX1_keep_1 := dk_seg dksX1_keep_0 22 rfl rfl
theorem dX1_keep_0 : decode cX1_keep 0 = .ok (.aload_n 0, 1) := dk_42 (dk_at dksX1_keep_0 0 rfl rfl)
theorem dX1_keep_1 : decode cX1_keep 1 = .ok (.getfield 60, 3) := dk_180 0 60 (dk_at dksX1_keep_0 1 rfl rfl)
theorem dX1_keep_4 : decode cX1_keep 4 = .ok (.invokevirtual 111, 3) := dk_182 0 111 (dk_at dksX1_keep_0 4 rfl rfl)
theorem dX1_keep_7 : decode cX1_keep 7 = .ok (.bipush 16, 2) := dk_16 16 (dk_at dksX1_keep_0 7 rfl rfl)
theorem dX1_keep_9 : decode cX1_keep 9 = .ok (.if_icmp .ne 12, 3) := dk_160 0 12 (dk_at dksX1_keep_0 9 rfl rfl)
theorem dX1_keep_12 : decode cX1_keep 12 = .ok (.aload_n 0, 1) := dk_42 (dk_at dksX1_keep_0 12 rfl rfl)
theorem dX1_keep_13 : decode cX1_keep 13 = .ok (.getfield 60, 3) := dk_180 0 60 (dk_at dksX1_keep_0 13 rfl rfl)
theorem dX1_keep_16 : decode cX1_keep 16 = .ok (.iconst 0, 1) := dk_3 (dk_at dksX1_keep_0 16 rfl rfl)
theorem dX1_keep_17 : decode cX1_keep 17 = .ok (.invokevirtual 194, 3) := dk_182 0 194 (dk_at dksX1_keep_0 17 rfl rfl)
theorem dX1_keep_20 : decode cX1_keep 20 = .ok (.pop, 1) := dk_87 (dk_at dksX1_keep_0 20 rfl rfl)
theorem dX1_keep_21 : decode cX1_keep 21 = .ok (.aload_n 0, 1) := dk_42 (dk_at dksX1_keep_0 21 rfl rfl)
theorem dX1_keep_22 : decode cX1_keep 22 = .ok (.getfield 60, 3) := dk_180 0 60 (dk_at dksX1_keep_1 0 rfl rfl)
theorem dX1_keep_25 : decode cX1_keep 25 = .ok (.aload_n 0, 1) := dk_42 (dk_at dksX1_keep_1 3 rfl rfl)
theorem dX1_keep_26 : decode cX1_keep 26 = .ok (.getfield 40, 3) := dk_180 0 40 (dk_at dksX1_keep_1 4 rfl rfl)
theorem dX1_keep_29 : decode cX1_keep 29 = .ok (.invokevirtual 198, 3) := dk_182 0 198 (dk_at dksX1_keep_1 7 rfl rfl)
theorem dX1_keep_32 : decode cX1_keep 32 = .ok (.invokevirtual 202, 3) := dk_182 0 202 (dk_at dksX1_keep_1 10 rfl rfl)
theorem dX1_keep_35 : decode cX1_keep 35 = .ok (.pop, 1) := dk_87 (dk_at dksX1_keep_1 13 rfl rfl)
theorem dX1_keep_36 : decode cX1_keep 36 = .ok (.return_, 1) := dk_177 (dk_at dksX1_keep_1 14 rfl rfl)
abbrev cX1_write : ByteArray := prog_1_method_23_code
abbrev yX1_write : MethodName := { cls := "WornSkin", name := "write", desc := "(III)Z" }
def dkwX1_write_1 : List UInt8 := [182, 0, 206, 154, 0, 5, 3, 172, 42, 182, 0, 209, 42, 180, 0, 40, 27, 28, 29, 182, 0, 212, 4, 172]
abbrev dktX1_write_1 : List UInt8 := dkwX1_write_1 ++ []
def dkwX1_write_0 : List UInt8 := [42, 27, 182, 0, 159, 153, 0, 25, 42, 28, 29, 182, 0, 182, 153, 0, 16, 42, 180, 0, 40, 27, 28, 29]
abbrev dktX1_write_0 : List UInt8 := dkwX1_write_0 ++ dktX1_write_1
theorem dksX1_write_0 : cX1_write.data.toList.drop 0 = dktX1_write_0 := by decide +kernel
theorem dksX1_write_1 : cX1_write.data.toList.drop 24 = dktX1_write_1 := dk_seg dksX1_write_0 24 rfl rfl
theorem dX1_write_0 : decode cX1_write 0 = .ok (.aload_n 0, 1) := dk_42 (dk_at dksX1_write_0 0 rfl rfl)
theorem dX1_write_1 : decode cX1_write 1 = .ok (.iload_n 1, 1) := dk_27 (dk_at dksX1_write_0 1 rfl rfl)
theorem dX1_write_2 : decode cX1_write 2 = .ok (.invokevirtual 159, 3) := dk_182 0 159 (dk_at dksX1_write_0 2 rfl rfl)
theorem dX1_write_5 : decode cX1_write 5 = .ok (.ifCond .eq 25, 3) := dk_153 0 25 (dk_at dksX1_write_0 5 rfl rfl)
theorem dX1_write_8 : decode cX1_write 8 = .ok (.aload_n 0, 1) := dk_42 (dk_at dksX1_write_0 8 rfl rfl)
theorem dX1_write_9 : decode cX1_write 9 = .ok (.iload_n 2, 1) := dk_28 (dk_at dksX1_write_0 9 rfl rfl)
theorem dX1_write_10 : decode cX1_write 10 = .ok (.iload_n 3, 1) := dk_29 (dk_at dksX1_write_0 10 rfl rfl)
theorem dX1_write_11 : decode cX1_write 11 = .ok (.invokevirtual 182, 3) := dk_182 0 182 (dk_at dksX1_write_0 11 rfl rfl)
theorem dX1_write_14 : decode cX1_write 14 = .ok (.ifCond .eq 16, 3) := dk_153 0 16 (dk_at dksX1_write_0 14 rfl rfl)
theorem dX1_write_17 : decode cX1_write 17 = .ok (.aload_n 0, 1) := dk_42 (dk_at dksX1_write_0 17 rfl rfl)
theorem dX1_write_18 : decode cX1_write 18 = .ok (.getfield 40, 3) := dk_180 0 40 (dk_at dksX1_write_0 18 rfl rfl)
theorem dX1_write_21 : decode cX1_write 21 = .ok (.iload_n 1, 1) := dk_27 (dk_at dksX1_write_0 21 rfl rfl)
theorem dX1_write_22 : decode cX1_write 22 = .ok (.iload_n 2, 1) := dk_28 (dk_at dksX1_write_0 22 rfl rfl)
theorem dX1_write_23 : decode cX1_write 23 = .ok (.iload_n 3, 1) := dk_29 (dk_at dksX1_write_0 23 rfl rfl)
theorem dX1_write_24 : decode cX1_write 24 = .ok (.invokevirtual 206, 3) := dk_182 0 206 (dk_at dksX1_write_1 0 rfl rfl)
theorem dX1_write_27 : decode cX1_write 27 = .ok (.ifCond .ne 5, 3) := dk_154 0 5 (dk_at dksX1_write_1 3 rfl rfl)
theorem dX1_write_30 : decode cX1_write 30 = .ok (.iconst 0, 1) := dk_3 (dk_at dksX1_write_1 6 rfl rfl)
theorem dX1_write_31 : decode cX1_write 31 = .ok (.ireturn, 1) := dk_172 (dk_at dksX1_write_1 7 rfl rfl)
theorem dX1_write_32 : decode cX1_write 32 = .ok (.aload_n 0, 1) := dk_42 (dk_at dksX1_write_1 8 rfl rfl)
theorem dX1_write_33 : decode cX1_write 33 = .ok (.invokevirtual 209, 3) := dk_182 0 209 (dk_at dksX1_write_1 9 rfl rfl)
theorem dX1_write_36 : decode cX1_write 36 = .ok (.aload_n 0, 1) := dk_42 (dk_at dksX1_write_1 12 rfl rfl)
theorem dX1_write_37 : decode cX1_write 37 = .ok (.getfield 40, 3) := dk_180 0 40 (dk_at dksX1_write_1 13 rfl rfl)
theorem dX1_write_40 : decode cX1_write 40 = .ok (.iload_n 1, 1) := dk_27 (dk_at dksX1_write_1 16 rfl rfl)
theorem dX1_write_41 : decode cX1_write 41 = .ok (.iload_n 2, 1) := dk_28 (dk_at dksX1_write_1 17 rfl rfl)
theorem dX1_write_42 : decode cX1_write 42 = .ok (.iload_n 3, 1) := dk_29 (dk_at dksX1_write_1 18 rfl rfl)
theorem dX1_write_43 : decode cX1_write 43 = .ok (.invokevirtual 212, 3) := dk_182 0 212 (dk_at dksX1_write_1 19 rfl rfl)
theorem dX1_write_46 : decode cX1_write 46 = .ok (.iconst 1, 1) := dk_4 (dk_at dksX1_write_1 22 rfl rfl)
theorem dX1_write_47 : decode cX1_write 47 = .ok (.ireturn, 1) := dk_172 (dk_at dksX1_write_1 23 rfl rfl)
abbrev cX1_scrapes : ByteArray := prog_1_method_24_code
abbrev yX1_scrapes : MethodName := { cls := "WornSkin", name := "scrapes", desc := "(IZ)I" }
def dkwX1_scrapes_1 : List UInt8 := [182, 0, 209, 42, 180, 0, 40, 27, 28, 182, 0, 220, 42, 180, 0, 40, 180, 0, 138, 27, 46, 172]
abbrev dktX1_scrapes_1 : List UInt8 := dkwX1_scrapes_1 ++ []
def dkwX1_scrapes_0 : List UInt8 := [42, 27, 182, 0, 126, 153, 0, 15, 42, 180, 0, 40, 27, 28, 182, 0, 216, 154, 0, 5, 2, 172, 42]
abbrev dktX1_scrapes_0 : List UInt8 := dkwX1_scrapes_0 ++ dktX1_scrapes_1
theorem dksX1_scrapes_0 : cX1_scrapes.data.toList.drop 0 = dktX1_scrapes_0 := by decide +kernel
theorem dksX1_scrapes_1 : cX1_scrapes.data.toList.drop 23 = dktX1_scrapes_1 := dk_seg dksX1_scrapes_0 23 rfl rfl
theorem dX1_scrapes_0 : decode cX1_scrapes 0 = .ok (.aload_n 0, 1) := dk_42 (dk_at dksX1_scrapes_0 0 rfl rfl)
theorem dX1_scrapes_1 : decode cX1_scrapes 1 = .ok (.iload_n 1, 1) := dk_27 (dk_at dksX1_scrapes_0 1 rfl rfl)
theorem dX1_scrapes_2 : decode cX1_scrapes 2 = .ok (.invokevirtual 126, 3) := dk_182 0 126 (dk_at dksX1_scrapes_0 2 rfl rfl)
theorem dX1_scrapes_5 : decode cX1_scrapes 5 = .ok (.ifCond .eq 15, 3) := dk_153 0 15 (dk_at dksX1_scrapes_0 5 rfl rfl)
theorem dX1_scrapes_8 : decode cX1_scrapes 8 = .ok (.aload_n 0, 1) := dk_42 (dk_at dksX1_scrapes_0 8 rfl rfl)
theorem dX1_scrapes_9 : decode cX1_scrapes 9 = .ok (.getfield 40, 3) := dk_180 0 40 (dk_at dksX1_scrapes_0 9 rfl rfl)
theorem dX1_scrapes_12 : decode cX1_scrapes 12 = .ok (.iload_n 1, 1) := dk_27 (dk_at dksX1_scrapes_0 12 rfl rfl)
theorem dX1_scrapes_13 : decode cX1_scrapes 13 = .ok (.iload_n 2, 1) := dk_28 (dk_at dksX1_scrapes_0 13 rfl rfl)
theorem dX1_scrapes_14 : decode cX1_scrapes 14 = .ok (.invokevirtual 216, 3) := dk_182 0 216 (dk_at dksX1_scrapes_0 14 rfl rfl)
theorem dX1_scrapes_17 : decode cX1_scrapes 17 = .ok (.ifCond .ne 5, 3) := dk_154 0 5 (dk_at dksX1_scrapes_0 17 rfl rfl)
theorem dX1_scrapes_20 : decode cX1_scrapes 20 = .ok (.iconst (-1), 1) := dk_2 (dk_at dksX1_scrapes_0 20 rfl rfl)
theorem dX1_scrapes_21 : decode cX1_scrapes 21 = .ok (.ireturn, 1) := dk_172 (dk_at dksX1_scrapes_0 21 rfl rfl)
theorem dX1_scrapes_22 : decode cX1_scrapes 22 = .ok (.aload_n 0, 1) := dk_42 (dk_at dksX1_scrapes_0 22 rfl rfl)
theorem dX1_scrapes_23 : decode cX1_scrapes 23 = .ok (.invokevirtual 209, 3) := dk_182 0 209 (dk_at dksX1_scrapes_1 0 rfl rfl)
theorem dX1_scrapes_26 : decode cX1_scrapes 26 = .ok (.aload_n 0, 1) := dk_42 (dk_at dksX1_scrapes_1 3 rfl rfl)
theorem dX1_scrapes_27 : decode cX1_scrapes 27 = .ok (.getfield 40, 3) := dk_180 0 40 (dk_at dksX1_scrapes_1 4 rfl rfl)
theorem dX1_scrapes_30 : decode cX1_scrapes 30 = .ok (.iload_n 1, 1) := dk_27 (dk_at dksX1_scrapes_1 7 rfl rfl)
theorem dX1_scrapes_31 : decode cX1_scrapes 31 = .ok (.iload_n 2, 1) := dk_28 (dk_at dksX1_scrapes_1 8 rfl rfl)
theorem dX1_scrapes_32 : decode cX1_scrapes 32 = .ok (.invokevirtual 220, 3) := dk_182 0 220 (dk_at dksX1_scrapes_1 9 rfl rfl)
theorem dX1_scrapes_35 : decode cX1_scrapes 35 = .ok (.aload_n 0, 1) := dk_42 (dk_at dksX1_scrapes_1 12 rfl rfl)
theorem dX1_scrapes_36 : decode cX1_scrapes 36 = .ok (.getfield 40, 3) := dk_180 0 40 (dk_at dksX1_scrapes_1 13 rfl rfl)
theorem dX1_scrapes_39 : decode cX1_scrapes 39 = .ok (.getfield 138, 3) := dk_180 0 138 (dk_at dksX1_scrapes_1 16 rfl rfl)
theorem dX1_scrapes_42 : decode cX1_scrapes 42 = .ok (.iload_n 1, 1) := dk_27 (dk_at dksX1_scrapes_1 19 rfl rfl)
theorem dX1_scrapes_43 : decode cX1_scrapes 43 = .ok (.iaload, 1) := dk_46 (dk_at dksX1_scrapes_1 20 rfl rfl)
theorem dX1_scrapes_44 : decode cX1_scrapes 44 = .ok (.ireturn, 1) := dk_172 (dk_at dksX1_scrapes_1 21 rfl rfl)
abbrev cX1_scrape : ByteArray := prog_1_method_25_code
abbrev yX1_scrape : MethodName := { cls := "WornSkin", name := "scrape", desc := "(I)I" }
def dkwX1_scrape_0 : List UInt8 := [42, 27, 3, 182, 0, 224, 172]
abbrev dktX1_scrape_0 : List UInt8 := dkwX1_scrape_0 ++ []
theorem dksX1_scrape_0 : cX1_scrape.data.toList.drop 0 = dktX1_scrape_0 := by decide +kernel
theorem dX1_scrape_0 : decode cX1_scrape 0 = .ok (.aload_n 0, 1) := dk_42 (dk_at dksX1_scrape_0 0 rfl rfl)
theorem dX1_scrape_1 : decode cX1_scrape 1 = .ok (.iload_n 1, 1) := dk_27 (dk_at dksX1_scrape_0 1 rfl rfl)
theorem dX1_scrape_2 : decode cX1_scrape 2 = .ok (.iconst 0, 1) := dk_3 (dk_at dksX1_scrape_0 2 rfl rfl)
theorem dX1_scrape_3 : decode cX1_scrape 3 = .ok (.invokevirtual 224, 3) := dk_182 0 224 (dk_at dksX1_scrape_0 3 rfl rfl)
theorem dX1_scrape_6 : decode cX1_scrape 6 = .ok (.ireturn, 1) := dk_172 (dk_at dksX1_scrape_0 6 rfl rfl)
abbrev cX1_third : ByteArray := prog_1_method_26_code
abbrev yX1_third : MethodName := { cls := "WornSkin", name := "third", desc := "(I)I" }
def dkwX1_third_0 : List UInt8 := [42, 27, 4, 182, 0, 224, 172]
abbrev dktX1_third_0 : List UInt8 := dkwX1_third_0 ++ []
theorem dksX1_third_0 : cX1_third.data.toList.drop 0 = dktX1_third_0 := by decide +kernel
theorem dX1_third_0 : decode cX1_third 0 = .ok (.aload_n 0, 1) := dk_42 (dk_at dksX1_third_0 0 rfl rfl)
theorem dX1_third_1 : decode cX1_third 1 = .ok (.iload_n 1, 1) := dk_27 (dk_at dksX1_third_0 1 rfl rfl)
theorem dX1_third_2 : decode cX1_third 2 = .ok (.iconst 1, 1) := dk_4 (dk_at dksX1_third_0 2 rfl rfl)
theorem dX1_third_3 : decode cX1_third 3 = .ok (.invokevirtual 224, 3) := dk_182 0 224 (dk_at dksX1_third_0 3 rfl rfl)
theorem dX1_third_6 : decode cX1_third 6 = .ok (.ireturn, 1) := dk_172 (dk_at dksX1_third_0 6 rfl rfl)
abbrev cX1_week : ByteArray := prog_1_method_27_code
abbrev yX1_week : MethodName := { cls := "WornSkin", name := "week", desc := "()I" }
def dkwX1_week_1 : List UInt8 := [172]
abbrev dktX1_week_1 : List UInt8 := dkwX1_week_1 ++ []
def dkwX1_week_0 : List UInt8 := [42, 182, 0, 209, 42, 180, 0, 40, 89, 180, 0, 227, 4, 96, 181, 0, 227, 42, 180, 0, 40, 180, 0, 227]
abbrev dktX1_week_0 : List UInt8 := dkwX1_week_0 ++ dktX1_week_1
theorem dksX1_week_0 : cX1_week.data.toList.drop 0 = dktX1_week_0 := by decide +kernel
theorem dksX1_week_1 : cX1_week.data.toList.drop 24 = dktX1_week_1 := dk_seg dksX1_week_0 24 rfl rfl
theorem dX1_week_0 : decode cX1_week 0 = .ok (.aload_n 0, 1) := dk_42 (dk_at dksX1_week_0 0 rfl rfl)
theorem dX1_week_1 : decode cX1_week 1 = .ok (.invokevirtual 209, 3) := dk_182 0 209 (dk_at dksX1_week_0 1 rfl rfl)
theorem dX1_week_4 : decode cX1_week 4 = .ok (.aload_n 0, 1) := dk_42 (dk_at dksX1_week_0 4 rfl rfl)
theorem dX1_week_5 : decode cX1_week 5 = .ok (.getfield 40, 3) := dk_180 0 40 (dk_at dksX1_week_0 5 rfl rfl)
theorem dX1_week_8 : decode cX1_week 8 = .ok (.dup, 1) := dk_89 (dk_at dksX1_week_0 8 rfl rfl)
theorem dX1_week_9 : decode cX1_week 9 = .ok (.getfield 227, 3) := dk_180 0 227 (dk_at dksX1_week_0 9 rfl rfl)
theorem dX1_week_12 : decode cX1_week 12 = .ok (.iconst 1, 1) := dk_4 (dk_at dksX1_week_0 12 rfl rfl)
theorem dX1_week_13 : decode cX1_week 13 = .ok (.iadd, 1) := dk_96 (dk_at dksX1_week_0 13 rfl rfl)
theorem dX1_week_14 : decode cX1_week 14 = .ok (.putfield 227, 3) := dk_181 0 227 (dk_at dksX1_week_0 14 rfl rfl)
theorem dX1_week_17 : decode cX1_week 17 = .ok (.aload_n 0, 1) := dk_42 (dk_at dksX1_week_0 17 rfl rfl)
theorem dX1_week_18 : decode cX1_week 18 = .ok (.getfield 40, 3) := dk_180 0 40 (dk_at dksX1_week_0 18 rfl rfl)
theorem dX1_week_21 : decode cX1_week 21 = .ok (.getfield 227, 3) := dk_180 0 227 (dk_at dksX1_week_0 21 rfl rfl)
theorem dX1_week_24 : decode cX1_week 24 = .ok (.ireturn, 1) := dk_172 (dk_at dksX1_week_1 0 rfl rfl)
abbrev cX1_undo : ByteArray := prog_1_method_28_code
abbrev yX1_undo : MethodName := { cls := "WornSkin", name := "undo", desc := "()Z" }
def dkwX1_undo_1 : List UInt8 := [4, 100, 182, 0, 194, 192, 0, 30, 181, 0, 40, 4, 172]
abbrev dktX1_undo_1 : List UInt8 := dkwX1_undo_1 ++ []
def dkwX1_undo_0 : List UInt8 := [42, 180, 0, 60, 182, 0, 230, 153, 0, 5, 3, 172, 42, 42, 180, 0, 60, 42, 180, 0, 60, 182, 0, 111]
abbrev dktX1_undo_0 : List UInt8 := dkwX1_undo_0 ++ dktX1_undo_1
theorem dksX1_undo_0 : cX1_undo.data.toList.drop 0 = dktX1_undo_0 := by decide +kernel
theorem dksX1_undo_1 : cX1_undo.data.toList.drop 24 = dktX1_undo_1 := dk_seg dksX1_undo_0 24 rfl rfl
theorem dX1_undo_0 : decode cX1_undo 0 = .ok (.aload_n 0, 1) := dk_42 (dk_at dksX1_undo_0 0 rfl rfl)
theorem dX1_undo_1 : decode cX1_undo 1 = .ok (.getfield 60, 3) := dk_180 0 60 (dk_at dksX1_undo_0 1 rfl rfl)
theorem dX1_undo_4 : decode cX1_undo 4 = .ok (.invokevirtual 230, 3) := dk_182 0 230 (dk_at dksX1_undo_0 4 rfl rfl)
theorem dX1_undo_7 : decode cX1_undo 7 = .ok (.ifCond .eq 5, 3) := dk_153 0 5 (dk_at dksX1_undo_0 7 rfl rfl)
theorem dX1_undo_10 : decode cX1_undo 10 = .ok (.iconst 0, 1) := dk_3 (dk_at dksX1_undo_0 10 rfl rfl)
theorem dX1_undo_11 : decode cX1_undo 11 = .ok (.ireturn, 1) := dk_172 (dk_at dksX1_undo_0 11 rfl rfl)
theorem dX1_undo_12 : decode cX1_undo 12 = .ok (.aload_n 0, 1) := dk_42 (dk_at dksX1_undo_0 12 rfl rfl)
theorem dX1_undo_13 : decode cX1_undo 13 = .ok (.aload_n 0, 1) := dk_42 (dk_at dksX1_undo_0 13 rfl rfl)
theorem dX1_undo_14 : decode cX1_undo 14 = .ok (.getfield 60, 3) := dk_180 0 60 (dk_at dksX1_undo_0 14 rfl rfl)
theorem dX1_undo_17 : decode cX1_undo 17 = .ok (.aload_n 0, 1) := dk_42 (dk_at dksX1_undo_0 17 rfl rfl)
theorem dX1_undo_18 : decode cX1_undo 18 = .ok (.getfield 60, 3) := dk_180 0 60 (dk_at dksX1_undo_0 18 rfl rfl)
theorem dX1_undo_21 : decode cX1_undo 21 = .ok (.invokevirtual 111, 3) := dk_182 0 111 (dk_at dksX1_undo_0 21 rfl rfl)
theorem dX1_undo_24 : decode cX1_undo 24 = .ok (.iconst 1, 1) := dk_4 (dk_at dksX1_undo_1 0 rfl rfl)
theorem dX1_undo_25 : decode cX1_undo 25 = .ok (.isub, 1) := dk_100 (dk_at dksX1_undo_1 1 rfl rfl)
theorem dX1_undo_26 : decode cX1_undo 26 = .ok (.invokevirtual 194, 3) := dk_182 0 194 (dk_at dksX1_undo_1 2 rfl rfl)
theorem dX1_undo_29 : decode cX1_undo 29 = .ok (.checkcast 30, 3) := dk_192 0 30 (dk_at dksX1_undo_1 5 rfl rfl)
theorem dX1_undo_32 : decode cX1_undo 32 = .ok (.putfield 40, 3) := dk_181 0 40 (dk_at dksX1_undo_1 8 rfl rfl)
theorem dX1_undo_35 : decode cX1_undo 35 = .ok (.iconst 1, 1) := dk_4 (dk_at dksX1_undo_1 11 rfl rfl)
theorem dX1_undo_36 : decode cX1_undo 36 = .ok (.ireturn, 1) := dk_172 (dk_at dksX1_undo_1 12 rfl rfl)
abbrev cX1_judged : ByteArray := prog_1_method_29_code
abbrev yX1_judged : MethodName := { cls := "WornSkin", name := "judged", desc := "(I)I" }
def dkwX1_judged_5 : List UInt8 := [42, 180, 0, 44, 182, 0, 152, 182, 0, 246, 184, 0, 249, 172]
abbrev dktX1_judged_5 : List UInt8 := dkwX1_judged_5 ++ []
def dkwX1_judged_4 : List UInt8 := [167, 255, 193, 27, 154, 0, 7, 28, 167, 0, 29, 27, 4, 160, 0, 7, 29, 167, 0, 20, 42, 180, 0, 44]
abbrev dktX1_judged_4 : List UInt8 := dkwX1_judged_4 ++ dktX1_judged_5
def dkwX1_judged_3 : List UInt8 := [21, 4, 61, 29, 2, 160, 0, 16, 42, 180, 0, 44, 182, 0, 243, 153, 0, 6, 21, 4, 62, 132, 4, 1]
abbrev dktX1_judged_3 : List UInt8 := dkwX1_judged_3 ++ dktX1_judged_4
def dkwX1_judged_2 : List UInt8 := [21, 4, 182, 0, 234, 192, 0, 237, 42, 180, 0, 44, 182, 0, 239, 154, 0, 11, 28, 2, 160, 0, 6]
abbrev dktX1_judged_2 : List UInt8 := dkwX1_judged_2 ++ dktX1_judged_3
def dkwX1_judged_1 : List UInt8 := [2, 61, 2, 62, 3, 54, 4, 21, 4, 42, 180, 0, 52, 182, 0, 111, 162, 0, 57, 42, 180, 0, 52]
abbrev dktX1_judged_1 : List UInt8 := dkwX1_judged_1 ++ dktX1_judged_2
def dkwX1_judged_0 : List UInt8 := [27, 3, 5, 184, 0, 120, 154, 0, 6, 16, 254, 172, 42, 180, 0, 44, 42, 182, 0, 98, 182, 0, 36, 87]
abbrev dktX1_judged_0 : List UInt8 := dkwX1_judged_0 ++ dktX1_judged_1
theorem dksX1_judged_0 : cX1_judged.data.toList.drop 0 = dktX1_judged_0 := by decide +kernel
theorem dksX1_judged_1 : cX1_judged.data.toList.drop 24 = dktX1_judged_1 := dk_seg dksX1_judged_0 24 rfl rfl
theorem dksX1_judged_2 : cX1_judged.data.toList.drop 47 = dktX1_judged_2 := dk_seg dksX1_judged_1 23 rfl rfl
theorem dksX1_judged_3 : cX1_judged.data.toList.drop 70 = dktX1_judged_3 := dk_seg dksX1_judged_2 23 rfl rfl
theorem dksX1_judged_4 : cX1_judged.data.toList.drop 94 = dktX1_judged_4 := dk_seg dksX1_judged_3 24 rfl rfl
theorem dksX1_judged_5 : cX1_judged.data.toList.drop 118 = dktX1_judged_5 := dk_seg dksX1_judged_4 24 rfl rfl
theorem dX1_judged_0 : decode cX1_judged 0 = .ok (.iload_n 1, 1) := dk_27 (dk_at dksX1_judged_0 0 rfl rfl)
theorem dX1_judged_1 : decode cX1_judged 1 = .ok (.iconst 0, 1) := dk_3 (dk_at dksX1_judged_0 1 rfl rfl)
theorem dX1_judged_2 : decode cX1_judged 2 = .ok (.iconst 2, 1) := dk_5 (dk_at dksX1_judged_0 2 rfl rfl)
theorem dX1_judged_3 : decode cX1_judged 3 = .ok (.invokestatic 120, 3) := dk_184 0 120 (dk_at dksX1_judged_0 3 rfl rfl)
theorem dX1_judged_6 : decode cX1_judged 6 = .ok (.ifCond .ne 6, 3) := dk_154 0 6 (dk_at dksX1_judged_0 6 rfl rfl)
theorem dX1_judged_9 : decode cX1_judged 9 = .ok (.bipush (-2), 2) := dk_16 254 (dk_at dksX1_judged_0 9 rfl rfl)
theorem dX1_judged_11 : decode cX1_judged 11 = .ok (.ireturn, 1) := dk_172 (dk_at dksX1_judged_0 11 rfl rfl)
theorem dX1_judged_12 : decode cX1_judged 12 = .ok (.aload_n 0, 1) := dk_42 (dk_at dksX1_judged_0 12 rfl rfl)
theorem dX1_judged_13 : decode cX1_judged 13 = .ok (.getfield 44, 3) := dk_180 0 44 (dk_at dksX1_judged_0 13 rfl rfl)
theorem dX1_judged_16 : decode cX1_judged 16 = .ok (.aload_n 0, 1) := dk_42 (dk_at dksX1_judged_0 16 rfl rfl)
theorem dX1_judged_17 : decode cX1_judged 17 = .ok (.invokevirtual 98, 3) := dk_182 0 98 (dk_at dksX1_judged_0 17 rfl rfl)
theorem dX1_judged_20 : decode cX1_judged 20 = .ok (.invokevirtual 36, 3) := dk_182 0 36 (dk_at dksX1_judged_0 20 rfl rfl)
theorem dX1_judged_23 : decode cX1_judged 23 = .ok (.pop, 1) := dk_87 (dk_at dksX1_judged_0 23 rfl rfl)
theorem dX1_judged_24 : decode cX1_judged 24 = .ok (.iconst (-1), 1) := dk_2 (dk_at dksX1_judged_1 0 rfl rfl)
theorem dX1_judged_25 : decode cX1_judged 25 = .ok (.istore_n 2, 1) := dk_61 (dk_at dksX1_judged_1 1 rfl rfl)
theorem dX1_judged_26 : decode cX1_judged 26 = .ok (.iconst (-1), 1) := dk_2 (dk_at dksX1_judged_1 2 rfl rfl)
theorem dX1_judged_27 : decode cX1_judged 27 = .ok (.istore_n 3, 1) := dk_62 (dk_at dksX1_judged_1 3 rfl rfl)
theorem dX1_judged_28 : decode cX1_judged 28 = .ok (.iconst 0, 1) := dk_3 (dk_at dksX1_judged_1 4 rfl rfl)
theorem dX1_judged_29 : decode cX1_judged 29 = .ok (.istore 4, 2) := dk_54 4 (dk_at dksX1_judged_1 5 rfl rfl)
theorem dX1_judged_31 : decode cX1_judged 31 = .ok (.iload 4, 2) := dk_21 4 (dk_at dksX1_judged_1 7 rfl rfl)
theorem dX1_judged_33 : decode cX1_judged 33 = .ok (.aload_n 0, 1) := dk_42 (dk_at dksX1_judged_1 9 rfl rfl)
theorem dX1_judged_34 : decode cX1_judged 34 = .ok (.getfield 52, 3) := dk_180 0 52 (dk_at dksX1_judged_1 10 rfl rfl)
theorem dX1_judged_37 : decode cX1_judged 37 = .ok (.invokevirtual 111, 3) := dk_182 0 111 (dk_at dksX1_judged_1 13 rfl rfl)
theorem dX1_judged_40 : decode cX1_judged 40 = .ok (.if_icmp .ge 57, 3) := dk_162 0 57 (dk_at dksX1_judged_1 16 rfl rfl)
theorem dX1_judged_43 : decode cX1_judged 43 = .ok (.aload_n 0, 1) := dk_42 (dk_at dksX1_judged_1 19 rfl rfl)
theorem dX1_judged_44 : decode cX1_judged 44 = .ok (.getfield 52, 3) := dk_180 0 52 (dk_at dksX1_judged_1 20 rfl rfl)
theorem dX1_judged_47 : decode cX1_judged 47 = .ok (.iload 4, 2) := dk_21 4 (dk_at dksX1_judged_2 0 rfl rfl)
theorem dX1_judged_49 : decode cX1_judged 49 = .ok (.invokevirtual 234, 3) := dk_182 0 234 (dk_at dksX1_judged_2 2 rfl rfl)
theorem dX1_judged_52 : decode cX1_judged 52 = .ok (.checkcast 237, 3) := dk_192 0 237 (dk_at dksX1_judged_2 5 rfl rfl)
theorem dX1_judged_55 : decode cX1_judged 55 = .ok (.aload_n 0, 1) := dk_42 (dk_at dksX1_judged_2 8 rfl rfl)
theorem dX1_judged_56 : decode cX1_judged 56 = .ok (.getfield 44, 3) := dk_180 0 44 (dk_at dksX1_judged_2 9 rfl rfl)
theorem dX1_judged_59 : decode cX1_judged 59 = .ok (.invokevirtual 239, 3) := dk_182 0 239 (dk_at dksX1_judged_2 12 rfl rfl)
theorem dX1_judged_62 : decode cX1_judged 62 = .ok (.ifCond .ne 11, 3) := dk_154 0 11 (dk_at dksX1_judged_2 15 rfl rfl)
theorem dX1_judged_65 : decode cX1_judged 65 = .ok (.iload_n 2, 1) := dk_28 (dk_at dksX1_judged_2 18 rfl rfl)
theorem dX1_judged_66 : decode cX1_judged 66 = .ok (.iconst (-1), 1) := dk_2 (dk_at dksX1_judged_2 19 rfl rfl)
theorem dX1_judged_67 : decode cX1_judged 67 = .ok (.if_icmp .ne 6, 3) := dk_160 0 6 (dk_at dksX1_judged_2 20 rfl rfl)
theorem dX1_judged_70 : decode cX1_judged 70 = .ok (.iload 4, 2) := dk_21 4 (dk_at dksX1_judged_3 0 rfl rfl)
theorem dX1_judged_72 : decode cX1_judged 72 = .ok (.istore_n 2, 1) := dk_61 (dk_at dksX1_judged_3 2 rfl rfl)
theorem dX1_judged_73 : decode cX1_judged 73 = .ok (.iload_n 3, 1) := dk_29 (dk_at dksX1_judged_3 3 rfl rfl)
theorem dX1_judged_74 : decode cX1_judged 74 = .ok (.iconst (-1), 1) := dk_2 (dk_at dksX1_judged_3 4 rfl rfl)
theorem dX1_judged_75 : decode cX1_judged 75 = .ok (.if_icmp .ne 16, 3) := dk_160 0 16 (dk_at dksX1_judged_3 5 rfl rfl)
theorem dX1_judged_78 : decode cX1_judged 78 = .ok (.aload_n 0, 1) := dk_42 (dk_at dksX1_judged_3 8 rfl rfl)
theorem dX1_judged_79 : decode cX1_judged 79 = .ok (.getfield 44, 3) := dk_180 0 44 (dk_at dksX1_judged_3 9 rfl rfl)
theorem dX1_judged_82 : decode cX1_judged 82 = .ok (.invokevirtual 243, 3) := dk_182 0 243 (dk_at dksX1_judged_3 12 rfl rfl)
theorem dX1_judged_85 : decode cX1_judged 85 = .ok (.ifCond .eq 6, 3) := dk_153 0 6 (dk_at dksX1_judged_3 15 rfl rfl)
theorem dX1_judged_88 : decode cX1_judged 88 = .ok (.iload 4, 2) := dk_21 4 (dk_at dksX1_judged_3 18 rfl rfl)
theorem dX1_judged_90 : decode cX1_judged 90 = .ok (.istore_n 3, 1) := dk_62 (dk_at dksX1_judged_3 20 rfl rfl)
theorem dX1_judged_91 : decode cX1_judged 91 = .ok (.iinc 4 1, 3) := dk_132 4 1 (dk_at dksX1_judged_3 21 rfl rfl)
theorem dX1_judged_94 : decode cX1_judged 94 = .ok (.goto (-63), 3) := dk_167 255 193 (dk_at dksX1_judged_4 0 rfl rfl)
theorem dX1_judged_97 : decode cX1_judged 97 = .ok (.iload_n 1, 1) := dk_27 (dk_at dksX1_judged_4 3 rfl rfl)
theorem dX1_judged_98 : decode cX1_judged 98 = .ok (.ifCond .ne 7, 3) := dk_154 0 7 (dk_at dksX1_judged_4 4 rfl rfl)
theorem dX1_judged_101 : decode cX1_judged 101 = .ok (.iload_n 2, 1) := dk_28 (dk_at dksX1_judged_4 7 rfl rfl)
theorem dX1_judged_102 : decode cX1_judged 102 = .ok (.goto 29, 3) := dk_167 0 29 (dk_at dksX1_judged_4 8 rfl rfl)
theorem dX1_judged_105 : decode cX1_judged 105 = .ok (.iload_n 1, 1) := dk_27 (dk_at dksX1_judged_4 11 rfl rfl)
theorem dX1_judged_106 : decode cX1_judged 106 = .ok (.iconst 1, 1) := dk_4 (dk_at dksX1_judged_4 12 rfl rfl)
theorem dX1_judged_107 : decode cX1_judged 107 = .ok (.if_icmp .ne 7, 3) := dk_160 0 7 (dk_at dksX1_judged_4 13 rfl rfl)
theorem dX1_judged_110 : decode cX1_judged 110 = .ok (.iload_n 3, 1) := dk_29 (dk_at dksX1_judged_4 16 rfl rfl)
theorem dX1_judged_111 : decode cX1_judged 111 = .ok (.goto 20, 3) := dk_167 0 20 (dk_at dksX1_judged_4 17 rfl rfl)
theorem dX1_judged_114 : decode cX1_judged 114 = .ok (.aload_n 0, 1) := dk_42 (dk_at dksX1_judged_4 20 rfl rfl)
theorem dX1_judged_115 : decode cX1_judged 115 = .ok (.getfield 44, 3) := dk_180 0 44 (dk_at dksX1_judged_4 21 rfl rfl)
theorem dX1_judged_118 : decode cX1_judged 118 = .ok (.aload_n 0, 1) := dk_42 (dk_at dksX1_judged_5 0 rfl rfl)
theorem dX1_judged_119 : decode cX1_judged 119 = .ok (.getfield 44, 3) := dk_180 0 44 (dk_at dksX1_judged_5 1 rfl rfl)
theorem dX1_judged_122 : decode cX1_judged 122 = .ok (.invokevirtual 152, 3) := dk_182 0 152 (dk_at dksX1_judged_5 4 rfl rfl)
theorem dX1_judged_125 : decode cX1_judged 125 = .ok (.invokevirtual 246, 3) := dk_182 0 246 (dk_at dksX1_judged_5 7 rfl rfl)
theorem dX1_judged_128 : decode cX1_judged 128 = .ok (.invokestatic 249, 3) := dk_184 0 249 (dk_at dksX1_judged_5 10 rfl rfl)
theorem dX1_judged_131 : decode cX1_judged 131 = .ok (.ireturn, 1) := dk_172 (dk_at dksX1_judged_5 13 rfl rfl)
abbrev cX1_later : ByteArray := prog_1_method_30_code
abbrev yX1_later : MethodName := { cls := "WornSkin", name := "later", desc := "(III)I" }
def dkwX1_later_2 : List UInt8 := [172]
abbrev dktX1_later_2 : List UInt8 := dkwX1_later_2 ++ []
def dkwX1_later_1 : List UInt8 := [28, 42, 182, 0, 98, 42, 180, 0, 40, 180, 0, 227, 29, 96, 182, 0, 252, 182, 0, 155, 167, 0, 4, 2]
abbrev dktX1_later_1 : List UInt8 := dkwX1_later_1 ++ dktX1_later_2
def dkwX1_later_0 : List UInt8 := [42, 27, 28, 182, 0, 182, 153, 0, 41, 29, 3, 16, 40, 184, 0, 120, 153, 0, 31, 42, 180, 0, 40, 27]
abbrev dktX1_later_0 : List UInt8 := dkwX1_later_0 ++ dktX1_later_1
theorem dksX1_later_0 : cX1_later.data.toList.drop 0 = dktX1_later_0 := by decide +kernel
theorem dksX1_later_1 : cX1_later.data.toList.drop 24 = dktX1_later_1 := dk_seg dksX1_later_0 24 rfl rfl
theorem dksX1_later_2 : cX1_later.data.toList.drop 48 = dktX1_later_2 := dk_seg dksX1_later_1 24 rfl rfl
theorem dX1_later_0 : decode cX1_later 0 = .ok (.aload_n 0, 1) := dk_42 (dk_at dksX1_later_0 0 rfl rfl)
theorem dX1_later_1 : decode cX1_later 1 = .ok (.iload_n 1, 1) := dk_27 (dk_at dksX1_later_0 1 rfl rfl)
theorem dX1_later_2 : decode cX1_later 2 = .ok (.iload_n 2, 1) := dk_28 (dk_at dksX1_later_0 2 rfl rfl)
theorem dX1_later_3 : decode cX1_later 3 = .ok (.invokevirtual 182, 3) := dk_182 0 182 (dk_at dksX1_later_0 3 rfl rfl)
theorem dX1_later_6 : decode cX1_later 6 = .ok (.ifCond .eq 41, 3) := dk_153 0 41 (dk_at dksX1_later_0 6 rfl rfl)
theorem dX1_later_9 : decode cX1_later 9 = .ok (.iload_n 3, 1) := dk_29 (dk_at dksX1_later_0 9 rfl rfl)
theorem dX1_later_10 : decode cX1_later 10 = .ok (.iconst 0, 1) := dk_3 (dk_at dksX1_later_0 10 rfl rfl)
theorem dX1_later_11 : decode cX1_later 11 = .ok (.bipush 40, 2) := dk_16 40 (dk_at dksX1_later_0 11 rfl rfl)
theorem dX1_later_13 : decode cX1_later 13 = .ok (.invokestatic 120, 3) := dk_184 0 120 (dk_at dksX1_later_0 13 rfl rfl)
theorem dX1_later_16 : decode cX1_later 16 = .ok (.ifCond .eq 31, 3) := dk_153 0 31 (dk_at dksX1_later_0 16 rfl rfl)
theorem dX1_later_19 : decode cX1_later 19 = .ok (.aload_n 0, 1) := dk_42 (dk_at dksX1_later_0 19 rfl rfl)
theorem dX1_later_20 : decode cX1_later 20 = .ok (.getfield 40, 3) := dk_180 0 40 (dk_at dksX1_later_0 20 rfl rfl)
theorem dX1_later_23 : decode cX1_later 23 = .ok (.iload_n 1, 1) := dk_27 (dk_at dksX1_later_0 23 rfl rfl)
theorem dX1_later_24 : decode cX1_later 24 = .ok (.iload_n 2, 1) := dk_28 (dk_at dksX1_later_1 0 rfl rfl)
theorem dX1_later_25 : decode cX1_later 25 = .ok (.aload_n 0, 1) := dk_42 (dk_at dksX1_later_1 1 rfl rfl)
theorem dX1_later_26 : decode cX1_later 26 = .ok (.invokevirtual 98, 3) := dk_182 0 98 (dk_at dksX1_later_1 2 rfl rfl)
theorem dX1_later_29 : decode cX1_later 29 = .ok (.aload_n 0, 1) := dk_42 (dk_at dksX1_later_1 5 rfl rfl)
theorem dX1_later_30 : decode cX1_later 30 = .ok (.getfield 40, 3) := dk_180 0 40 (dk_at dksX1_later_1 6 rfl rfl)
theorem dX1_later_33 : decode cX1_later 33 = .ok (.getfield 227, 3) := dk_180 0 227 (dk_at dksX1_later_1 9 rfl rfl)
theorem dX1_later_36 : decode cX1_later 36 = .ok (.iload_n 3, 1) := dk_29 (dk_at dksX1_later_1 12 rfl rfl)
theorem dX1_later_37 : decode cX1_later 37 = .ok (.iadd, 1) := dk_96 (dk_at dksX1_later_1 13 rfl rfl)
theorem dX1_later_38 : decode cX1_later 38 = .ok (.invokevirtual 252, 3) := dk_182 0 252 (dk_at dksX1_later_1 14 rfl rfl)
theorem dX1_later_41 : decode cX1_later 41 = .ok (.invokevirtual 155, 3) := dk_182 0 155 (dk_at dksX1_later_1 17 rfl rfl)
theorem dX1_later_44 : decode cX1_later 44 = .ok (.goto 4, 3) := dk_167 0 4 (dk_at dksX1_later_1 20 rfl rfl)
theorem dX1_later_47 : decode cX1_later 47 = .ok (.iconst (-1), 1) := dk_2 (dk_at dksX1_later_1 23 rfl rfl)
theorem dX1_later_48 : decode cX1_later 48 = .ok (.ireturn, 1) := dk_172 (dk_at dksX1_later_2 0 rfl rfl)
abbrev cX1_when : ByteArray := prog_1_method_31_code
abbrev yX1_when : MethodName := { cls := "WornSkin", name := "when", desc := "(I)I" }
def dkwX1_when_2 : List UInt8 := [132, 2, 1, 167, 255, 218, 2, 172]
abbrev dktX1_when_2 : List UInt8 := dkwX1_when_2 ++ []
def dkwX1_when_1 : List UInt8 := [182, 0, 98, 42, 180, 0, 40, 180, 0, 227, 28, 96, 182, 0, 252, 182, 0, 174, 153, 0, 5, 28, 172]
abbrev dktX1_when_1 : List UInt8 := dkwX1_when_1 ++ dktX1_when_2
def dkwX1_when_0 : List UInt8 := [42, 27, 182, 0, 159, 154, 0, 5, 2, 172, 3, 61, 28, 16, 40, 163, 0, 38, 42, 180, 0, 40, 27, 42]
abbrev dktX1_when_0 : List UInt8 := dkwX1_when_0 ++ dktX1_when_1
theorem dksX1_when_0 : cX1_when.data.toList.drop 0 = dktX1_when_0 := by decide +kernel
theorem dksX1_when_1 : cX1_when.data.toList.drop 24 = dktX1_when_1 := dk_seg dksX1_when_0 24 rfl rfl
theorem dksX1_when_2 : cX1_when.data.toList.drop 47 = dktX1_when_2 := dk_seg dksX1_when_1 23 rfl rfl
theorem dX1_when_0 : decode cX1_when 0 = .ok (.aload_n 0, 1) := dk_42 (dk_at dksX1_when_0 0 rfl rfl)
theorem dX1_when_1 : decode cX1_when 1 = .ok (.iload_n 1, 1) := dk_27 (dk_at dksX1_when_0 1 rfl rfl)
theorem dX1_when_2 : decode cX1_when 2 = .ok (.invokevirtual 159, 3) := dk_182 0 159 (dk_at dksX1_when_0 2 rfl rfl)
theorem dX1_when_5 : decode cX1_when 5 = .ok (.ifCond .ne 5, 3) := dk_154 0 5 (dk_at dksX1_when_0 5 rfl rfl)
theorem dX1_when_8 : decode cX1_when 8 = .ok (.iconst (-1), 1) := dk_2 (dk_at dksX1_when_0 8 rfl rfl)
theorem dX1_when_9 : decode cX1_when 9 = .ok (.ireturn, 1) := dk_172 (dk_at dksX1_when_0 9 rfl rfl)
theorem dX1_when_10 : decode cX1_when 10 = .ok (.iconst 0, 1) := dk_3 (dk_at dksX1_when_0 10 rfl rfl)
theorem dX1_when_11 : decode cX1_when 11 = .ok (.istore_n 2, 1) := dk_61 (dk_at dksX1_when_0 11 rfl rfl)
theorem dX1_when_12 : decode cX1_when 12 = .ok (.iload_n 2, 1) := dk_28 (dk_at dksX1_when_0 12 rfl rfl)
theorem dX1_when_13 : decode cX1_when 13 = .ok (.bipush 40, 2) := dk_16 40 (dk_at dksX1_when_0 13 rfl rfl)
theorem dX1_when_15 : decode cX1_when 15 = .ok (.if_icmp .gt 38, 3) := dk_163 0 38 (dk_at dksX1_when_0 15 rfl rfl)
theorem dX1_when_18 : decode cX1_when 18 = .ok (.aload_n 0, 1) := dk_42 (dk_at dksX1_when_0 18 rfl rfl)
theorem dX1_when_19 : decode cX1_when 19 = .ok (.getfield 40, 3) := dk_180 0 40 (dk_at dksX1_when_0 19 rfl rfl)
theorem dX1_when_22 : decode cX1_when 22 = .ok (.iload_n 1, 1) := dk_27 (dk_at dksX1_when_0 22 rfl rfl)
theorem dX1_when_23 : decode cX1_when 23 = .ok (.aload_n 0, 1) := dk_42 (dk_at dksX1_when_0 23 rfl rfl)
theorem dX1_when_24 : decode cX1_when 24 = .ok (.invokevirtual 98, 3) := dk_182 0 98 (dk_at dksX1_when_1 0 rfl rfl)
theorem dX1_when_27 : decode cX1_when 27 = .ok (.aload_n 0, 1) := dk_42 (dk_at dksX1_when_1 3 rfl rfl)
theorem dX1_when_28 : decode cX1_when 28 = .ok (.getfield 40, 3) := dk_180 0 40 (dk_at dksX1_when_1 4 rfl rfl)
theorem dX1_when_31 : decode cX1_when 31 = .ok (.getfield 227, 3) := dk_180 0 227 (dk_at dksX1_when_1 7 rfl rfl)
theorem dX1_when_34 : decode cX1_when 34 = .ok (.iload_n 2, 1) := dk_28 (dk_at dksX1_when_1 10 rfl rfl)
theorem dX1_when_35 : decode cX1_when 35 = .ok (.iadd, 1) := dk_96 (dk_at dksX1_when_1 11 rfl rfl)
theorem dX1_when_36 : decode cX1_when 36 = .ok (.invokevirtual 252, 3) := dk_182 0 252 (dk_at dksX1_when_1 12 rfl rfl)
theorem dX1_when_39 : decode cX1_when 39 = .ok (.invokevirtual 174, 3) := dk_182 0 174 (dk_at dksX1_when_1 15 rfl rfl)
theorem dX1_when_42 : decode cX1_when 42 = .ok (.ifCond .eq 5, 3) := dk_153 0 5 (dk_at dksX1_when_1 18 rfl rfl)
theorem dX1_when_45 : decode cX1_when 45 = .ok (.iload_n 2, 1) := dk_28 (dk_at dksX1_when_1 21 rfl rfl)
theorem dX1_when_46 : decode cX1_when 46 = .ok (.ireturn, 1) := dk_172 (dk_at dksX1_when_1 22 rfl rfl)
theorem dX1_when_47 : decode cX1_when 47 = .ok (.iinc 2 1, 3) := dk_132 2 1 (dk_at dksX1_when_2 0 rfl rfl)
theorem dX1_when_50 : decode cX1_when 50 = .ok (.goto (-38), 3) := dk_167 255 218 (dk_at dksX1_when_2 3 rfl rfl)
theorem dX1_when_53 : decode cX1_when 53 = .ok (.iconst (-1), 1) := dk_2 (dk_at dksX1_when_2 6 rfl rfl)
theorem dX1_when_54 : decode cX1_when 54 = .ok (.ireturn, 1) := dk_172 (dk_at dksX1_when_2 7 rfl rfl)
abbrev cX1_need : ByteArray := prog_1_method_32_code
abbrev yX1_need : MethodName := { cls := "WornSkin", name := "need", desc := "(I)I" }
def dkwX1_need_1 : List UInt8 := [182, 0, 174, 153, 0, 5, 28, 172, 132, 2, 1, 167, 255, 233, 2, 172]
abbrev dktX1_need_1 : List UInt8 := dkwX1_need_1 ++ []
def dkwX1_need_0 : List UInt8 := [42, 27, 182, 0, 159, 154, 0, 5, 2, 172, 3, 61, 28, 16, 9, 163, 0, 23, 42, 180, 0, 40, 27, 28]
abbrev dktX1_need_0 : List UInt8 := dkwX1_need_0 ++ dktX1_need_1
theorem dksX1_need_0 : cX1_need.data.toList.drop 0 = dktX1_need_0 := by decide +kernel
theorem dksX1_need_1 : cX1_need.data.toList.drop 24 = dktX1_need_1 := dk_seg dksX1_need_0 24 rfl rfl
theorem dX1_need_0 : decode cX1_need 0 = .ok (.aload_n 0, 1) := dk_42 (dk_at dksX1_need_0 0 rfl rfl)
theorem dX1_need_1 : decode cX1_need 1 = .ok (.iload_n 1, 1) := dk_27 (dk_at dksX1_need_0 1 rfl rfl)
theorem dX1_need_2 : decode cX1_need 2 = .ok (.invokevirtual 159, 3) := dk_182 0 159 (dk_at dksX1_need_0 2 rfl rfl)
theorem dX1_need_5 : decode cX1_need 5 = .ok (.ifCond .ne 5, 3) := dk_154 0 5 (dk_at dksX1_need_0 5 rfl rfl)
theorem dX1_need_8 : decode cX1_need 8 = .ok (.iconst (-1), 1) := dk_2 (dk_at dksX1_need_0 8 rfl rfl)
theorem dX1_need_9 : decode cX1_need 9 = .ok (.ireturn, 1) := dk_172 (dk_at dksX1_need_0 9 rfl rfl)
theorem dX1_need_10 : decode cX1_need 10 = .ok (.iconst 0, 1) := dk_3 (dk_at dksX1_need_0 10 rfl rfl)
theorem dX1_need_11 : decode cX1_need 11 = .ok (.istore_n 2, 1) := dk_61 (dk_at dksX1_need_0 11 rfl rfl)
theorem dX1_need_12 : decode cX1_need 12 = .ok (.iload_n 2, 1) := dk_28 (dk_at dksX1_need_0 12 rfl rfl)
theorem dX1_need_13 : decode cX1_need 13 = .ok (.bipush 9, 2) := dk_16 9 (dk_at dksX1_need_0 13 rfl rfl)
theorem dX1_need_15 : decode cX1_need 15 = .ok (.if_icmp .gt 23, 3) := dk_163 0 23 (dk_at dksX1_need_0 15 rfl rfl)
theorem dX1_need_18 : decode cX1_need 18 = .ok (.aload_n 0, 1) := dk_42 (dk_at dksX1_need_0 18 rfl rfl)
theorem dX1_need_19 : decode cX1_need 19 = .ok (.getfield 40, 3) := dk_180 0 40 (dk_at dksX1_need_0 19 rfl rfl)
theorem dX1_need_22 : decode cX1_need 22 = .ok (.iload_n 1, 1) := dk_27 (dk_at dksX1_need_0 22 rfl rfl)
theorem dX1_need_23 : decode cX1_need 23 = .ok (.iload_n 2, 1) := dk_28 (dk_at dksX1_need_0 23 rfl rfl)
theorem dX1_need_24 : decode cX1_need 24 = .ok (.invokevirtual 174, 3) := dk_182 0 174 (dk_at dksX1_need_1 0 rfl rfl)
theorem dX1_need_27 : decode cX1_need 27 = .ok (.ifCond .eq 5, 3) := dk_153 0 5 (dk_at dksX1_need_1 3 rfl rfl)
theorem dX1_need_30 : decode cX1_need 30 = .ok (.iload_n 2, 1) := dk_28 (dk_at dksX1_need_1 6 rfl rfl)
theorem dX1_need_31 : decode cX1_need 31 = .ok (.ireturn, 1) := dk_172 (dk_at dksX1_need_1 7 rfl rfl)
theorem dX1_need_32 : decode cX1_need 32 = .ok (.iinc 2 1, 3) := dk_132 2 1 (dk_at dksX1_need_1 8 rfl rfl)
theorem dX1_need_35 : decode cX1_need 35 = .ok (.goto (-23), 3) := dk_167 255 233 (dk_at dksX1_need_1 11 rfl rfl)
theorem dX1_need_38 : decode cX1_need 38 = .ok (.iconst (-1), 1) := dk_2 (dk_at dksX1_need_1 14 rfl rfl)
theorem dX1_need_39 : decode cX1_need 39 = .ok (.ireturn, 1) := dk_172 (dk_at dksX1_need_1 15 rfl rfl)
abbrev cX1_psalter : ByteArray := prog_1_method_33_code
abbrev yX1_psalter : MethodName := { cls := "WornSkin", name := "psalter", desc := "(I)I" }
def dkwX1_psalter_1 : List UInt8 := [27, 29, 182, 0, 174, 153, 0, 6, 132, 2, 1, 132, 3, 1, 167, 255, 232, 28, 172]
abbrev dktX1_psalter_1 : List UInt8 := dkwX1_psalter_1 ++ []
def dkwX1_psalter_0 : List UInt8 := [42, 27, 182, 0, 159, 154, 0, 5, 2, 172, 3, 61, 3, 62, 29, 16, 9, 163, 0, 24, 42, 180, 0, 40]
abbrev dktX1_psalter_0 : List UInt8 := dkwX1_psalter_0 ++ dktX1_psalter_1
theorem dksX1_psalter_0 : cX1_psalter.data.toList.drop 0 = dktX1_psalter_0 := by decide +kernel
theorem dksX1_psalter_1 : cX1_psalter.data.toList.drop 24 = dktX1_psalter_1 := dk_seg dksX1_psalter_0 24 rfl rfl
theorem dX1_psalter_0 : decode cX1_psalter 0 = .ok (.aload_n 0, 1) := dk_42 (dk_at dksX1_psalter_0 0 rfl rfl)
theorem dX1_psalter_1 : decode cX1_psalter 1 = .ok (.iload_n 1, 1) := dk_27 (dk_at dksX1_psalter_0 1 rfl rfl)
theorem dX1_psalter_2 : decode cX1_psalter 2 = .ok (.invokevirtual 159, 3) := dk_182 0 159 (dk_at dksX1_psalter_0 2 rfl rfl)
theorem dX1_psalter_5 : decode cX1_psalter 5 = .ok (.ifCond .ne 5, 3) := dk_154 0 5 (dk_at dksX1_psalter_0 5 rfl rfl)
theorem dX1_psalter_8 : decode cX1_psalter 8 = .ok (.iconst (-1), 1) := dk_2 (dk_at dksX1_psalter_0 8 rfl rfl)
theorem dX1_psalter_9 : decode cX1_psalter 9 = .ok (.ireturn, 1) := dk_172 (dk_at dksX1_psalter_0 9 rfl rfl)
theorem dX1_psalter_10 : decode cX1_psalter 10 = .ok (.iconst 0, 1) := dk_3 (dk_at dksX1_psalter_0 10 rfl rfl)
theorem dX1_psalter_11 : decode cX1_psalter 11 = .ok (.istore_n 2, 1) := dk_61 (dk_at dksX1_psalter_0 11 rfl rfl)
theorem dX1_psalter_12 : decode cX1_psalter 12 = .ok (.iconst 0, 1) := dk_3 (dk_at dksX1_psalter_0 12 rfl rfl)
theorem dX1_psalter_13 : decode cX1_psalter 13 = .ok (.istore_n 3, 1) := dk_62 (dk_at dksX1_psalter_0 13 rfl rfl)
theorem dX1_psalter_14 : decode cX1_psalter 14 = .ok (.iload_n 3, 1) := dk_29 (dk_at dksX1_psalter_0 14 rfl rfl)
theorem dX1_psalter_15 : decode cX1_psalter 15 = .ok (.bipush 9, 2) := dk_16 9 (dk_at dksX1_psalter_0 15 rfl rfl)
theorem dX1_psalter_17 : decode cX1_psalter 17 = .ok (.if_icmp .gt 24, 3) := dk_163 0 24 (dk_at dksX1_psalter_0 17 rfl rfl)
theorem dX1_psalter_20 : decode cX1_psalter 20 = .ok (.aload_n 0, 1) := dk_42 (dk_at dksX1_psalter_0 20 rfl rfl)
theorem dX1_psalter_21 : decode cX1_psalter 21 = .ok (.getfield 40, 3) := dk_180 0 40 (dk_at dksX1_psalter_0 21 rfl rfl)
theorem dX1_psalter_24 : decode cX1_psalter 24 = .ok (.iload_n 1, 1) := dk_27 (dk_at dksX1_psalter_1 0 rfl rfl)
theorem dX1_psalter_25 : decode cX1_psalter 25 = .ok (.iload_n 3, 1) := dk_29 (dk_at dksX1_psalter_1 1 rfl rfl)
theorem dX1_psalter_26 : decode cX1_psalter 26 = .ok (.invokevirtual 174, 3) := dk_182 0 174 (dk_at dksX1_psalter_1 2 rfl rfl)
theorem dX1_psalter_29 : decode cX1_psalter 29 = .ok (.ifCond .eq 6, 3) := dk_153 0 6 (dk_at dksX1_psalter_1 5 rfl rfl)
theorem dX1_psalter_32 : decode cX1_psalter 32 = .ok (.iinc 2 1, 3) := dk_132 2 1 (dk_at dksX1_psalter_1 8 rfl rfl)
theorem dX1_psalter_35 : decode cX1_psalter 35 = .ok (.iinc 3 1, 3) := dk_132 3 1 (dk_at dksX1_psalter_1 11 rfl rfl)
theorem dX1_psalter_38 : decode cX1_psalter 38 = .ok (.goto (-24), 3) := dk_167 255 232 (dk_at dksX1_psalter_1 14 rfl rfl)
theorem dX1_psalter_41 : decode cX1_psalter 41 = .ok (.iload_n 2, 1) := dk_28 (dk_at dksX1_psalter_1 17 rfl rfl)
theorem dX1_psalter_42 : decode cX1_psalter 42 = .ok (.ireturn, 1) := dk_172 (dk_at dksX1_psalter_1 18 rfl rfl)
abbrev cX1_isLayer : ByteArray := prog_1_method_34_code
abbrev yX1_isLayer : MethodName := { cls := "WornSkin", name := "isLayer", desc := "(I)Z" }
def dkwX1_isLayer_2 : List UInt8 := [167, 255, 211, 3, 172]
abbrev dktX1_isLayer_2 : List UInt8 := dkwX1_isLayer_2 ++ []
def dkwX1_isLayer_1 : List UInt8 := [180, 0, 40, 28, 29, 182, 0, 191, 27, 160, 0, 5, 4, 172, 132, 3, 1, 167, 255, 225, 132, 2, 1]
abbrev dktX1_isLayer_1 : List UInt8 := dkwX1_isLayer_1 ++ dktX1_isLayer_2
def dkwX1_isLayer_0 : List UInt8 := [3, 61, 28, 16, 18, 162, 0, 45, 3, 62, 29, 42, 180, 0, 40, 180, 0, 185, 28, 46, 162, 0, 24, 42]
abbrev dktX1_isLayer_0 : List UInt8 := dkwX1_isLayer_0 ++ dktX1_isLayer_1
theorem dksX1_isLayer_0 : cX1_isLayer.data.toList.drop 0 = dktX1_isLayer_0 := by decide +kernel
theorem dksX1_isLayer_1 : cX1_isLayer.data.toList.drop 24 = dktX1_isLayer_1 := dk_seg dksX1_isLayer_0 24 rfl rfl
theorem dksX1_isLayer_2 : cX1_isLayer.data.toList.drop 47 = dktX1_isLayer_2 := dk_seg dksX1_isLayer_1 23 rfl rfl
theorem dX1_isLayer_0 : decode cX1_isLayer 0 = .ok (.iconst 0, 1) := dk_3 (dk_at dksX1_isLayer_0 0 rfl rfl)
theorem dX1_isLayer_1 : decode cX1_isLayer 1 = .ok (.istore_n 2, 1) := dk_61 (dk_at dksX1_isLayer_0 1 rfl rfl)
theorem dX1_isLayer_2 : decode cX1_isLayer 2 = .ok (.iload_n 2, 1) := dk_28 (dk_at dksX1_isLayer_0 2 rfl rfl)
theorem dX1_isLayer_3 : decode cX1_isLayer 3 = .ok (.bipush 18, 2) := dk_16 18 (dk_at dksX1_isLayer_0 3 rfl rfl)
theorem dX1_isLayer_5 : decode cX1_isLayer 5 = .ok (.if_icmp .ge 45, 3) := dk_162 0 45 (dk_at dksX1_isLayer_0 5 rfl rfl)
theorem dX1_isLayer_8 : decode cX1_isLayer 8 = .ok (.iconst 0, 1) := dk_3 (dk_at dksX1_isLayer_0 8 rfl rfl)
theorem dX1_isLayer_9 : decode cX1_isLayer 9 = .ok (.istore_n 3, 1) := dk_62 (dk_at dksX1_isLayer_0 9 rfl rfl)
theorem dX1_isLayer_10 : decode cX1_isLayer 10 = .ok (.iload_n 3, 1) := dk_29 (dk_at dksX1_isLayer_0 10 rfl rfl)
theorem dX1_isLayer_11 : decode cX1_isLayer 11 = .ok (.aload_n 0, 1) := dk_42 (dk_at dksX1_isLayer_0 11 rfl rfl)
theorem dX1_isLayer_12 : decode cX1_isLayer 12 = .ok (.getfield 40, 3) := dk_180 0 40 (dk_at dksX1_isLayer_0 12 rfl rfl)
theorem dX1_isLayer_15 : decode cX1_isLayer 15 = .ok (.getfield 185, 3) := dk_180 0 185 (dk_at dksX1_isLayer_0 15 rfl rfl)
theorem dX1_isLayer_18 : decode cX1_isLayer 18 = .ok (.iload_n 2, 1) := dk_28 (dk_at dksX1_isLayer_0 18 rfl rfl)
theorem dX1_isLayer_19 : decode cX1_isLayer 19 = .ok (.iaload, 1) := dk_46 (dk_at dksX1_isLayer_0 19 rfl rfl)
theorem dX1_isLayer_20 : decode cX1_isLayer 20 = .ok (.if_icmp .ge 24, 3) := dk_162 0 24 (dk_at dksX1_isLayer_0 20 rfl rfl)
theorem dX1_isLayer_23 : decode cX1_isLayer 23 = .ok (.aload_n 0, 1) := dk_42 (dk_at dksX1_isLayer_0 23 rfl rfl)
theorem dX1_isLayer_24 : decode cX1_isLayer 24 = .ok (.getfield 40, 3) := dk_180 0 40 (dk_at dksX1_isLayer_1 0 rfl rfl)
theorem dX1_isLayer_27 : decode cX1_isLayer 27 = .ok (.iload_n 2, 1) := dk_28 (dk_at dksX1_isLayer_1 3 rfl rfl)
theorem dX1_isLayer_28 : decode cX1_isLayer 28 = .ok (.iload_n 3, 1) := dk_29 (dk_at dksX1_isLayer_1 4 rfl rfl)
theorem dX1_isLayer_29 : decode cX1_isLayer 29 = .ok (.invokevirtual 191, 3) := dk_182 0 191 (dk_at dksX1_isLayer_1 5 rfl rfl)
theorem dX1_isLayer_32 : decode cX1_isLayer 32 = .ok (.iload_n 1, 1) := dk_27 (dk_at dksX1_isLayer_1 8 rfl rfl)
theorem dX1_isLayer_33 : decode cX1_isLayer 33 = .ok (.if_icmp .ne 5, 3) := dk_160 0 5 (dk_at dksX1_isLayer_1 9 rfl rfl)
theorem dX1_isLayer_36 : decode cX1_isLayer 36 = .ok (.iconst 1, 1) := dk_4 (dk_at dksX1_isLayer_1 12 rfl rfl)
theorem dX1_isLayer_37 : decode cX1_isLayer 37 = .ok (.ireturn, 1) := dk_172 (dk_at dksX1_isLayer_1 13 rfl rfl)
theorem dX1_isLayer_38 : decode cX1_isLayer 38 = .ok (.iinc 3 1, 3) := dk_132 3 1 (dk_at dksX1_isLayer_1 14 rfl rfl)
theorem dX1_isLayer_41 : decode cX1_isLayer 41 = .ok (.goto (-31), 3) := dk_167 255 225 (dk_at dksX1_isLayer_1 17 rfl rfl)
theorem dX1_isLayer_44 : decode cX1_isLayer 44 = .ok (.iinc 2 1, 3) := dk_132 2 1 (dk_at dksX1_isLayer_1 20 rfl rfl)
theorem dX1_isLayer_47 : decode cX1_isLayer 47 = .ok (.goto (-45), 3) := dk_167 255 211 (dk_at dksX1_isLayer_2 0 rfl rfl)
theorem dX1_isLayer_50 : decode cX1_isLayer 50 = .ok (.iconst 0, 1) := dk_3 (dk_at dksX1_isLayer_2 3 rfl rfl)
theorem dX1_isLayer_51 : decode cX1_isLayer 51 = .ok (.ireturn, 1) := dk_172 (dk_at dksX1_isLayer_2 4 rfl rfl)
abbrev cX1_lost : ByteArray := prog_1_method_35_code
abbrev yX1_lost : MethodName := { cls := "WornSkin", name := "lost", desc := "()I" }
def dkwX1_lost_3 : List UInt8 := [172]
abbrev dktX1_lost_3 : List UInt8 := dkwX1_lost_3 ++ []
def dkwX1_lost_2 : List UInt8 := [62, 132, 4, 1, 167, 255, 226, 29, 153, 0, 9, 27, 4, 28, 120, 128, 60, 132, 2, 1, 167, 255, 193, 27]
abbrev dktX1_lost_2 : List UInt8 := dkwX1_lost_2 ++ dktX1_lost_3
def dkwX1_lost_1 : List UInt8 := [16, 9, 163, 0, 29, 29, 153, 0, 17, 42, 28, 21, 4, 182, 0, 178, 154, 0, 7, 4, 167, 0, 4, 3]
abbrev dktX1_lost_1 : List UInt8 := dkwX1_lost_1 ++ dktX1_lost_2
def dkwX1_lost_0 : List UInt8 := [3, 60, 3, 61, 28, 42, 182, 0, 124, 162, 0, 61, 42, 28, 182, 0, 254, 62, 3, 54, 4, 21, 4]
abbrev dktX1_lost_0 : List UInt8 := dkwX1_lost_0 ++ dktX1_lost_1
theorem dksX1_lost_0 : cX1_lost.data.toList.drop 0 = dktX1_lost_0 := by decide +kernel
theorem dksX1_lost_1 : cX1_lost.data.toList.drop 23 = dktX1_lost_1 := dk_seg dksX1_lost_0 23 rfl rfl
theorem dksX1_lost_2 : cX1_lost.data.toList.drop 47 = dktX1_lost_2 := dk_seg dksX1_lost_1 24 rfl rfl
theorem dksX1_lost_3 : cX1_lost.data.toList.drop 71 = dktX1_lost_3 := dk_seg dksX1_lost_2 24 rfl rfl
theorem dX1_lost_0 : decode cX1_lost 0 = .ok (.iconst 0, 1) := dk_3 (dk_at dksX1_lost_0 0 rfl rfl)
theorem dX1_lost_1 : decode cX1_lost 1 = .ok (.istore_n 1, 1) := dk_60 (dk_at dksX1_lost_0 1 rfl rfl)
theorem dX1_lost_2 : decode cX1_lost 2 = .ok (.iconst 0, 1) := dk_3 (dk_at dksX1_lost_0 2 rfl rfl)
theorem dX1_lost_3 : decode cX1_lost 3 = .ok (.istore_n 2, 1) := dk_61 (dk_at dksX1_lost_0 3 rfl rfl)
theorem dX1_lost_4 : decode cX1_lost 4 = .ok (.iload_n 2, 1) := dk_28 (dk_at dksX1_lost_0 4 rfl rfl)
theorem dX1_lost_5 : decode cX1_lost 5 = .ok (.aload_n 0, 1) := dk_42 (dk_at dksX1_lost_0 5 rfl rfl)
theorem dX1_lost_6 : decode cX1_lost 6 = .ok (.invokevirtual 124, 3) := dk_182 0 124 (dk_at dksX1_lost_0 6 rfl rfl)
theorem dX1_lost_9 : decode cX1_lost 9 = .ok (.if_icmp .ge 61, 3) := dk_162 0 61 (dk_at dksX1_lost_0 9 rfl rfl)
theorem dX1_lost_12 : decode cX1_lost 12 = .ok (.aload_n 0, 1) := dk_42 (dk_at dksX1_lost_0 12 rfl rfl)
theorem dX1_lost_13 : decode cX1_lost 13 = .ok (.iload_n 2, 1) := dk_28 (dk_at dksX1_lost_0 13 rfl rfl)
theorem dX1_lost_14 : decode cX1_lost 14 = .ok (.invokevirtual 254, 3) := dk_182 0 254 (dk_at dksX1_lost_0 14 rfl rfl)
theorem dX1_lost_17 : decode cX1_lost 17 = .ok (.istore_n 3, 1) := dk_62 (dk_at dksX1_lost_0 17 rfl rfl)
theorem dX1_lost_18 : decode cX1_lost 18 = .ok (.iconst 0, 1) := dk_3 (dk_at dksX1_lost_0 18 rfl rfl)
theorem dX1_lost_19 : decode cX1_lost 19 = .ok (.istore 4, 2) := dk_54 4 (dk_at dksX1_lost_0 19 rfl rfl)
theorem dX1_lost_21 : decode cX1_lost 21 = .ok (.iload 4, 2) := dk_21 4 (dk_at dksX1_lost_0 21 rfl rfl)
theorem dX1_lost_23 : decode cX1_lost 23 = .ok (.bipush 9, 2) := dk_16 9 (dk_at dksX1_lost_1 0 rfl rfl)
theorem dX1_lost_25 : decode cX1_lost 25 = .ok (.if_icmp .gt 29, 3) := dk_163 0 29 (dk_at dksX1_lost_1 2 rfl rfl)
theorem dX1_lost_28 : decode cX1_lost 28 = .ok (.iload_n 3, 1) := dk_29 (dk_at dksX1_lost_1 5 rfl rfl)
theorem dX1_lost_29 : decode cX1_lost 29 = .ok (.ifCond .eq 17, 3) := dk_153 0 17 (dk_at dksX1_lost_1 6 rfl rfl)
theorem dX1_lost_32 : decode cX1_lost 32 = .ok (.aload_n 0, 1) := dk_42 (dk_at dksX1_lost_1 9 rfl rfl)
theorem dX1_lost_33 : decode cX1_lost 33 = .ok (.iload_n 2, 1) := dk_28 (dk_at dksX1_lost_1 10 rfl rfl)
theorem dX1_lost_34 : decode cX1_lost 34 = .ok (.iload 4, 2) := dk_21 4 (dk_at dksX1_lost_1 11 rfl rfl)
theorem dX1_lost_36 : decode cX1_lost 36 = .ok (.invokevirtual 178, 3) := dk_182 0 178 (dk_at dksX1_lost_1 13 rfl rfl)
theorem dX1_lost_39 : decode cX1_lost 39 = .ok (.ifCond .ne 7, 3) := dk_154 0 7 (dk_at dksX1_lost_1 16 rfl rfl)
theorem dX1_lost_42 : decode cX1_lost 42 = .ok (.iconst 1, 1) := dk_4 (dk_at dksX1_lost_1 19 rfl rfl)
theorem dX1_lost_43 : decode cX1_lost 43 = .ok (.goto 4, 3) := dk_167 0 4 (dk_at dksX1_lost_1 20 rfl rfl)
theorem dX1_lost_46 : decode cX1_lost 46 = .ok (.iconst 0, 1) := dk_3 (dk_at dksX1_lost_1 23 rfl rfl)
theorem dX1_lost_47 : decode cX1_lost 47 = .ok (.istore_n 3, 1) := dk_62 (dk_at dksX1_lost_2 0 rfl rfl)
theorem dX1_lost_48 : decode cX1_lost 48 = .ok (.iinc 4 1, 3) := dk_132 4 1 (dk_at dksX1_lost_2 1 rfl rfl)
theorem dX1_lost_51 : decode cX1_lost 51 = .ok (.goto (-30), 3) := dk_167 255 226 (dk_at dksX1_lost_2 4 rfl rfl)
theorem dX1_lost_54 : decode cX1_lost 54 = .ok (.iload_n 3, 1) := dk_29 (dk_at dksX1_lost_2 7 rfl rfl)
theorem dX1_lost_55 : decode cX1_lost 55 = .ok (.ifCond .eq 9, 3) := dk_153 0 9 (dk_at dksX1_lost_2 8 rfl rfl)
theorem dX1_lost_58 : decode cX1_lost 58 = .ok (.iload_n 1, 1) := dk_27 (dk_at dksX1_lost_2 11 rfl rfl)
theorem dX1_lost_59 : decode cX1_lost 59 = .ok (.iconst 1, 1) := dk_4 (dk_at dksX1_lost_2 12 rfl rfl)
theorem dX1_lost_60 : decode cX1_lost 60 = .ok (.iload_n 2, 1) := dk_28 (dk_at dksX1_lost_2 13 rfl rfl)
theorem dX1_lost_61 : decode cX1_lost 61 = .ok (.ishl, 1) := dk_120 (dk_at dksX1_lost_2 14 rfl rfl)
theorem dX1_lost_62 : decode cX1_lost 62 = .ok (.ior, 1) := dk_128 (dk_at dksX1_lost_2 15 rfl rfl)
theorem dX1_lost_63 : decode cX1_lost 63 = .ok (.istore_n 1, 1) := dk_60 (dk_at dksX1_lost_2 16 rfl rfl)
theorem dX1_lost_64 : decode cX1_lost 64 = .ok (.iinc 2 1, 3) := dk_132 2 1 (dk_at dksX1_lost_2 17 rfl rfl)
theorem dX1_lost_67 : decode cX1_lost 67 = .ok (.goto (-63), 3) := dk_167 255 193 (dk_at dksX1_lost_2 20 rfl rfl)
theorem dX1_lost_70 : decode cX1_lost 70 = .ok (.iload_n 1, 1) := dk_27 (dk_at dksX1_lost_2 23 rfl rfl)
theorem dX1_lost_71 : decode cX1_lost 71 = .ok (.ireturn, 1) := dk_172 (dk_at dksX1_lost_3 0 rfl rfl)
abbrev cX1_place : ByteArray := prog_1_method_36_code
abbrev yX1_place : MethodName := { cls := "WornSkin", name := "place", desc := "(II)I" }
def dkwX1_place_1 : List UInt8 := [182, 1, 1, 167, 0, 4, 2, 172]
abbrev dktX1_place_1 : List UInt8 := dkwX1_place_1 ++ []
def dkwX1_place_0 : List UInt8 := [42, 27, 182, 0, 159, 153, 0, 23, 42, 28, 182, 0, 126, 153, 0, 15, 42, 180, 0, 40, 27, 28]
abbrev dktX1_place_0 : List UInt8 := dkwX1_place_0 ++ dktX1_place_1
theorem dksX1_place_0 : cX1_place.data.toList.drop 0 = dktX1_place_0 := by decide +kernel
theorem dksX1_place_1 : cX1_place.data.toList.drop 22 = dktX1_place_1 := dk_seg dksX1_place_0 22 rfl rfl
theorem dX1_place_0 : decode cX1_place 0 = .ok (.aload_n 0, 1) := dk_42 (dk_at dksX1_place_0 0 rfl rfl)
theorem dX1_place_1 : decode cX1_place 1 = .ok (.iload_n 1, 1) := dk_27 (dk_at dksX1_place_0 1 rfl rfl)
theorem dX1_place_2 : decode cX1_place 2 = .ok (.invokevirtual 159, 3) := dk_182 0 159 (dk_at dksX1_place_0 2 rfl rfl)
theorem dX1_place_5 : decode cX1_place 5 = .ok (.ifCond .eq 23, 3) := dk_153 0 23 (dk_at dksX1_place_0 5 rfl rfl)
theorem dX1_place_8 : decode cX1_place 8 = .ok (.aload_n 0, 1) := dk_42 (dk_at dksX1_place_0 8 rfl rfl)
theorem dX1_place_9 : decode cX1_place 9 = .ok (.iload_n 2, 1) := dk_28 (dk_at dksX1_place_0 9 rfl rfl)
theorem dX1_place_10 : decode cX1_place 10 = .ok (.invokevirtual 126, 3) := dk_182 0 126 (dk_at dksX1_place_0 10 rfl rfl)
theorem dX1_place_13 : decode cX1_place 13 = .ok (.ifCond .eq 15, 3) := dk_153 0 15 (dk_at dksX1_place_0 13 rfl rfl)
theorem dX1_place_16 : decode cX1_place 16 = .ok (.aload_n 0, 1) := dk_42 (dk_at dksX1_place_0 16 rfl rfl)
theorem dX1_place_17 : decode cX1_place 17 = .ok (.getfield 40, 3) := dk_180 0 40 (dk_at dksX1_place_0 17 rfl rfl)
theorem dX1_place_20 : decode cX1_place 20 = .ok (.iload_n 1, 1) := dk_27 (dk_at dksX1_place_0 20 rfl rfl)
theorem dX1_place_21 : decode cX1_place 21 = .ok (.iload_n 2, 1) := dk_28 (dk_at dksX1_place_0 21 rfl rfl)
theorem dX1_place_22 : decode cX1_place 22 = .ok (.invokevirtual 257, 3) := dk_182 1 1 (dk_at dksX1_place_1 0 rfl rfl)
theorem dX1_place_25 : decode cX1_place 25 = .ok (.goto 4, 3) := dk_167 0 4 (dk_at dksX1_place_1 3 rfl rfl)
theorem dX1_place_28 : decode cX1_place 28 = .ok (.iconst (-1), 1) := dk_2 (dk_at dksX1_place_1 6 rfl rfl)
theorem dX1_place_29 : decode cX1_place 29 = .ok (.ireturn, 1) := dk_172 (dk_at dksX1_place_1 7 rfl rfl)
abbrev cX1_costBy : ByteArray := prog_1_method_37_code
abbrev yX1_costBy : MethodName := { cls := "WornSkin", name := "costBy", desc := "(IIZ)I" }
def dkwX1_costBy_2 : List UInt8 := [2, 167, 0, 22, 42, 180, 0, 40, 180, 0, 138, 28, 46, 42, 180, 0, 44, 180, 0, 138, 28, 46, 100, 172]
abbrev dktX1_costBy_2 : List UInt8 := dkwX1_costBy_2 ++ []
def dkwX1_costBy_1 : List UInt8 := [2, 172, 42, 180, 0, 44, 28, 29, 182, 0, 220, 42, 180, 0, 44, 27, 28, 182, 1, 1, 2, 160, 0, 7]
abbrev dktX1_costBy_1 : List UInt8 := dkwX1_costBy_1 ++ dktX1_costBy_2
def dkwX1_costBy_0 : List UInt8 := [42, 180, 0, 44, 42, 180, 0, 40, 182, 1, 4, 87, 42, 180, 0, 44, 28, 29, 182, 0, 216, 154, 0, 5]
abbrev dktX1_costBy_0 : List UInt8 := dkwX1_costBy_0 ++ dktX1_costBy_1
theorem dksX1_costBy_0 : cX1_costBy.data.toList.drop 0 = dktX1_costBy_0 := by decide +kernel
theorem dksX1_costBy_1 : cX1_costBy.data.toList.drop 24 = dktX1_costBy_1 := dk_seg dksX1_costBy_0 24 rfl rfl
theorem dksX1_costBy_2 : cX1_costBy.data.toList.drop 48 = dktX1_costBy_2 := dk_seg dksX1_costBy_1 24 rfl rfl
theorem dX1_costBy_0 : decode cX1_costBy 0 = .ok (.aload_n 0, 1) := dk_42 (dk_at dksX1_costBy_0 0 rfl rfl)
theorem dX1_costBy_1 : decode cX1_costBy 1 = .ok (.getfield 44, 3) := dk_180 0 44 (dk_at dksX1_costBy_0 1 rfl rfl)
theorem dX1_costBy_4 : decode cX1_costBy 4 = .ok (.aload_n 0, 1) := dk_42 (dk_at dksX1_costBy_0 4 rfl rfl)
theorem dX1_costBy_5 : decode cX1_costBy 5 = .ok (.getfield 40, 3) := dk_180 0 40 (dk_at dksX1_costBy_0 5 rfl rfl)
theorem dX1_costBy_8 : decode cX1_costBy 8 = .ok (.invokevirtual 260, 3) := dk_182 1 4 (dk_at dksX1_costBy_0 8 rfl rfl)
theorem dX1_costBy_11 : decode cX1_costBy 11 = .ok (.pop, 1) := dk_87 (dk_at dksX1_costBy_0 11 rfl rfl)
theorem dX1_costBy_12 : decode cX1_costBy 12 = .ok (.aload_n 0, 1) := dk_42 (dk_at dksX1_costBy_0 12 rfl rfl)
theorem dX1_costBy_13 : decode cX1_costBy 13 = .ok (.getfield 44, 3) := dk_180 0 44 (dk_at dksX1_costBy_0 13 rfl rfl)
theorem dX1_costBy_16 : decode cX1_costBy 16 = .ok (.iload_n 2, 1) := dk_28 (dk_at dksX1_costBy_0 16 rfl rfl)
theorem dX1_costBy_17 : decode cX1_costBy 17 = .ok (.iload_n 3, 1) := dk_29 (dk_at dksX1_costBy_0 17 rfl rfl)
theorem dX1_costBy_18 : decode cX1_costBy 18 = .ok (.invokevirtual 216, 3) := dk_182 0 216 (dk_at dksX1_costBy_0 18 rfl rfl)
theorem dX1_costBy_21 : decode cX1_costBy 21 = .ok (.ifCond .ne 5, 3) := dk_154 0 5 (dk_at dksX1_costBy_0 21 rfl rfl)
theorem dX1_costBy_24 : decode cX1_costBy 24 = .ok (.iconst (-1), 1) := dk_2 (dk_at dksX1_costBy_1 0 rfl rfl)
theorem dX1_costBy_25 : decode cX1_costBy 25 = .ok (.ireturn, 1) := dk_172 (dk_at dksX1_costBy_1 1 rfl rfl)
theorem dX1_costBy_26 : decode cX1_costBy 26 = .ok (.aload_n 0, 1) := dk_42 (dk_at dksX1_costBy_1 2 rfl rfl)
theorem dX1_costBy_27 : decode cX1_costBy 27 = .ok (.getfield 44, 3) := dk_180 0 44 (dk_at dksX1_costBy_1 3 rfl rfl)
theorem dX1_costBy_30 : decode cX1_costBy 30 = .ok (.iload_n 2, 1) := dk_28 (dk_at dksX1_costBy_1 6 rfl rfl)
theorem dX1_costBy_31 : decode cX1_costBy 31 = .ok (.iload_n 3, 1) := dk_29 (dk_at dksX1_costBy_1 7 rfl rfl)
theorem dX1_costBy_32 : decode cX1_costBy 32 = .ok (.invokevirtual 220, 3) := dk_182 0 220 (dk_at dksX1_costBy_1 8 rfl rfl)
theorem dX1_costBy_35 : decode cX1_costBy 35 = .ok (.aload_n 0, 1) := dk_42 (dk_at dksX1_costBy_1 11 rfl rfl)
theorem dX1_costBy_36 : decode cX1_costBy 36 = .ok (.getfield 44, 3) := dk_180 0 44 (dk_at dksX1_costBy_1 12 rfl rfl)
theorem dX1_costBy_39 : decode cX1_costBy 39 = .ok (.iload_n 1, 1) := dk_27 (dk_at dksX1_costBy_1 15 rfl rfl)
theorem dX1_costBy_40 : decode cX1_costBy 40 = .ok (.iload_n 2, 1) := dk_28 (dk_at dksX1_costBy_1 16 rfl rfl)
theorem dX1_costBy_41 : decode cX1_costBy 41 = .ok (.invokevirtual 257, 3) := dk_182 1 1 (dk_at dksX1_costBy_1 17 rfl rfl)
theorem dX1_costBy_44 : decode cX1_costBy 44 = .ok (.iconst (-1), 1) := dk_2 (dk_at dksX1_costBy_1 20 rfl rfl)
theorem dX1_costBy_45 : decode cX1_costBy 45 = .ok (.if_icmp .ne 7, 3) := dk_160 0 7 (dk_at dksX1_costBy_1 21 rfl rfl)
theorem dX1_costBy_48 : decode cX1_costBy 48 = .ok (.iconst (-1), 1) := dk_2 (dk_at dksX1_costBy_2 0 rfl rfl)
theorem dX1_costBy_49 : decode cX1_costBy 49 = .ok (.goto 22, 3) := dk_167 0 22 (dk_at dksX1_costBy_2 1 rfl rfl)
theorem dX1_costBy_52 : decode cX1_costBy 52 = .ok (.aload_n 0, 1) := dk_42 (dk_at dksX1_costBy_2 4 rfl rfl)
theorem dX1_costBy_53 : decode cX1_costBy 53 = .ok (.getfield 40, 3) := dk_180 0 40 (dk_at dksX1_costBy_2 5 rfl rfl)
theorem dX1_costBy_56 : decode cX1_costBy 56 = .ok (.getfield 138, 3) := dk_180 0 138 (dk_at dksX1_costBy_2 8 rfl rfl)
theorem dX1_costBy_59 : decode cX1_costBy 59 = .ok (.iload_n 2, 1) := dk_28 (dk_at dksX1_costBy_2 11 rfl rfl)
theorem dX1_costBy_60 : decode cX1_costBy 60 = .ok (.iaload, 1) := dk_46 (dk_at dksX1_costBy_2 12 rfl rfl)
theorem dX1_costBy_61 : decode cX1_costBy 61 = .ok (.aload_n 0, 1) := dk_42 (dk_at dksX1_costBy_2 13 rfl rfl)
theorem dX1_costBy_62 : decode cX1_costBy 62 = .ok (.getfield 44, 3) := dk_180 0 44 (dk_at dksX1_costBy_2 14 rfl rfl)
theorem dX1_costBy_65 : decode cX1_costBy 65 = .ok (.getfield 138, 3) := dk_180 0 138 (dk_at dksX1_costBy_2 17 rfl rfl)
theorem dX1_costBy_68 : decode cX1_costBy 68 = .ok (.iload_n 2, 1) := dk_28 (dk_at dksX1_costBy_2 20 rfl rfl)
theorem dX1_costBy_69 : decode cX1_costBy 69 = .ok (.iaload, 1) := dk_46 (dk_at dksX1_costBy_2 21 rfl rfl)
theorem dX1_costBy_70 : decode cX1_costBy 70 = .ok (.isub, 1) := dk_100 (dk_at dksX1_costBy_2 22 rfl rfl)
theorem dX1_costBy_71 : decode cX1_costBy 71 = .ok (.ireturn, 1) := dk_172 (dk_at dksX1_costBy_2 23 rfl rfl)
abbrev cX1_cost : ByteArray := prog_1_method_38_code
abbrev yX1_cost : MethodName := { cls := "WornSkin", name := "cost", desc := "(II)I" }
def dkwX1_cost_3 : List UInt8 := [29, 172]
abbrev dktX1_cost_3 : List UInt8 := dkwX1_cost_3 ++ []
def dkwX1_cost_2 : List UInt8 := [54, 4, 29, 2, 159, 0, 15, 21, 4, 2, 159, 0, 14, 21, 4, 29, 162, 0, 8, 21, 4, 167, 0, 4]
abbrev dktX1_cost_2 : List UInt8 := dkwX1_cost_2 ++ dktX1_cost_3
def dkwX1_cost_1 : List UInt8 := [182, 1, 1, 2, 159, 0, 5, 3, 172, 42, 27, 28, 4, 182, 1, 8, 62, 42, 27, 28, 3, 182, 1, 8]
abbrev dktX1_cost_1 : List UInt8 := dkwX1_cost_1 ++ dktX1_cost_2
def dkwX1_cost_0 : List UInt8 := [42, 27, 182, 0, 159, 153, 0, 11, 42, 28, 182, 0, 126, 154, 0, 5, 2, 172, 42, 180, 0, 40, 27, 28]
abbrev dktX1_cost_0 : List UInt8 := dkwX1_cost_0 ++ dktX1_cost_1
theorem dksX1_cost_0 : cX1_cost.data.toList.drop 0 = dktX1_cost_0 := by decide +kernel
theorem dksX1_cost_1 : cX1_cost.data.toList.drop 24 = dktX1_cost_1 := dk_seg dksX1_cost_0 24 rfl rfl
theorem dksX1_cost_2 : cX1_cost.data.toList.drop 48 = dktX1_cost_2 := dk_seg dksX1_cost_1 24 rfl rfl
theorem dksX1_cost_3 : cX1_cost.data.toList.drop 72 = dktX1_cost_3 := dk_seg dksX1_cost_2 24 rfl rfl
theorem dX1_cost_0 : decode cX1_cost 0 = .ok (.aload_n 0, 1) := dk_42 (dk_at dksX1_cost_0 0 rfl rfl)
theorem dX1_cost_1 : decode cX1_cost 1 = .ok (.iload_n 1, 1) := dk_27 (dk_at dksX1_cost_0 1 rfl rfl)
theorem dX1_cost_2 : decode cX1_cost 2 = .ok (.invokevirtual 159, 3) := dk_182 0 159 (dk_at dksX1_cost_0 2 rfl rfl)
theorem dX1_cost_5 : decode cX1_cost 5 = .ok (.ifCond .eq 11, 3) := dk_153 0 11 (dk_at dksX1_cost_0 5 rfl rfl)
theorem dX1_cost_8 : decode cX1_cost 8 = .ok (.aload_n 0, 1) := dk_42 (dk_at dksX1_cost_0 8 rfl rfl)
theorem dX1_cost_9 : decode cX1_cost 9 = .ok (.iload_n 2, 1) := dk_28 (dk_at dksX1_cost_0 9 rfl rfl)
theorem dX1_cost_10 : decode cX1_cost 10 = .ok (.invokevirtual 126, 3) := dk_182 0 126 (dk_at dksX1_cost_0 10 rfl rfl)
theorem dX1_cost_13 : decode cX1_cost 13 = .ok (.ifCond .ne 5, 3) := dk_154 0 5 (dk_at dksX1_cost_0 13 rfl rfl)
theorem dX1_cost_16 : decode cX1_cost 16 = .ok (.iconst (-1), 1) := dk_2 (dk_at dksX1_cost_0 16 rfl rfl)
theorem dX1_cost_17 : decode cX1_cost 17 = .ok (.ireturn, 1) := dk_172 (dk_at dksX1_cost_0 17 rfl rfl)
theorem dX1_cost_18 : decode cX1_cost 18 = .ok (.aload_n 0, 1) := dk_42 (dk_at dksX1_cost_0 18 rfl rfl)
theorem dX1_cost_19 : decode cX1_cost 19 = .ok (.getfield 40, 3) := dk_180 0 40 (dk_at dksX1_cost_0 19 rfl rfl)
theorem dX1_cost_22 : decode cX1_cost 22 = .ok (.iload_n 1, 1) := dk_27 (dk_at dksX1_cost_0 22 rfl rfl)
theorem dX1_cost_23 : decode cX1_cost 23 = .ok (.iload_n 2, 1) := dk_28 (dk_at dksX1_cost_0 23 rfl rfl)
theorem dX1_cost_24 : decode cX1_cost 24 = .ok (.invokevirtual 257, 3) := dk_182 1 1 (dk_at dksX1_cost_1 0 rfl rfl)
theorem dX1_cost_27 : decode cX1_cost 27 = .ok (.iconst (-1), 1) := dk_2 (dk_at dksX1_cost_1 3 rfl rfl)
theorem dX1_cost_28 : decode cX1_cost 28 = .ok (.if_icmp .eq 5, 3) := dk_159 0 5 (dk_at dksX1_cost_1 4 rfl rfl)
theorem dX1_cost_31 : decode cX1_cost 31 = .ok (.iconst 0, 1) := dk_3 (dk_at dksX1_cost_1 7 rfl rfl)
theorem dX1_cost_32 : decode cX1_cost 32 = .ok (.ireturn, 1) := dk_172 (dk_at dksX1_cost_1 8 rfl rfl)
theorem dX1_cost_33 : decode cX1_cost 33 = .ok (.aload_n 0, 1) := dk_42 (dk_at dksX1_cost_1 9 rfl rfl)
theorem dX1_cost_34 : decode cX1_cost 34 = .ok (.iload_n 1, 1) := dk_27 (dk_at dksX1_cost_1 10 rfl rfl)
theorem dX1_cost_35 : decode cX1_cost 35 = .ok (.iload_n 2, 1) := dk_28 (dk_at dksX1_cost_1 11 rfl rfl)
theorem dX1_cost_36 : decode cX1_cost 36 = .ok (.iconst 1, 1) := dk_4 (dk_at dksX1_cost_1 12 rfl rfl)
theorem dX1_cost_37 : decode cX1_cost 37 = .ok (.invokevirtual 264, 3) := dk_182 1 8 (dk_at dksX1_cost_1 13 rfl rfl)
theorem dX1_cost_40 : decode cX1_cost 40 = .ok (.istore_n 3, 1) := dk_62 (dk_at dksX1_cost_1 16 rfl rfl)
theorem dX1_cost_41 : decode cX1_cost 41 = .ok (.aload_n 0, 1) := dk_42 (dk_at dksX1_cost_1 17 rfl rfl)
theorem dX1_cost_42 : decode cX1_cost 42 = .ok (.iload_n 1, 1) := dk_27 (dk_at dksX1_cost_1 18 rfl rfl)
theorem dX1_cost_43 : decode cX1_cost 43 = .ok (.iload_n 2, 1) := dk_28 (dk_at dksX1_cost_1 19 rfl rfl)
theorem dX1_cost_44 : decode cX1_cost 44 = .ok (.iconst 0, 1) := dk_3 (dk_at dksX1_cost_1 20 rfl rfl)
theorem dX1_cost_45 : decode cX1_cost 45 = .ok (.invokevirtual 264, 3) := dk_182 1 8 (dk_at dksX1_cost_1 21 rfl rfl)
theorem dX1_cost_48 : decode cX1_cost 48 = .ok (.istore 4, 2) := dk_54 4 (dk_at dksX1_cost_2 0 rfl rfl)
theorem dX1_cost_50 : decode cX1_cost 50 = .ok (.iload_n 3, 1) := dk_29 (dk_at dksX1_cost_2 2 rfl rfl)
theorem dX1_cost_51 : decode cX1_cost 51 = .ok (.iconst (-1), 1) := dk_2 (dk_at dksX1_cost_2 3 rfl rfl)
theorem dX1_cost_52 : decode cX1_cost 52 = .ok (.if_icmp .eq 15, 3) := dk_159 0 15 (dk_at dksX1_cost_2 4 rfl rfl)
theorem dX1_cost_55 : decode cX1_cost 55 = .ok (.iload 4, 2) := dk_21 4 (dk_at dksX1_cost_2 7 rfl rfl)
theorem dX1_cost_57 : decode cX1_cost 57 = .ok (.iconst (-1), 1) := dk_2 (dk_at dksX1_cost_2 9 rfl rfl)
theorem dX1_cost_58 : decode cX1_cost 58 = .ok (.if_icmp .eq 14, 3) := dk_159 0 14 (dk_at dksX1_cost_2 10 rfl rfl)
theorem dX1_cost_61 : decode cX1_cost 61 = .ok (.iload 4, 2) := dk_21 4 (dk_at dksX1_cost_2 13 rfl rfl)
theorem dX1_cost_63 : decode cX1_cost 63 = .ok (.iload_n 3, 1) := dk_29 (dk_at dksX1_cost_2 15 rfl rfl)
theorem dX1_cost_64 : decode cX1_cost 64 = .ok (.if_icmp .ge 8, 3) := dk_162 0 8 (dk_at dksX1_cost_2 16 rfl rfl)
theorem dX1_cost_67 : decode cX1_cost 67 = .ok (.iload 4, 2) := dk_21 4 (dk_at dksX1_cost_2 19 rfl rfl)
theorem dX1_cost_69 : decode cX1_cost 69 = .ok (.goto 4, 3) := dk_167 0 4 (dk_at dksX1_cost_2 21 rfl rfl)
theorem dX1_cost_72 : decode cX1_cost 72 = .ok (.iload_n 3, 1) := dk_29 (dk_at dksX1_cost_3 0 rfl rfl)
theorem dX1_cost_73 : decode cX1_cost 73 = .ok (.ireturn, 1) := dk_172 (dk_at dksX1_cost_3 1 rfl rfl)
abbrev cX1_bears : ByteArray := prog_1_method_40_code
abbrev yX1_bears : MethodName := { cls := "WornSkin", name := "bears", desc := "(II)I" }
def dkwX1_bears_3 : List UInt8 := [182, 0, 220, 132, 3, 1, 167, 255, 213, 29, 172]
abbrev dktX1_bears_3 : List UInt8 := dkwX1_bears_3 ++ []
def dkwX1_bears_2 : List UInt8 := [180, 0, 44, 28, 27, 42, 180, 0, 44, 28, 27, 182, 1, 1, 182, 0, 212, 42, 180, 0, 44, 27, 3]
abbrev dktX1_bears_2 : List UInt8 := dkwX1_bears_2 ++ dktX1_bears_3
def dkwX1_bears_1 : List UInt8 := [180, 0, 40, 182, 1, 4, 87, 3, 62, 42, 180, 0, 44, 28, 27, 182, 1, 1, 2, 159, 0, 36, 42]
abbrev dktX1_bears_1 : List UInt8 := dkwX1_bears_1 ++ dktX1_bears_2
def dkwX1_bears_0 : List UInt8 := [42, 28, 182, 0, 159, 153, 0, 11, 42, 27, 182, 0, 126, 154, 0, 5, 2, 172, 42, 180, 0, 44, 42]
abbrev dktX1_bears_0 : List UInt8 := dkwX1_bears_0 ++ dktX1_bears_1
theorem dksX1_bears_0 : cX1_bears.data.toList.drop 0 = dktX1_bears_0 := by decide +kernel
theorem dksX1_bears_1 : cX1_bears.data.toList.drop 23 = dktX1_bears_1 := dk_seg dksX1_bears_0 23 rfl rfl
theorem dksX1_bears_2 : cX1_bears.data.toList.drop 46 = dktX1_bears_2 := dk_seg dksX1_bears_1 23 rfl rfl
theorem dksX1_bears_3 : cX1_bears.data.toList.drop 69 = dktX1_bears_3 := dk_seg dksX1_bears_2 23 rfl rfl
theorem dX1_bears_0 : decode cX1_bears 0 = .ok (.aload_n 0, 1) := dk_42 (dk_at dksX1_bears_0 0 rfl rfl)
theorem dX1_bears_1 : decode cX1_bears 1 = .ok (.iload_n 2, 1) := dk_28 (dk_at dksX1_bears_0 1 rfl rfl)
theorem dX1_bears_2 : decode cX1_bears 2 = .ok (.invokevirtual 159, 3) := dk_182 0 159 (dk_at dksX1_bears_0 2 rfl rfl)
theorem dX1_bears_5 : decode cX1_bears 5 = .ok (.ifCond .eq 11, 3) := dk_153 0 11 (dk_at dksX1_bears_0 5 rfl rfl)
theorem dX1_bears_8 : decode cX1_bears 8 = .ok (.aload_n 0, 1) := dk_42 (dk_at dksX1_bears_0 8 rfl rfl)
theorem dX1_bears_9 : decode cX1_bears 9 = .ok (.iload_n 1, 1) := dk_27 (dk_at dksX1_bears_0 9 rfl rfl)
theorem dX1_bears_10 : decode cX1_bears 10 = .ok (.invokevirtual 126, 3) := dk_182 0 126 (dk_at dksX1_bears_0 10 rfl rfl)
theorem dX1_bears_13 : decode cX1_bears 13 = .ok (.ifCond .ne 5, 3) := dk_154 0 5 (dk_at dksX1_bears_0 13 rfl rfl)
theorem dX1_bears_16 : decode cX1_bears 16 = .ok (.iconst (-1), 1) := dk_2 (dk_at dksX1_bears_0 16 rfl rfl)
theorem dX1_bears_17 : decode cX1_bears 17 = .ok (.ireturn, 1) := dk_172 (dk_at dksX1_bears_0 17 rfl rfl)
theorem dX1_bears_18 : decode cX1_bears 18 = .ok (.aload_n 0, 1) := dk_42 (dk_at dksX1_bears_0 18 rfl rfl)
theorem dX1_bears_19 : decode cX1_bears 19 = .ok (.getfield 44, 3) := dk_180 0 44 (dk_at dksX1_bears_0 19 rfl rfl)
theorem dX1_bears_22 : decode cX1_bears 22 = .ok (.aload_n 0, 1) := dk_42 (dk_at dksX1_bears_0 22 rfl rfl)
theorem dX1_bears_23 : decode cX1_bears 23 = .ok (.getfield 40, 3) := dk_180 0 40 (dk_at dksX1_bears_1 0 rfl rfl)
theorem dX1_bears_26 : decode cX1_bears 26 = .ok (.invokevirtual 260, 3) := dk_182 1 4 (dk_at dksX1_bears_1 3 rfl rfl)
theorem dX1_bears_29 : decode cX1_bears 29 = .ok (.pop, 1) := dk_87 (dk_at dksX1_bears_1 6 rfl rfl)
theorem dX1_bears_30 : decode cX1_bears 30 = .ok (.iconst 0, 1) := dk_3 (dk_at dksX1_bears_1 7 rfl rfl)
theorem dX1_bears_31 : decode cX1_bears 31 = .ok (.istore_n 3, 1) := dk_62 (dk_at dksX1_bears_1 8 rfl rfl)
theorem dX1_bears_32 : decode cX1_bears 32 = .ok (.aload_n 0, 1) := dk_42 (dk_at dksX1_bears_1 9 rfl rfl)
theorem dX1_bears_33 : decode cX1_bears 33 = .ok (.getfield 44, 3) := dk_180 0 44 (dk_at dksX1_bears_1 10 rfl rfl)
theorem dX1_bears_36 : decode cX1_bears 36 = .ok (.iload_n 2, 1) := dk_28 (dk_at dksX1_bears_1 13 rfl rfl)
theorem dX1_bears_37 : decode cX1_bears 37 = .ok (.iload_n 1, 1) := dk_27 (dk_at dksX1_bears_1 14 rfl rfl)
theorem dX1_bears_38 : decode cX1_bears 38 = .ok (.invokevirtual 257, 3) := dk_182 1 1 (dk_at dksX1_bears_1 15 rfl rfl)
theorem dX1_bears_41 : decode cX1_bears 41 = .ok (.iconst (-1), 1) := dk_2 (dk_at dksX1_bears_1 18 rfl rfl)
theorem dX1_bears_42 : decode cX1_bears 42 = .ok (.if_icmp .eq 36, 3) := dk_159 0 36 (dk_at dksX1_bears_1 19 rfl rfl)
theorem dX1_bears_45 : decode cX1_bears 45 = .ok (.aload_n 0, 1) := dk_42 (dk_at dksX1_bears_1 22 rfl rfl)
theorem dX1_bears_46 : decode cX1_bears 46 = .ok (.getfield 44, 3) := dk_180 0 44 (dk_at dksX1_bears_2 0 rfl rfl)
theorem dX1_bears_49 : decode cX1_bears 49 = .ok (.iload_n 2, 1) := dk_28 (dk_at dksX1_bears_2 3 rfl rfl)
theorem dX1_bears_50 : decode cX1_bears 50 = .ok (.iload_n 1, 1) := dk_27 (dk_at dksX1_bears_2 4 rfl rfl)
theorem dX1_bears_51 : decode cX1_bears 51 = .ok (.aload_n 0, 1) := dk_42 (dk_at dksX1_bears_2 5 rfl rfl)
theorem dX1_bears_52 : decode cX1_bears 52 = .ok (.getfield 44, 3) := dk_180 0 44 (dk_at dksX1_bears_2 6 rfl rfl)
theorem dX1_bears_55 : decode cX1_bears 55 = .ok (.iload_n 2, 1) := dk_28 (dk_at dksX1_bears_2 9 rfl rfl)
theorem dX1_bears_56 : decode cX1_bears 56 = .ok (.iload_n 1, 1) := dk_27 (dk_at dksX1_bears_2 10 rfl rfl)
theorem dX1_bears_57 : decode cX1_bears 57 = .ok (.invokevirtual 257, 3) := dk_182 1 1 (dk_at dksX1_bears_2 11 rfl rfl)
theorem dX1_bears_60 : decode cX1_bears 60 = .ok (.invokevirtual 212, 3) := dk_182 0 212 (dk_at dksX1_bears_2 14 rfl rfl)
theorem dX1_bears_63 : decode cX1_bears 63 = .ok (.aload_n 0, 1) := dk_42 (dk_at dksX1_bears_2 17 rfl rfl)
theorem dX1_bears_64 : decode cX1_bears 64 = .ok (.getfield 44, 3) := dk_180 0 44 (dk_at dksX1_bears_2 18 rfl rfl)
theorem dX1_bears_67 : decode cX1_bears 67 = .ok (.iload_n 1, 1) := dk_27 (dk_at dksX1_bears_2 21 rfl rfl)
theorem dX1_bears_68 : decode cX1_bears 68 = .ok (.iconst 0, 1) := dk_3 (dk_at dksX1_bears_2 22 rfl rfl)
theorem dX1_bears_69 : decode cX1_bears 69 = .ok (.invokevirtual 220, 3) := dk_182 0 220 (dk_at dksX1_bears_3 0 rfl rfl)
theorem dX1_bears_72 : decode cX1_bears 72 = .ok (.iinc 3 1, 3) := dk_132 3 1 (dk_at dksX1_bears_3 3 rfl rfl)
theorem dX1_bears_75 : decode cX1_bears 75 = .ok (.goto (-43), 3) := dk_167 255 213 (dk_at dksX1_bears_3 6 rfl rfl)
theorem dX1_bears_78 : decode cX1_bears 78 = .ok (.iload_n 3, 1) := dk_29 (dk_at dksX1_bears_3 9 rfl rfl)
theorem dX1_bears_79 : decode cX1_bears 79 = .ok (.ireturn, 1) := dk_172 (dk_at dksX1_bears_3 10 rfl rfl)
abbrev cX1_over : ByteArray := prog_1_method_41_code
abbrev yX1_over : MethodName := { cls := "WornSkin", name := "over", desc := "(I)I" }
def dkwX1_over_1 : List UInt8 := [180, 0, 40, 29, 27, 182, 1, 22, 128, 61, 132, 3, 1, 167, 255, 235, 28, 172]
abbrev dktX1_over_1 : List UInt8 := dkwX1_over_1 ++ []
def dkwX1_over_0 : List UInt8 := [42, 27, 182, 0, 159, 154, 0, 5, 2, 172, 3, 61, 3, 62, 29, 16, 18, 162, 0, 21, 28, 42]
abbrev dktX1_over_0 : List UInt8 := dkwX1_over_0 ++ dktX1_over_1
theorem dksX1_over_0 : cX1_over.data.toList.drop 0 = dktX1_over_0 := by decide +kernel
theorem dksX1_over_1 : cX1_over.data.toList.drop 22 = dktX1_over_1 := dk_seg dksX1_over_0 22 rfl rfl
theorem dX1_over_0 : decode cX1_over 0 = .ok (.aload_n 0, 1) := dk_42 (dk_at dksX1_over_0 0 rfl rfl)
theorem dX1_over_1 : decode cX1_over 1 = .ok (.iload_n 1, 1) := dk_27 (dk_at dksX1_over_0 1 rfl rfl)
theorem dX1_over_2 : decode cX1_over 2 = .ok (.invokevirtual 159, 3) := dk_182 0 159 (dk_at dksX1_over_0 2 rfl rfl)
theorem dX1_over_5 : decode cX1_over 5 = .ok (.ifCond .ne 5, 3) := dk_154 0 5 (dk_at dksX1_over_0 5 rfl rfl)
theorem dX1_over_8 : decode cX1_over 8 = .ok (.iconst (-1), 1) := dk_2 (dk_at dksX1_over_0 8 rfl rfl)
theorem dX1_over_9 : decode cX1_over 9 = .ok (.ireturn, 1) := dk_172 (dk_at dksX1_over_0 9 rfl rfl)
theorem dX1_over_10 : decode cX1_over 10 = .ok (.iconst 0, 1) := dk_3 (dk_at dksX1_over_0 10 rfl rfl)
theorem dX1_over_11 : decode cX1_over 11 = .ok (.istore_n 2, 1) := dk_61 (dk_at dksX1_over_0 11 rfl rfl)
theorem dX1_over_12 : decode cX1_over 12 = .ok (.iconst 0, 1) := dk_3 (dk_at dksX1_over_0 12 rfl rfl)
theorem dX1_over_13 : decode cX1_over 13 = .ok (.istore_n 3, 1) := dk_62 (dk_at dksX1_over_0 13 rfl rfl)
theorem dX1_over_14 : decode cX1_over 14 = .ok (.iload_n 3, 1) := dk_29 (dk_at dksX1_over_0 14 rfl rfl)
theorem dX1_over_15 : decode cX1_over 15 = .ok (.bipush 18, 2) := dk_16 18 (dk_at dksX1_over_0 15 rfl rfl)
theorem dX1_over_17 : decode cX1_over 17 = .ok (.if_icmp .ge 21, 3) := dk_162 0 21 (dk_at dksX1_over_0 17 rfl rfl)
theorem dX1_over_20 : decode cX1_over 20 = .ok (.iload_n 2, 1) := dk_28 (dk_at dksX1_over_0 20 rfl rfl)
theorem dX1_over_21 : decode cX1_over 21 = .ok (.aload_n 0, 1) := dk_42 (dk_at dksX1_over_0 21 rfl rfl)
theorem dX1_over_22 : decode cX1_over 22 = .ok (.getfield 40, 3) := dk_180 0 40 (dk_at dksX1_over_1 0 rfl rfl)
theorem dX1_over_25 : decode cX1_over 25 = .ok (.iload_n 3, 1) := dk_29 (dk_at dksX1_over_1 3 rfl rfl)
theorem dX1_over_26 : decode cX1_over 26 = .ok (.iload_n 1, 1) := dk_27 (dk_at dksX1_over_1 4 rfl rfl)
theorem dX1_over_27 : decode cX1_over 27 = .ok (.invokevirtual 278, 3) := dk_182 1 22 (dk_at dksX1_over_1 5 rfl rfl)
theorem dX1_over_30 : decode cX1_over 30 = .ok (.ior, 1) := dk_128 (dk_at dksX1_over_1 8 rfl rfl)
theorem dX1_over_31 : decode cX1_over 31 = .ok (.istore_n 2, 1) := dk_61 (dk_at dksX1_over_1 9 rfl rfl)
theorem dX1_over_32 : decode cX1_over 32 = .ok (.iinc 3 1, 3) := dk_132 3 1 (dk_at dksX1_over_1 10 rfl rfl)
theorem dX1_over_35 : decode cX1_over 35 = .ok (.goto (-21), 3) := dk_167 255 235 (dk_at dksX1_over_1 13 rfl rfl)
theorem dX1_over_38 : decode cX1_over 38 = .ok (.iload_n 2, 1) := dk_28 (dk_at dksX1_over_1 16 rfl rfl)
theorem dX1_over_39 : decode cX1_over 39 = .ok (.ireturn, 1) := dk_172 (dk_at dksX1_over_1 17 rfl rfl)
abbrev cX1_deepest : ByteArray := prog_1_method_42_code
abbrev yX1_deepest : MethodName := { cls := "WornSkin", name := "deepest", desc := "(I)I" }
def dkwX1_deepest_2 : List UInt8 := [132, 3, 1, 167, 255, 221, 28, 172]
abbrev dktX1_deepest_2 : List UInt8 := dkwX1_deepest_2 ++ []
def dkwX1_deepest_1 : List UInt8 := [180, 0, 134, 162, 0, 26, 42, 27, 29, 182, 0, 188, 42, 27, 28, 182, 0, 188, 164, 0, 5, 29, 61]
abbrev dktX1_deepest_1 : List UInt8 := dkwX1_deepest_1 ++ dktX1_deepest_2
def dkwX1_deepest_0 : List UInt8 := [42, 27, 182, 0, 126, 154, 0, 5, 2, 172, 3, 61, 4, 62, 29, 42, 180, 0, 40, 27, 182, 0, 130]
abbrev dktX1_deepest_0 : List UInt8 := dkwX1_deepest_0 ++ dktX1_deepest_1
theorem dksX1_deepest_0 : cX1_deepest.data.toList.drop 0 = dktX1_deepest_0 := by decide +kernel
theorem dksX1_deepest_1 : cX1_deepest.data.toList.drop 23 = dktX1_deepest_1 := dk_seg dksX1_deepest_0 23 rfl rfl
theorem dksX1_deepest_2 : cX1_deepest.data.toList.drop 46 = dktX1_deepest_2 := dk_seg dksX1_deepest_1 23 rfl rfl
theorem dX1_deepest_0 : decode cX1_deepest 0 = .ok (.aload_n 0, 1) := dk_42 (dk_at dksX1_deepest_0 0 rfl rfl)
theorem dX1_deepest_1 : decode cX1_deepest 1 = .ok (.iload_n 1, 1) := dk_27 (dk_at dksX1_deepest_0 1 rfl rfl)
theorem dX1_deepest_2 : decode cX1_deepest 2 = .ok (.invokevirtual 126, 3) := dk_182 0 126 (dk_at dksX1_deepest_0 2 rfl rfl)
theorem dX1_deepest_5 : decode cX1_deepest 5 = .ok (.ifCond .ne 5, 3) := dk_154 0 5 (dk_at dksX1_deepest_0 5 rfl rfl)
theorem dX1_deepest_8 : decode cX1_deepest 8 = .ok (.iconst (-1), 1) := dk_2 (dk_at dksX1_deepest_0 8 rfl rfl)
theorem dX1_deepest_9 : decode cX1_deepest 9 = .ok (.ireturn, 1) := dk_172 (dk_at dksX1_deepest_0 9 rfl rfl)
theorem dX1_deepest_10 : decode cX1_deepest 10 = .ok (.iconst 0, 1) := dk_3 (dk_at dksX1_deepest_0 10 rfl rfl)
theorem dX1_deepest_11 : decode cX1_deepest 11 = .ok (.istore_n 2, 1) := dk_61 (dk_at dksX1_deepest_0 11 rfl rfl)
theorem dX1_deepest_12 : decode cX1_deepest 12 = .ok (.iconst 1, 1) := dk_4 (dk_at dksX1_deepest_0 12 rfl rfl)
theorem dX1_deepest_13 : decode cX1_deepest 13 = .ok (.istore_n 3, 1) := dk_62 (dk_at dksX1_deepest_0 13 rfl rfl)
theorem dX1_deepest_14 : decode cX1_deepest 14 = .ok (.iload_n 3, 1) := dk_29 (dk_at dksX1_deepest_0 14 rfl rfl)
theorem dX1_deepest_15 : decode cX1_deepest 15 = .ok (.aload_n 0, 1) := dk_42 (dk_at dksX1_deepest_0 15 rfl rfl)
theorem dX1_deepest_16 : decode cX1_deepest 16 = .ok (.getfield 40, 3) := dk_180 0 40 (dk_at dksX1_deepest_0 16 rfl rfl)
theorem dX1_deepest_19 : decode cX1_deepest 19 = .ok (.iload_n 1, 1) := dk_27 (dk_at dksX1_deepest_0 19 rfl rfl)
theorem dX1_deepest_20 : decode cX1_deepest 20 = .ok (.invokevirtual 130, 3) := dk_182 0 130 (dk_at dksX1_deepest_0 20 rfl rfl)
theorem dX1_deepest_23 : decode cX1_deepest 23 = .ok (.getfield 134, 3) := dk_180 0 134 (dk_at dksX1_deepest_1 0 rfl rfl)
theorem dX1_deepest_26 : decode cX1_deepest 26 = .ok (.if_icmp .ge 26, 3) := dk_162 0 26 (dk_at dksX1_deepest_1 3 rfl rfl)
theorem dX1_deepest_29 : decode cX1_deepest 29 = .ok (.aload_n 0, 1) := dk_42 (dk_at dksX1_deepest_1 6 rfl rfl)
theorem dX1_deepest_30 : decode cX1_deepest 30 = .ok (.iload_n 1, 1) := dk_27 (dk_at dksX1_deepest_1 7 rfl rfl)
theorem dX1_deepest_31 : decode cX1_deepest 31 = .ok (.iload_n 3, 1) := dk_29 (dk_at dksX1_deepest_1 8 rfl rfl)
theorem dX1_deepest_32 : decode cX1_deepest 32 = .ok (.invokevirtual 188, 3) := dk_182 0 188 (dk_at dksX1_deepest_1 9 rfl rfl)
theorem dX1_deepest_35 : decode cX1_deepest 35 = .ok (.aload_n 0, 1) := dk_42 (dk_at dksX1_deepest_1 12 rfl rfl)
theorem dX1_deepest_36 : decode cX1_deepest 36 = .ok (.iload_n 1, 1) := dk_27 (dk_at dksX1_deepest_1 13 rfl rfl)
theorem dX1_deepest_37 : decode cX1_deepest 37 = .ok (.iload_n 2, 1) := dk_28 (dk_at dksX1_deepest_1 14 rfl rfl)
theorem dX1_deepest_38 : decode cX1_deepest 38 = .ok (.invokevirtual 188, 3) := dk_182 0 188 (dk_at dksX1_deepest_1 15 rfl rfl)
theorem dX1_deepest_41 : decode cX1_deepest 41 = .ok (.if_icmp .le 5, 3) := dk_164 0 5 (dk_at dksX1_deepest_1 18 rfl rfl)
theorem dX1_deepest_44 : decode cX1_deepest 44 = .ok (.iload_n 3, 1) := dk_29 (dk_at dksX1_deepest_1 21 rfl rfl)
theorem dX1_deepest_45 : decode cX1_deepest 45 = .ok (.istore_n 2, 1) := dk_61 (dk_at dksX1_deepest_1 22 rfl rfl)
theorem dX1_deepest_46 : decode cX1_deepest 46 = .ok (.iinc 3 1, 3) := dk_132 3 1 (dk_at dksX1_deepest_2 0 rfl rfl)
theorem dX1_deepest_49 : decode cX1_deepest 49 = .ok (.goto (-35), 3) := dk_167 255 221 (dk_at dksX1_deepest_2 3 rfl rfl)
theorem dX1_deepest_52 : decode cX1_deepest 52 = .ok (.iload_n 2, 1) := dk_28 (dk_at dksX1_deepest_2 6 rfl rfl)
theorem dX1_deepest_53 : decode cX1_deepest 53 = .ok (.ireturn, 1) := dk_172 (dk_at dksX1_deepest_2 7 rfl rfl)
abbrev cX1_bare : ByteArray := prog_1_method_43_code
abbrev yX1_bare : MethodName := { cls := "WornSkin", name := "bare", desc := "(I)I" }
def dkwX1_bare_2 : List UInt8 := [180, 0, 142, 29, 184, 1, 25, 154, 0, 9, 28, 4, 29, 120, 128, 61, 132, 3, 1, 167, 255, 205, 28, 172]
abbrev dktX1_bare_2 : List UInt8 := dkwX1_bare_2 ++ []
def dkwX1_bare_1 : List UInt8 := [180, 0, 134, 162, 0, 42, 42, 27, 29, 182, 0, 188, 154, 0, 27, 42, 180, 0, 40, 27, 182, 0, 130]
abbrev dktX1_bare_1 : List UInt8 := dkwX1_bare_1 ++ dktX1_bare_2
def dkwX1_bare_0 : List UInt8 := [42, 27, 182, 0, 126, 154, 0, 5, 2, 172, 3, 61, 3, 62, 29, 42, 180, 0, 40, 27, 182, 0, 130]
abbrev dktX1_bare_0 : List UInt8 := dkwX1_bare_0 ++ dktX1_bare_1
theorem dksX1_bare_0 : cX1_bare.data.toList.drop 0 = dktX1_bare_0 := by decide +kernel
theorem dksX1_bare_1 : cX1_bare.data.toList.drop 23 = dktX1_bare_1 := dk_seg dksX1_bare_0 23 rfl rfl
theorem dksX1_bare_2 : cX1_bare.data.toList.drop 46 = dktX1_bare_2 := dk_seg dksX1_bare_1 23 rfl rfl
theorem dX1_bare_0 : decode cX1_bare 0 = .ok (.aload_n 0, 1) := dk_42 (dk_at dksX1_bare_0 0 rfl rfl)
theorem dX1_bare_1 : decode cX1_bare 1 = .ok (.iload_n 1, 1) := dk_27 (dk_at dksX1_bare_0 1 rfl rfl)
theorem dX1_bare_2 : decode cX1_bare 2 = .ok (.invokevirtual 126, 3) := dk_182 0 126 (dk_at dksX1_bare_0 2 rfl rfl)
theorem dX1_bare_5 : decode cX1_bare 5 = .ok (.ifCond .ne 5, 3) := dk_154 0 5 (dk_at dksX1_bare_0 5 rfl rfl)
theorem dX1_bare_8 : decode cX1_bare 8 = .ok (.iconst (-1), 1) := dk_2 (dk_at dksX1_bare_0 8 rfl rfl)
theorem dX1_bare_9 : decode cX1_bare 9 = .ok (.ireturn, 1) := dk_172 (dk_at dksX1_bare_0 9 rfl rfl)
theorem dX1_bare_10 : decode cX1_bare 10 = .ok (.iconst 0, 1) := dk_3 (dk_at dksX1_bare_0 10 rfl rfl)
theorem dX1_bare_11 : decode cX1_bare 11 = .ok (.istore_n 2, 1) := dk_61 (dk_at dksX1_bare_0 11 rfl rfl)
theorem dX1_bare_12 : decode cX1_bare 12 = .ok (.iconst 0, 1) := dk_3 (dk_at dksX1_bare_0 12 rfl rfl)
theorem dX1_bare_13 : decode cX1_bare 13 = .ok (.istore_n 3, 1) := dk_62 (dk_at dksX1_bare_0 13 rfl rfl)
theorem dX1_bare_14 : decode cX1_bare 14 = .ok (.iload_n 3, 1) := dk_29 (dk_at dksX1_bare_0 14 rfl rfl)
theorem dX1_bare_15 : decode cX1_bare 15 = .ok (.aload_n 0, 1) := dk_42 (dk_at dksX1_bare_0 15 rfl rfl)
theorem dX1_bare_16 : decode cX1_bare 16 = .ok (.getfield 40, 3) := dk_180 0 40 (dk_at dksX1_bare_0 16 rfl rfl)
theorem dX1_bare_19 : decode cX1_bare 19 = .ok (.iload_n 1, 1) := dk_27 (dk_at dksX1_bare_0 19 rfl rfl)
theorem dX1_bare_20 : decode cX1_bare 20 = .ok (.invokevirtual 130, 3) := dk_182 0 130 (dk_at dksX1_bare_0 20 rfl rfl)
theorem dX1_bare_23 : decode cX1_bare 23 = .ok (.getfield 134, 3) := dk_180 0 134 (dk_at dksX1_bare_1 0 rfl rfl)
theorem dX1_bare_26 : decode cX1_bare 26 = .ok (.if_icmp .ge 42, 3) := dk_162 0 42 (dk_at dksX1_bare_1 3 rfl rfl)
theorem dX1_bare_29 : decode cX1_bare 29 = .ok (.aload_n 0, 1) := dk_42 (dk_at dksX1_bare_1 6 rfl rfl)
theorem dX1_bare_30 : decode cX1_bare 30 = .ok (.iload_n 1, 1) := dk_27 (dk_at dksX1_bare_1 7 rfl rfl)
theorem dX1_bare_31 : decode cX1_bare 31 = .ok (.iload_n 3, 1) := dk_29 (dk_at dksX1_bare_1 8 rfl rfl)
theorem dX1_bare_32 : decode cX1_bare 32 = .ok (.invokevirtual 188, 3) := dk_182 0 188 (dk_at dksX1_bare_1 9 rfl rfl)
theorem dX1_bare_35 : decode cX1_bare 35 = .ok (.ifCond .ne 27, 3) := dk_154 0 27 (dk_at dksX1_bare_1 12 rfl rfl)
theorem dX1_bare_38 : decode cX1_bare 38 = .ok (.aload_n 0, 1) := dk_42 (dk_at dksX1_bare_1 15 rfl rfl)
theorem dX1_bare_39 : decode cX1_bare 39 = .ok (.getfield 40, 3) := dk_180 0 40 (dk_at dksX1_bare_1 16 rfl rfl)
theorem dX1_bare_42 : decode cX1_bare 42 = .ok (.iload_n 1, 1) := dk_27 (dk_at dksX1_bare_1 19 rfl rfl)
theorem dX1_bare_43 : decode cX1_bare 43 = .ok (.invokevirtual 130, 3) := dk_182 0 130 (dk_at dksX1_bare_1 20 rfl rfl)
theorem dX1_bare_46 : decode cX1_bare 46 = .ok (.getfield 142, 3) := dk_180 0 142 (dk_at dksX1_bare_2 0 rfl rfl)
theorem dX1_bare_49 : decode cX1_bare 49 = .ok (.iload_n 3, 1) := dk_29 (dk_at dksX1_bare_2 3 rfl rfl)
theorem dX1_bare_50 : decode cX1_bare 50 = .ok (.invokestatic 281, 3) := dk_184 1 25 (dk_at dksX1_bare_2 4 rfl rfl)
theorem dX1_bare_53 : decode cX1_bare 53 = .ok (.ifCond .ne 9, 3) := dk_154 0 9 (dk_at dksX1_bare_2 7 rfl rfl)
theorem dX1_bare_56 : decode cX1_bare 56 = .ok (.iload_n 2, 1) := dk_28 (dk_at dksX1_bare_2 10 rfl rfl)
theorem dX1_bare_57 : decode cX1_bare 57 = .ok (.iconst 1, 1) := dk_4 (dk_at dksX1_bare_2 11 rfl rfl)
theorem dX1_bare_58 : decode cX1_bare 58 = .ok (.iload_n 3, 1) := dk_29 (dk_at dksX1_bare_2 12 rfl rfl)
theorem dX1_bare_59 : decode cX1_bare 59 = .ok (.ishl, 1) := dk_120 (dk_at dksX1_bare_2 13 rfl rfl)
theorem dX1_bare_60 : decode cX1_bare 60 = .ok (.ior, 1) := dk_128 (dk_at dksX1_bare_2 14 rfl rfl)
theorem dX1_bare_61 : decode cX1_bare 61 = .ok (.istore_n 2, 1) := dk_61 (dk_at dksX1_bare_2 15 rfl rfl)
theorem dX1_bare_62 : decode cX1_bare 62 = .ok (.iinc 3 1, 3) := dk_132 3 1 (dk_at dksX1_bare_2 16 rfl rfl)
theorem dX1_bare_65 : decode cX1_bare 65 = .ok (.goto (-51), 3) := dk_167 255 205 (dk_at dksX1_bare_2 19 rfl rfl)
theorem dX1_bare_68 : decode cX1_bare 68 = .ok (.iload_n 2, 1) := dk_28 (dk_at dksX1_bare_2 22 rfl rfl)
theorem dX1_bare_69 : decode cX1_bare 69 = .ok (.ireturn, 1) := dk_172 (dk_at dksX1_bare_2 23 rfl rfl)
abbrev cX1_same : ByteArray := prog_1_method_44_code
abbrev yX1_same : MethodName := { cls := "WornSkin", name := "same", desc := "()I" }
def dkwX1_same_2 : List UInt8 := [172]
abbrev dktX1_same_2 : List UInt8 := dkwX1_same_2 ++ []
def dkwX1_same_1 : List UInt8 := [28, 29, 182, 1, 28, 153, 0, 6, 132, 1, 1, 132, 3, 1, 167, 255, 232, 132, 2, 1, 167, 255, 216, 27]
abbrev dktX1_same_1 : List UInt8 := dkwX1_same_1 ++ dktX1_same_2
def dkwX1_same_0 : List UInt8 := [3, 60, 3, 61, 28, 16, 18, 162, 0, 40, 28, 4, 96, 62, 29, 16, 18, 162, 0, 24, 42, 180, 0, 40]
abbrev dktX1_same_0 : List UInt8 := dkwX1_same_0 ++ dktX1_same_1
theorem dksX1_same_0 : cX1_same.data.toList.drop 0 = dktX1_same_0 := by decide +kernel
theorem dksX1_same_1 : cX1_same.data.toList.drop 24 = dktX1_same_1 := dk_seg dksX1_same_0 24 rfl rfl
theorem dksX1_same_2 : cX1_same.data.toList.drop 48 = dktX1_same_2 := dk_seg dksX1_same_1 24 rfl rfl
theorem dX1_same_0 : decode cX1_same 0 = .ok (.iconst 0, 1) := dk_3 (dk_at dksX1_same_0 0 rfl rfl)
theorem dX1_same_1 : decode cX1_same 1 = .ok (.istore_n 1, 1) := dk_60 (dk_at dksX1_same_0 1 rfl rfl)
theorem dX1_same_2 : decode cX1_same 2 = .ok (.iconst 0, 1) := dk_3 (dk_at dksX1_same_0 2 rfl rfl)
theorem dX1_same_3 : decode cX1_same 3 = .ok (.istore_n 2, 1) := dk_61 (dk_at dksX1_same_0 3 rfl rfl)
theorem dX1_same_4 : decode cX1_same 4 = .ok (.iload_n 2, 1) := dk_28 (dk_at dksX1_same_0 4 rfl rfl)
theorem dX1_same_5 : decode cX1_same 5 = .ok (.bipush 18, 2) := dk_16 18 (dk_at dksX1_same_0 5 rfl rfl)
theorem dX1_same_7 : decode cX1_same 7 = .ok (.if_icmp .ge 40, 3) := dk_162 0 40 (dk_at dksX1_same_0 7 rfl rfl)
theorem dX1_same_10 : decode cX1_same 10 = .ok (.iload_n 2, 1) := dk_28 (dk_at dksX1_same_0 10 rfl rfl)
theorem dX1_same_11 : decode cX1_same 11 = .ok (.iconst 1, 1) := dk_4 (dk_at dksX1_same_0 11 rfl rfl)
theorem dX1_same_12 : decode cX1_same 12 = .ok (.iadd, 1) := dk_96 (dk_at dksX1_same_0 12 rfl rfl)
theorem dX1_same_13 : decode cX1_same 13 = .ok (.istore_n 3, 1) := dk_62 (dk_at dksX1_same_0 13 rfl rfl)
theorem dX1_same_14 : decode cX1_same 14 = .ok (.iload_n 3, 1) := dk_29 (dk_at dksX1_same_0 14 rfl rfl)
theorem dX1_same_15 : decode cX1_same 15 = .ok (.bipush 18, 2) := dk_16 18 (dk_at dksX1_same_0 15 rfl rfl)
theorem dX1_same_17 : decode cX1_same 17 = .ok (.if_icmp .ge 24, 3) := dk_162 0 24 (dk_at dksX1_same_0 17 rfl rfl)
theorem dX1_same_20 : decode cX1_same 20 = .ok (.aload_n 0, 1) := dk_42 (dk_at dksX1_same_0 20 rfl rfl)
theorem dX1_same_21 : decode cX1_same 21 = .ok (.getfield 40, 3) := dk_180 0 40 (dk_at dksX1_same_0 21 rfl rfl)
theorem dX1_same_24 : decode cX1_same 24 = .ok (.iload_n 2, 1) := dk_28 (dk_at dksX1_same_1 0 rfl rfl)
theorem dX1_same_25 : decode cX1_same 25 = .ok (.iload_n 3, 1) := dk_29 (dk_at dksX1_same_1 1 rfl rfl)
theorem dX1_same_26 : decode cX1_same 26 = .ok (.invokevirtual 284, 3) := dk_182 1 28 (dk_at dksX1_same_1 2 rfl rfl)
theorem dX1_same_29 : decode cX1_same 29 = .ok (.ifCond .eq 6, 3) := dk_153 0 6 (dk_at dksX1_same_1 5 rfl rfl)
theorem dX1_same_32 : decode cX1_same 32 = .ok (.iinc 1 1, 3) := dk_132 1 1 (dk_at dksX1_same_1 8 rfl rfl)
theorem dX1_same_35 : decode cX1_same 35 = .ok (.iinc 3 1, 3) := dk_132 3 1 (dk_at dksX1_same_1 11 rfl rfl)
theorem dX1_same_38 : decode cX1_same 38 = .ok (.goto (-24), 3) := dk_167 255 232 (dk_at dksX1_same_1 14 rfl rfl)
theorem dX1_same_41 : decode cX1_same 41 = .ok (.iinc 2 1, 3) := dk_132 2 1 (dk_at dksX1_same_1 17 rfl rfl)
theorem dX1_same_44 : decode cX1_same 44 = .ok (.goto (-40), 3) := dk_167 255 216 (dk_at dksX1_same_1 20 rfl rfl)
theorem dX1_same_47 : decode cX1_same 47 = .ok (.iload_n 1, 1) := dk_27 (dk_at dksX1_same_1 23 rfl rfl)
theorem dX1_same_48 : decode cX1_same 48 = .ok (.ireturn, 1) := dk_172 (dk_at dksX1_same_2 0 rfl rfl)
abbrev cX1_giveup : ByteArray := prog_1_method_45_code
abbrev yX1_giveup : MethodName := { cls := "WornSkin", name := "giveup", desc := "()I" }
def dkwX1_giveup_5 : List UInt8 := [172]
abbrev dktX1_giveup_5 : List UInt8 := dkwX1_giveup_5 ++ []
def dkwX1_giveup_4 : List UInt8 := [54, 5, 21, 5, 29, 161, 0, 6, 167, 0, 9, 21, 4, 61, 21, 5, 62, 132, 4, 1, 167, 255, 168, 28]
abbrev dktX1_giveup_4 : List UInt8 := dkwX1_giveup_4 ++ dktX1_giveup_5
def dkwX1_giveup_3 : List UInt8 := [182, 0, 220, 27, 42, 180, 0, 44, 42, 180, 0, 44, 182, 0, 152, 182, 0, 246, 2, 130, 126, 184, 0, 249]
abbrev dktX1_giveup_3 : List UInt8 := dkwX1_giveup_3 ++ dktX1_giveup_4
def dkwX1_giveup_2 : List UInt8 := [167, 0, 63, 42, 180, 0, 44, 42, 180, 0, 40, 182, 1, 4, 87, 42, 180, 0, 44, 21, 4, 3]
abbrev dktX1_giveup_2 : List UInt8 := dkwX1_giveup_2 ++ dktX1_giveup_3
def dkwX1_giveup_1 : List UInt8 := [21, 4, 42, 182, 0, 118, 162, 0, 85, 42, 180, 0, 40, 21, 4, 3, 182, 0, 216, 154, 0, 6]
abbrev dktX1_giveup_1 : List UInt8 := dkwX1_giveup_1 ++ dktX1_giveup_2
def dkwX1_giveup_0 : List UInt8 := [42, 180, 0, 40, 42, 180, 0, 40, 182, 0, 152, 182, 0, 246, 60, 2, 61, 16, 7, 62, 3, 54, 4]
abbrev dktX1_giveup_0 : List UInt8 := dkwX1_giveup_0 ++ dktX1_giveup_1
theorem dksX1_giveup_0 : cX1_giveup.data.toList.drop 0 = dktX1_giveup_0 := by decide +kernel
theorem dksX1_giveup_1 : cX1_giveup.data.toList.drop 23 = dktX1_giveup_1 := dk_seg dksX1_giveup_0 23 rfl rfl
theorem dksX1_giveup_2 : cX1_giveup.data.toList.drop 45 = dktX1_giveup_2 := dk_seg dksX1_giveup_1 22 rfl rfl
theorem dksX1_giveup_3 : cX1_giveup.data.toList.drop 67 = dktX1_giveup_3 := dk_seg dksX1_giveup_2 22 rfl rfl
theorem dksX1_giveup_4 : cX1_giveup.data.toList.drop 91 = dktX1_giveup_4 := dk_seg dksX1_giveup_3 24 rfl rfl
theorem dksX1_giveup_5 : cX1_giveup.data.toList.drop 115 = dktX1_giveup_5 := dk_seg dksX1_giveup_4 24 rfl rfl
theorem dX1_giveup_0 : decode cX1_giveup 0 = .ok (.aload_n 0, 1) := dk_42 (dk_at dksX1_giveup_0 0 rfl rfl)
theorem dX1_giveup_1 : decode cX1_giveup 1 = .ok (.getfield 40, 3) := dk_180 0 40 (dk_at dksX1_giveup_0 1 rfl rfl)
theorem dX1_giveup_4 : decode cX1_giveup 4 = .ok (.aload_n 0, 1) := dk_42 (dk_at dksX1_giveup_0 4 rfl rfl)
theorem dX1_giveup_5 : decode cX1_giveup 5 = .ok (.getfield 40, 3) := dk_180 0 40 (dk_at dksX1_giveup_0 5 rfl rfl)
theorem dX1_giveup_8 : decode cX1_giveup 8 = .ok (.invokevirtual 152, 3) := dk_182 0 152 (dk_at dksX1_giveup_0 8 rfl rfl)
theorem dX1_giveup_11 : decode cX1_giveup 11 = .ok (.invokevirtual 246, 3) := dk_182 0 246 (dk_at dksX1_giveup_0 11 rfl rfl)
theorem dX1_giveup_14 : decode cX1_giveup 14 = .ok (.istore_n 1, 1) := dk_60 (dk_at dksX1_giveup_0 14 rfl rfl)
theorem dX1_giveup_15 : decode cX1_giveup 15 = .ok (.iconst (-1), 1) := dk_2 (dk_at dksX1_giveup_0 15 rfl rfl)
theorem dX1_giveup_16 : decode cX1_giveup 16 = .ok (.istore_n 2, 1) := dk_61 (dk_at dksX1_giveup_0 16 rfl rfl)
theorem dX1_giveup_17 : decode cX1_giveup 17 = .ok (.bipush 7, 2) := dk_16 7 (dk_at dksX1_giveup_0 17 rfl rfl)
theorem dX1_giveup_19 : decode cX1_giveup 19 = .ok (.istore_n 3, 1) := dk_62 (dk_at dksX1_giveup_0 19 rfl rfl)
theorem dX1_giveup_20 : decode cX1_giveup 20 = .ok (.iconst 0, 1) := dk_3 (dk_at dksX1_giveup_0 20 rfl rfl)
theorem dX1_giveup_21 : decode cX1_giveup 21 = .ok (.istore 4, 2) := dk_54 4 (dk_at dksX1_giveup_0 21 rfl rfl)
theorem dX1_giveup_23 : decode cX1_giveup 23 = .ok (.iload 4, 2) := dk_21 4 (dk_at dksX1_giveup_1 0 rfl rfl)
theorem dX1_giveup_25 : decode cX1_giveup 25 = .ok (.aload_n 0, 1) := dk_42 (dk_at dksX1_giveup_1 2 rfl rfl)
theorem dX1_giveup_26 : decode cX1_giveup 26 = .ok (.invokevirtual 118, 3) := dk_182 0 118 (dk_at dksX1_giveup_1 3 rfl rfl)
theorem dX1_giveup_29 : decode cX1_giveup 29 = .ok (.if_icmp .ge 85, 3) := dk_162 0 85 (dk_at dksX1_giveup_1 6 rfl rfl)
theorem dX1_giveup_32 : decode cX1_giveup 32 = .ok (.aload_n 0, 1) := dk_42 (dk_at dksX1_giveup_1 9 rfl rfl)
theorem dX1_giveup_33 : decode cX1_giveup 33 = .ok (.getfield 40, 3) := dk_180 0 40 (dk_at dksX1_giveup_1 10 rfl rfl)
theorem dX1_giveup_36 : decode cX1_giveup 36 = .ok (.iload 4, 2) := dk_21 4 (dk_at dksX1_giveup_1 13 rfl rfl)
theorem dX1_giveup_38 : decode cX1_giveup 38 = .ok (.iconst 0, 1) := dk_3 (dk_at dksX1_giveup_1 15 rfl rfl)
theorem dX1_giveup_39 : decode cX1_giveup 39 = .ok (.invokevirtual 216, 3) := dk_182 0 216 (dk_at dksX1_giveup_1 16 rfl rfl)
theorem dX1_giveup_42 : decode cX1_giveup 42 = .ok (.ifCond .ne 6, 3) := dk_154 0 6 (dk_at dksX1_giveup_1 19 rfl rfl)
theorem dX1_giveup_45 : decode cX1_giveup 45 = .ok (.goto 63, 3) := dk_167 0 63 (dk_at dksX1_giveup_2 0 rfl rfl)
theorem dX1_giveup_48 : decode cX1_giveup 48 = .ok (.aload_n 0, 1) := dk_42 (dk_at dksX1_giveup_2 3 rfl rfl)
theorem dX1_giveup_49 : decode cX1_giveup 49 = .ok (.getfield 44, 3) := dk_180 0 44 (dk_at dksX1_giveup_2 4 rfl rfl)
theorem dX1_giveup_52 : decode cX1_giveup 52 = .ok (.aload_n 0, 1) := dk_42 (dk_at dksX1_giveup_2 7 rfl rfl)
theorem dX1_giveup_53 : decode cX1_giveup 53 = .ok (.getfield 40, 3) := dk_180 0 40 (dk_at dksX1_giveup_2 8 rfl rfl)
theorem dX1_giveup_56 : decode cX1_giveup 56 = .ok (.invokevirtual 260, 3) := dk_182 1 4 (dk_at dksX1_giveup_2 11 rfl rfl)
theorem dX1_giveup_59 : decode cX1_giveup 59 = .ok (.pop, 1) := dk_87 (dk_at dksX1_giveup_2 14 rfl rfl)
theorem dX1_giveup_60 : decode cX1_giveup 60 = .ok (.aload_n 0, 1) := dk_42 (dk_at dksX1_giveup_2 15 rfl rfl)
theorem dX1_giveup_61 : decode cX1_giveup 61 = .ok (.getfield 44, 3) := dk_180 0 44 (dk_at dksX1_giveup_2 16 rfl rfl)
theorem dX1_giveup_64 : decode cX1_giveup 64 = .ok (.iload 4, 2) := dk_21 4 (dk_at dksX1_giveup_2 19 rfl rfl)
theorem dX1_giveup_66 : decode cX1_giveup 66 = .ok (.iconst 0, 1) := dk_3 (dk_at dksX1_giveup_2 21 rfl rfl)
theorem dX1_giveup_67 : decode cX1_giveup 67 = .ok (.invokevirtual 220, 3) := dk_182 0 220 (dk_at dksX1_giveup_3 0 rfl rfl)
theorem dX1_giveup_70 : decode cX1_giveup 70 = .ok (.iload_n 1, 1) := dk_27 (dk_at dksX1_giveup_3 3 rfl rfl)
theorem dX1_giveup_71 : decode cX1_giveup 71 = .ok (.aload_n 0, 1) := dk_42 (dk_at dksX1_giveup_3 4 rfl rfl)
theorem dX1_giveup_72 : decode cX1_giveup 72 = .ok (.getfield 44, 3) := dk_180 0 44 (dk_at dksX1_giveup_3 5 rfl rfl)
theorem dX1_giveup_75 : decode cX1_giveup 75 = .ok (.aload_n 0, 1) := dk_42 (dk_at dksX1_giveup_3 8 rfl rfl)
theorem dX1_giveup_76 : decode cX1_giveup 76 = .ok (.getfield 44, 3) := dk_180 0 44 (dk_at dksX1_giveup_3 9 rfl rfl)
theorem dX1_giveup_79 : decode cX1_giveup 79 = .ok (.invokevirtual 152, 3) := dk_182 0 152 (dk_at dksX1_giveup_3 12 rfl rfl)
theorem dX1_giveup_82 : decode cX1_giveup 82 = .ok (.invokevirtual 246, 3) := dk_182 0 246 (dk_at dksX1_giveup_3 15 rfl rfl)
theorem dX1_giveup_85 : decode cX1_giveup 85 = .ok (.iconst (-1), 1) := dk_2 (dk_at dksX1_giveup_3 18 rfl rfl)
theorem dX1_giveup_86 : decode cX1_giveup 86 = .ok (.ixor, 1) := dk_130 (dk_at dksX1_giveup_3 19 rfl rfl)
theorem dX1_giveup_87 : decode cX1_giveup 87 = .ok (.iand, 1) := dk_126 (dk_at dksX1_giveup_3 20 rfl rfl)
theorem dX1_giveup_88 : decode cX1_giveup 88 = .ok (.invokestatic 249, 3) := dk_184 0 249 (dk_at dksX1_giveup_3 21 rfl rfl)
theorem dX1_giveup_91 : decode cX1_giveup 91 = .ok (.istore 5, 2) := dk_54 5 (dk_at dksX1_giveup_4 0 rfl rfl)
theorem dX1_giveup_93 : decode cX1_giveup 93 = .ok (.iload 5, 2) := dk_21 5 (dk_at dksX1_giveup_4 2 rfl rfl)
theorem dX1_giveup_95 : decode cX1_giveup 95 = .ok (.iload_n 3, 1) := dk_29 (dk_at dksX1_giveup_4 4 rfl rfl)
theorem dX1_giveup_96 : decode cX1_giveup 96 = .ok (.if_icmp .lt 6, 3) := dk_161 0 6 (dk_at dksX1_giveup_4 5 rfl rfl)
theorem dX1_giveup_99 : decode cX1_giveup 99 = .ok (.goto 9, 3) := dk_167 0 9 (dk_at dksX1_giveup_4 8 rfl rfl)
theorem dX1_giveup_102 : decode cX1_giveup 102 = .ok (.iload 4, 2) := dk_21 4 (dk_at dksX1_giveup_4 11 rfl rfl)
theorem dX1_giveup_104 : decode cX1_giveup 104 = .ok (.istore_n 2, 1) := dk_61 (dk_at dksX1_giveup_4 13 rfl rfl)
theorem dX1_giveup_105 : decode cX1_giveup 105 = .ok (.iload 5, 2) := dk_21 5 (dk_at dksX1_giveup_4 14 rfl rfl)
theorem dX1_giveup_107 : decode cX1_giveup 107 = .ok (.istore_n 3, 1) := dk_62 (dk_at dksX1_giveup_4 16 rfl rfl)
theorem dX1_giveup_108 : decode cX1_giveup 108 = .ok (.iinc 4 1, 3) := dk_132 4 1 (dk_at dksX1_giveup_4 17 rfl rfl)
theorem dX1_giveup_111 : decode cX1_giveup 111 = .ok (.goto (-88), 3) := dk_167 255 168 (dk_at dksX1_giveup_4 20 rfl rfl)
theorem dX1_giveup_114 : decode cX1_giveup 114 = .ok (.iload_n 2, 1) := dk_28 (dk_at dksX1_giveup_4 23 rfl rfl)
theorem dX1_giveup_115 : decode cX1_giveup 115 = .ok (.ireturn, 1) := dk_172 (dk_at dksX1_giveup_5 0 rfl rfl)
abbrev cX1_see : ByteArray := prog_1_method_46_code
abbrev yX1_see : MethodName := { cls := "WornSkin", name := "see", desc := "(IIIZ)Z" }
def dkwX1_see_3 : List UInt8 := [167, 0, 4, 3, 79, 182, 0, 202, 87, 4, 172]
abbrev dktX1_see_3 : List UInt8 := dkwX1_see_3 ++ []
def dkwX1_see_2 : List UInt8 := [7, 188, 10, 89, 3, 27, 79, 89, 4, 28, 79, 89, 5, 29, 79, 89, 6, 21, 4, 153, 0, 7, 4]
abbrev dktX1_see_2 : List UInt8 := dkwX1_see_2 ++ dktX1_see_3
def dkwX1_see_1 : List UInt8 := [184, 0, 120, 153, 0, 15, 42, 180, 0, 56, 182, 0, 111, 16, 8, 160, 0, 5, 3, 172, 42, 180, 0, 56]
abbrev dktX1_see_1 : List UInt8 := dkwX1_see_1 ++ dktX1_see_2
def dkwX1_see_0 : List UInt8 := [42, 27, 182, 0, 126, 153, 0, 35, 28, 4, 16, 9, 184, 0, 120, 153, 0, 25, 29, 3, 16, 9]
abbrev dktX1_see_0 : List UInt8 := dkwX1_see_0 ++ dktX1_see_1
theorem dksX1_see_0 : cX1_see.data.toList.drop 0 = dktX1_see_0 := by decide +kernel
theorem dksX1_see_1 : cX1_see.data.toList.drop 22 = dktX1_see_1 := dk_seg dksX1_see_0 22 rfl rfl
theorem dksX1_see_2 : cX1_see.data.toList.drop 46 = dktX1_see_2 := dk_seg dksX1_see_1 24 rfl rfl
theorem dksX1_see_3 : cX1_see.data.toList.drop 69 = dktX1_see_3 := dk_seg dksX1_see_2 23 rfl rfl
theorem dX1_see_0 : decode cX1_see 0 = .ok (.aload_n 0, 1) := dk_42 (dk_at dksX1_see_0 0 rfl rfl)
theorem dX1_see_1 : decode cX1_see 1 = .ok (.iload_n 1, 1) := dk_27 (dk_at dksX1_see_0 1 rfl rfl)
theorem dX1_see_2 : decode cX1_see 2 = .ok (.invokevirtual 126, 3) := dk_182 0 126 (dk_at dksX1_see_0 2 rfl rfl)
theorem dX1_see_5 : decode cX1_see 5 = .ok (.ifCond .eq 35, 3) := dk_153 0 35 (dk_at dksX1_see_0 5 rfl rfl)
theorem dX1_see_8 : decode cX1_see 8 = .ok (.iload_n 2, 1) := dk_28 (dk_at dksX1_see_0 8 rfl rfl)
theorem dX1_see_9 : decode cX1_see 9 = .ok (.iconst 1, 1) := dk_4 (dk_at dksX1_see_0 9 rfl rfl)
theorem dX1_see_10 : decode cX1_see 10 = .ok (.bipush 9, 2) := dk_16 9 (dk_at dksX1_see_0 10 rfl rfl)
theorem dX1_see_12 : decode cX1_see 12 = .ok (.invokestatic 120, 3) := dk_184 0 120 (dk_at dksX1_see_0 12 rfl rfl)
theorem dX1_see_15 : decode cX1_see 15 = .ok (.ifCond .eq 25, 3) := dk_153 0 25 (dk_at dksX1_see_0 15 rfl rfl)
theorem dX1_see_18 : decode cX1_see 18 = .ok (.iload_n 3, 1) := dk_29 (dk_at dksX1_see_0 18 rfl rfl)
theorem dX1_see_19 : decode cX1_see 19 = .ok (.iconst 0, 1) := dk_3 (dk_at dksX1_see_0 19 rfl rfl)
theorem dX1_see_20 : decode cX1_see 20 = .ok (.bipush 9, 2) := dk_16 9 (dk_at dksX1_see_0 20 rfl rfl)
theorem dX1_see_22 : decode cX1_see 22 = .ok (.invokestatic 120, 3) := dk_184 0 120 (dk_at dksX1_see_1 0 rfl rfl)
theorem dX1_see_25 : decode cX1_see 25 = .ok (.ifCond .eq 15, 3) := dk_153 0 15 (dk_at dksX1_see_1 3 rfl rfl)
theorem dX1_see_28 : decode cX1_see 28 = .ok (.aload_n 0, 1) := dk_42 (dk_at dksX1_see_1 6 rfl rfl)
theorem dX1_see_29 : decode cX1_see 29 = .ok (.getfield 56, 3) := dk_180 0 56 (dk_at dksX1_see_1 7 rfl rfl)
theorem dX1_see_32 : decode cX1_see 32 = .ok (.invokevirtual 111, 3) := dk_182 0 111 (dk_at dksX1_see_1 10 rfl rfl)
theorem dX1_see_35 : decode cX1_see 35 = .ok (.bipush 8, 2) := dk_16 8 (dk_at dksX1_see_1 13 rfl rfl)
theorem dX1_see_37 : decode cX1_see 37 = .ok (.if_icmp .ne 5, 3) := dk_160 0 5 (dk_at dksX1_see_1 15 rfl rfl)
theorem dX1_see_40 : decode cX1_see 40 = .ok (.iconst 0, 1) := dk_3 (dk_at dksX1_see_1 18 rfl rfl)
theorem dX1_see_41 : decode cX1_see 41 = .ok (.ireturn, 1) := dk_172 (dk_at dksX1_see_1 19 rfl rfl)
theorem dX1_see_42 : decode cX1_see 42 = .ok (.aload_n 0, 1) := dk_42 (dk_at dksX1_see_1 20 rfl rfl)
theorem dX1_see_43 : decode cX1_see 43 = .ok (.getfield 56, 3) := dk_180 0 56 (dk_at dksX1_see_1 21 rfl rfl)
theorem dX1_see_46 : decode cX1_see 46 = .ok (.iconst 4, 1) := dk_7 (dk_at dksX1_see_2 0 rfl rfl)
theorem dX1_see_47 : decode cX1_see 47 = .ok (.newarray .int, 2) := dk_188_10 (dk_at dksX1_see_2 1 rfl rfl)
theorem dX1_see_49 : decode cX1_see 49 = .ok (.dup, 1) := dk_89 (dk_at dksX1_see_2 3 rfl rfl)
theorem dX1_see_50 : decode cX1_see 50 = .ok (.iconst 0, 1) := dk_3 (dk_at dksX1_see_2 4 rfl rfl)
theorem dX1_see_51 : decode cX1_see 51 = .ok (.iload_n 1, 1) := dk_27 (dk_at dksX1_see_2 5 rfl rfl)
theorem dX1_see_52 : decode cX1_see 52 = .ok (.iastore, 1) := dk_79 (dk_at dksX1_see_2 6 rfl rfl)
theorem dX1_see_53 : decode cX1_see 53 = .ok (.dup, 1) := dk_89 (dk_at dksX1_see_2 7 rfl rfl)
theorem dX1_see_54 : decode cX1_see 54 = .ok (.iconst 1, 1) := dk_4 (dk_at dksX1_see_2 8 rfl rfl)
theorem dX1_see_55 : decode cX1_see 55 = .ok (.iload_n 2, 1) := dk_28 (dk_at dksX1_see_2 9 rfl rfl)
theorem dX1_see_56 : decode cX1_see 56 = .ok (.iastore, 1) := dk_79 (dk_at dksX1_see_2 10 rfl rfl)
theorem dX1_see_57 : decode cX1_see 57 = .ok (.dup, 1) := dk_89 (dk_at dksX1_see_2 11 rfl rfl)
theorem dX1_see_58 : decode cX1_see 58 = .ok (.iconst 2, 1) := dk_5 (dk_at dksX1_see_2 12 rfl rfl)
theorem dX1_see_59 : decode cX1_see 59 = .ok (.iload_n 3, 1) := dk_29 (dk_at dksX1_see_2 13 rfl rfl)
theorem dX1_see_60 : decode cX1_see 60 = .ok (.iastore, 1) := dk_79 (dk_at dksX1_see_2 14 rfl rfl)
theorem dX1_see_61 : decode cX1_see 61 = .ok (.dup, 1) := dk_89 (dk_at dksX1_see_2 15 rfl rfl)
theorem dX1_see_62 : decode cX1_see 62 = .ok (.iconst 3, 1) := dk_6 (dk_at dksX1_see_2 16 rfl rfl)
theorem dX1_see_63 : decode cX1_see 63 = .ok (.iload 4, 2) := dk_21 4 (dk_at dksX1_see_2 17 rfl rfl)
theorem dX1_see_65 : decode cX1_see 65 = .ok (.ifCond .eq 7, 3) := dk_153 0 7 (dk_at dksX1_see_2 19 rfl rfl)
theorem dX1_see_68 : decode cX1_see 68 = .ok (.iconst 1, 1) := dk_4 (dk_at dksX1_see_2 22 rfl rfl)
theorem dX1_see_69 : decode cX1_see 69 = .ok (.goto 4, 3) := dk_167 0 4 (dk_at dksX1_see_3 0 rfl rfl)
theorem dX1_see_72 : decode cX1_see 72 = .ok (.iconst 0, 1) := dk_3 (dk_at dksX1_see_3 3 rfl rfl)
theorem dX1_see_73 : decode cX1_see 73 = .ok (.iastore, 1) := dk_79 (dk_at dksX1_see_3 4 rfl rfl)
theorem dX1_see_74 : decode cX1_see 74 = .ok (.invokevirtual 202, 3) := dk_182 0 202 (dk_at dksX1_see_3 5 rfl rfl)
theorem dX1_see_77 : decode cX1_see 77 = .ok (.pop, 1) := dk_87 (dk_at dksX1_see_3 8 rfl rfl)
theorem dX1_see_78 : decode cX1_see 78 = .ok (.iconst 1, 1) := dk_4 (dk_at dksX1_see_3 9 rfl rfl)
theorem dX1_see_79 : decode cX1_see 79 = .ok (.ireturn, 1) := dk_172 (dk_at dksX1_see_3 10 rfl rfl)
abbrev cX1_isAsSeen : ByteArray := prog_1_method_47_code
abbrev yX1_isAsSeen : MethodName := { cls := "WornSkin", name := "isAsSeen", desc := "(LWornSkin$Text;)Z" }
def dkwX1_isAsSeen_3 : List UInt8 := [167, 255, 188, 4, 172]
abbrev dktX1_isAsSeen_3 : List UInt8 := dkwX1_isAsSeen_3 ++ []
def dkwX1_isAsSeen_2 : List UInt8 := [182, 1, 32, 45, 6, 46, 4, 160, 0, 7, 4, 167, 0, 4, 3, 159, 0, 5, 3, 172, 132, 2, 1]
abbrev dktX1_isAsSeen_2 : List UInt8 := dkwX1_isAsSeen_2 ++ dktX1_isAsSeen_3
def dkwX1_isAsSeen_1 : List UInt8 := [78, 42, 182, 0, 98, 43, 45, 4, 46, 45, 5, 46, 42, 180, 0, 40, 180, 0, 138, 45, 3, 46, 46]
abbrev dktX1_isAsSeen_1 : List UInt8 := dkwX1_isAsSeen_1 ++ dktX1_isAsSeen_2
def dkwX1_isAsSeen_0 : List UInt8 := [3, 61, 28, 42, 180, 0, 56, 182, 0, 111, 162, 0, 63, 42, 180, 0, 56, 28, 182, 0, 234, 192, 1, 31]
abbrev dktX1_isAsSeen_0 : List UInt8 := dkwX1_isAsSeen_0 ++ dktX1_isAsSeen_1
theorem dksX1_isAsSeen_0 : cX1_isAsSeen.data.toList.drop 0 = dktX1_isAsSeen_0 := by decide +kernel
theorem dksX1_isAsSeen_1 : cX1_isAsSeen.data.toList.drop 24 = dktX1_isAsSeen_1 := dk_seg dksX1_isAsSeen_0 24 rfl rfl
theorem dksX1_isAsSeen_2 : cX1_isAsSeen.data.toList.drop 47 = dktX1_isAsSeen_2 := dk_seg dksX1_isAsSeen_1 23 rfl rfl
theorem dksX1_isAsSeen_3 : cX1_isAsSeen.data.toList.drop 70 = dktX1_isAsSeen_3 := dk_seg dksX1_isAsSeen_2 23 rfl rfl
theorem dX1_isAsSeen_0 : decode cX1_isAsSeen 0 = .ok (.iconst 0, 1) := dk_3 (dk_at dksX1_isAsSeen_0 0 rfl rfl)
theorem dX1_isAsSeen_1 : decode cX1_isAsSeen 1 = .ok (.istore_n 2, 1) := dk_61 (dk_at dksX1_isAsSeen_0 1 rfl rfl)
theorem dX1_isAsSeen_2 : decode cX1_isAsSeen 2 = .ok (.iload_n 2, 1) := dk_28 (dk_at dksX1_isAsSeen_0 2 rfl rfl)
theorem dX1_isAsSeen_3 : decode cX1_isAsSeen 3 = .ok (.aload_n 0, 1) := dk_42 (dk_at dksX1_isAsSeen_0 3 rfl rfl)
theorem dX1_isAsSeen_4 : decode cX1_isAsSeen 4 = .ok (.getfield 56, 3) := dk_180 0 56 (dk_at dksX1_isAsSeen_0 4 rfl rfl)
theorem dX1_isAsSeen_7 : decode cX1_isAsSeen 7 = .ok (.invokevirtual 111, 3) := dk_182 0 111 (dk_at dksX1_isAsSeen_0 7 rfl rfl)
theorem dX1_isAsSeen_10 : decode cX1_isAsSeen 10 = .ok (.if_icmp .ge 63, 3) := dk_162 0 63 (dk_at dksX1_isAsSeen_0 10 rfl rfl)
theorem dX1_isAsSeen_13 : decode cX1_isAsSeen 13 = .ok (.aload_n 0, 1) := dk_42 (dk_at dksX1_isAsSeen_0 13 rfl rfl)
theorem dX1_isAsSeen_14 : decode cX1_isAsSeen 14 = .ok (.getfield 56, 3) := dk_180 0 56 (dk_at dksX1_isAsSeen_0 14 rfl rfl)
theorem dX1_isAsSeen_17 : decode cX1_isAsSeen 17 = .ok (.iload_n 2, 1) := dk_28 (dk_at dksX1_isAsSeen_0 17 rfl rfl)
theorem dX1_isAsSeen_18 : decode cX1_isAsSeen 18 = .ok (.invokevirtual 234, 3) := dk_182 0 234 (dk_at dksX1_isAsSeen_0 18 rfl rfl)
theorem dX1_isAsSeen_21 : decode cX1_isAsSeen 21 = .ok (.checkcast 287, 3) := dk_192 1 31 (dk_at dksX1_isAsSeen_0 21 rfl rfl)
theorem dX1_isAsSeen_24 : decode cX1_isAsSeen 24 = .ok (.astore_n 3, 1) := dk_78 (dk_at dksX1_isAsSeen_1 0 rfl rfl)
theorem dX1_isAsSeen_25 : decode cX1_isAsSeen 25 = .ok (.aload_n 0, 1) := dk_42 (dk_at dksX1_isAsSeen_1 1 rfl rfl)
theorem dX1_isAsSeen_26 : decode cX1_isAsSeen 26 = .ok (.invokevirtual 98, 3) := dk_182 0 98 (dk_at dksX1_isAsSeen_1 2 rfl rfl)
theorem dX1_isAsSeen_29 : decode cX1_isAsSeen 29 = .ok (.aload_n 1, 1) := dk_43 (dk_at dksX1_isAsSeen_1 5 rfl rfl)
theorem dX1_isAsSeen_30 : decode cX1_isAsSeen 30 = .ok (.aload_n 3, 1) := dk_45 (dk_at dksX1_isAsSeen_1 6 rfl rfl)
theorem dX1_isAsSeen_31 : decode cX1_isAsSeen 31 = .ok (.iconst 1, 1) := dk_4 (dk_at dksX1_isAsSeen_1 7 rfl rfl)
theorem dX1_isAsSeen_32 : decode cX1_isAsSeen 32 = .ok (.iaload, 1) := dk_46 (dk_at dksX1_isAsSeen_1 8 rfl rfl)
theorem dX1_isAsSeen_33 : decode cX1_isAsSeen 33 = .ok (.aload_n 3, 1) := dk_45 (dk_at dksX1_isAsSeen_1 9 rfl rfl)
theorem dX1_isAsSeen_34 : decode cX1_isAsSeen 34 = .ok (.iconst 2, 1) := dk_5 (dk_at dksX1_isAsSeen_1 10 rfl rfl)
theorem dX1_isAsSeen_35 : decode cX1_isAsSeen 35 = .ok (.iaload, 1) := dk_46 (dk_at dksX1_isAsSeen_1 11 rfl rfl)
theorem dX1_isAsSeen_36 : decode cX1_isAsSeen 36 = .ok (.aload_n 0, 1) := dk_42 (dk_at dksX1_isAsSeen_1 12 rfl rfl)
theorem dX1_isAsSeen_37 : decode cX1_isAsSeen 37 = .ok (.getfield 40, 3) := dk_180 0 40 (dk_at dksX1_isAsSeen_1 13 rfl rfl)
theorem dX1_isAsSeen_40 : decode cX1_isAsSeen 40 = .ok (.getfield 138, 3) := dk_180 0 138 (dk_at dksX1_isAsSeen_1 16 rfl rfl)
theorem dX1_isAsSeen_43 : decode cX1_isAsSeen 43 = .ok (.aload_n 3, 1) := dk_45 (dk_at dksX1_isAsSeen_1 19 rfl rfl)
theorem dX1_isAsSeen_44 : decode cX1_isAsSeen 44 = .ok (.iconst 0, 1) := dk_3 (dk_at dksX1_isAsSeen_1 20 rfl rfl)
theorem dX1_isAsSeen_45 : decode cX1_isAsSeen 45 = .ok (.iaload, 1) := dk_46 (dk_at dksX1_isAsSeen_1 21 rfl rfl)
theorem dX1_isAsSeen_46 : decode cX1_isAsSeen 46 = .ok (.iaload, 1) := dk_46 (dk_at dksX1_isAsSeen_1 22 rfl rfl)
theorem dX1_isAsSeen_47 : decode cX1_isAsSeen 47 = .ok (.invokevirtual 288, 3) := dk_182 1 32 (dk_at dksX1_isAsSeen_2 0 rfl rfl)
theorem dX1_isAsSeen_50 : decode cX1_isAsSeen 50 = .ok (.aload_n 3, 1) := dk_45 (dk_at dksX1_isAsSeen_2 3 rfl rfl)
theorem dX1_isAsSeen_51 : decode cX1_isAsSeen 51 = .ok (.iconst 3, 1) := dk_6 (dk_at dksX1_isAsSeen_2 4 rfl rfl)
theorem dX1_isAsSeen_52 : decode cX1_isAsSeen 52 = .ok (.iaload, 1) := dk_46 (dk_at dksX1_isAsSeen_2 5 rfl rfl)
theorem dX1_isAsSeen_53 : decode cX1_isAsSeen 53 = .ok (.iconst 1, 1) := dk_4 (dk_at dksX1_isAsSeen_2 6 rfl rfl)
theorem dX1_isAsSeen_54 : decode cX1_isAsSeen 54 = .ok (.if_icmp .ne 7, 3) := dk_160 0 7 (dk_at dksX1_isAsSeen_2 7 rfl rfl)
theorem dX1_isAsSeen_57 : decode cX1_isAsSeen 57 = .ok (.iconst 1, 1) := dk_4 (dk_at dksX1_isAsSeen_2 10 rfl rfl)
theorem dX1_isAsSeen_58 : decode cX1_isAsSeen 58 = .ok (.goto 4, 3) := dk_167 0 4 (dk_at dksX1_isAsSeen_2 11 rfl rfl)
theorem dX1_isAsSeen_61 : decode cX1_isAsSeen 61 = .ok (.iconst 0, 1) := dk_3 (dk_at dksX1_isAsSeen_2 14 rfl rfl)
theorem dX1_isAsSeen_62 : decode cX1_isAsSeen 62 = .ok (.if_icmp .eq 5, 3) := dk_159 0 5 (dk_at dksX1_isAsSeen_2 15 rfl rfl)
theorem dX1_isAsSeen_65 : decode cX1_isAsSeen 65 = .ok (.iconst 0, 1) := dk_3 (dk_at dksX1_isAsSeen_2 18 rfl rfl)
theorem dX1_isAsSeen_66 : decode cX1_isAsSeen 66 = .ok (.ireturn, 1) := dk_172 (dk_at dksX1_isAsSeen_2 19 rfl rfl)
theorem dX1_isAsSeen_67 : decode cX1_isAsSeen 67 = .ok (.iinc 2 1, 3) := dk_132 2 1 (dk_at dksX1_isAsSeen_2 20 rfl rfl)
theorem dX1_isAsSeen_70 : decode cX1_isAsSeen 70 = .ok (.goto (-68), 3) := dk_167 255 188 (dk_at dksX1_isAsSeen_3 0 rfl rfl)
theorem dX1_isAsSeen_73 : decode cX1_isAsSeen 73 = .ok (.iconst 1, 1) := dk_4 (dk_at dksX1_isAsSeen_3 3 rfl rfl)
theorem dX1_isAsSeen_74 : decode cX1_isAsSeen 74 = .ok (.ireturn, 1) := dk_172 (dk_at dksX1_isAsSeen_3 4 rfl rfl)
abbrev cX1_who : ByteArray := prog_1_method_48_code
abbrev yX1_who : MethodName := { cls := "WornSkin", name := "who", desc := "()I" }
def dkwX1_who_1 : List UInt8 := [153, 0, 9, 27, 4, 28, 120, 128, 60, 132, 2, 1, 167, 255, 224, 27, 172]
abbrev dktX1_who_1 : List UInt8 := dkwX1_who_1 ++ []
def dkwX1_who_0 : List UInt8 := [3, 60, 3, 61, 28, 42, 182, 0, 124, 162, 0, 30, 42, 42, 180, 0, 40, 28, 182, 0, 162, 182, 1, 36]
abbrev dktX1_who_0 : List UInt8 := dkwX1_who_0 ++ dktX1_who_1
theorem dksX1_who_0 : cX1_who.data.toList.drop 0 = dktX1_who_0 := by decide +kernel
theorem dksX1_who_1 : cX1_who.data.toList.drop 24 = dktX1_who_1 := dk_seg dksX1_who_0 24 rfl rfl
theorem dX1_who_0 : decode cX1_who 0 = .ok (.iconst 0, 1) := dk_3 (dk_at dksX1_who_0 0 rfl rfl)
theorem dX1_who_1 : decode cX1_who 1 = .ok (.istore_n 1, 1) := dk_60 (dk_at dksX1_who_0 1 rfl rfl)
theorem dX1_who_2 : decode cX1_who 2 = .ok (.iconst 0, 1) := dk_3 (dk_at dksX1_who_0 2 rfl rfl)
theorem dX1_who_3 : decode cX1_who 3 = .ok (.istore_n 2, 1) := dk_61 (dk_at dksX1_who_0 3 rfl rfl)
theorem dX1_who_4 : decode cX1_who 4 = .ok (.iload_n 2, 1) := dk_28 (dk_at dksX1_who_0 4 rfl rfl)
theorem dX1_who_5 : decode cX1_who 5 = .ok (.aload_n 0, 1) := dk_42 (dk_at dksX1_who_0 5 rfl rfl)
theorem dX1_who_6 : decode cX1_who 6 = .ok (.invokevirtual 124, 3) := dk_182 0 124 (dk_at dksX1_who_0 6 rfl rfl)
theorem dX1_who_9 : decode cX1_who 9 = .ok (.if_icmp .ge 30, 3) := dk_162 0 30 (dk_at dksX1_who_0 9 rfl rfl)
theorem dX1_who_12 : decode cX1_who 12 = .ok (.aload_n 0, 1) := dk_42 (dk_at dksX1_who_0 12 rfl rfl)
theorem dX1_who_13 : decode cX1_who 13 = .ok (.aload_n 0, 1) := dk_42 (dk_at dksX1_who_0 13 rfl rfl)
theorem dX1_who_14 : decode cX1_who 14 = .ok (.getfield 40, 3) := dk_180 0 40 (dk_at dksX1_who_0 14 rfl rfl)
theorem dX1_who_17 : decode cX1_who 17 = .ok (.iload_n 2, 1) := dk_28 (dk_at dksX1_who_0 17 rfl rfl)
theorem dX1_who_18 : decode cX1_who 18 = .ok (.invokevirtual 162, 3) := dk_182 0 162 (dk_at dksX1_who_0 18 rfl rfl)
theorem dX1_who_21 : decode cX1_who 21 = .ok (.invokevirtual 292, 3) := dk_182 1 36 (dk_at dksX1_who_0 21 rfl rfl)
theorem dX1_who_24 : decode cX1_who 24 = .ok (.ifCond .eq 9, 3) := dk_153 0 9 (dk_at dksX1_who_1 0 rfl rfl)
theorem dX1_who_27 : decode cX1_who 27 = .ok (.iload_n 1, 1) := dk_27 (dk_at dksX1_who_1 3 rfl rfl)
theorem dX1_who_28 : decode cX1_who 28 = .ok (.iconst 1, 1) := dk_4 (dk_at dksX1_who_1 4 rfl rfl)
theorem dX1_who_29 : decode cX1_who 29 = .ok (.iload_n 2, 1) := dk_28 (dk_at dksX1_who_1 5 rfl rfl)
theorem dX1_who_30 : decode cX1_who 30 = .ok (.ishl, 1) := dk_120 (dk_at dksX1_who_1 6 rfl rfl)
theorem dX1_who_31 : decode cX1_who 31 = .ok (.ior, 1) := dk_128 (dk_at dksX1_who_1 7 rfl rfl)
theorem dX1_who_32 : decode cX1_who 32 = .ok (.istore_n 1, 1) := dk_60 (dk_at dksX1_who_1 8 rfl rfl)
theorem dX1_who_33 : decode cX1_who 33 = .ok (.iinc 2 1, 3) := dk_132 2 1 (dk_at dksX1_who_1 9 rfl rfl)
theorem dX1_who_36 : decode cX1_who 36 = .ok (.goto (-32), 3) := dk_167 255 224 (dk_at dksX1_who_1 12 rfl rfl)
theorem dX1_who_39 : decode cX1_who 39 = .ok (.iload_n 1, 1) := dk_27 (dk_at dksX1_who_1 15 rfl rfl)
theorem dX1_who_40 : decode cX1_who 40 = .ok (.ireturn, 1) := dk_172 (dk_at dksX1_who_1 16 rfl rfl)
abbrev cX1_ask : ByteArray := prog_1_method_49_code
abbrev yX1_ask : MethodName := { cls := "WornSkin", name := "ask", desc := "(I)I" }
def dkwX1_ask_6 : List UInt8 := [21, 8, 54, 4, 132, 6, 1, 167, 255, 144, 132, 5, 1, 167, 255, 128, 29, 172]
abbrev dktX1_ask_6 : List UInt8 := dkwX1_ask_6 ++ []
def dkwX1_ask_5 : List UInt8 := [184, 1, 43, 54, 8, 21, 8, 21, 4, 161, 0, 6, 167, 0, 16, 16, 10, 21, 5, 104, 21, 6, 96, 62]
abbrev dktX1_ask_5 : List UInt8 := dkwX1_ask_5 ++ dktX1_ask_6
def dkwX1_ask_4 : List UInt8 := [182, 1, 32, 153, 0, 6, 132, 7, 1, 132, 8, 1, 167, 255, 200, 21, 7, 28, 184, 0, 249, 21, 7, 100]
abbrev dktX1_ask_4 : List UInt8 := dkwX1_ask_4 ++ dktX1_ask_5
def dkwX1_ask_3 : List UInt8 := [42, 180, 0, 40, 21, 8, 182, 0, 162, 21, 5, 21, 6, 42, 180, 0, 40, 180, 0, 138, 27, 46]
abbrev dktX1_ask_3 : List UInt8 := dkwX1_ask_3 ++ dktX1_ask_4
def dkwX1_ask_2 : List UInt8 := [54, 8, 21, 8, 42, 182, 0, 124, 162, 0, 53, 28, 21, 8, 184, 1, 25, 153, 0, 38, 42, 182, 0, 98]
abbrev dktX1_ask_2 : List UInt8 := dkwX1_ask_2 ++ dktX1_ask_3
def dkwX1_ask_1 : List UInt8 := [54, 5, 21, 5, 16, 9, 163, 0, 127, 3, 54, 6, 21, 6, 16, 9, 163, 0, 111, 3, 54, 7, 3]
abbrev dktX1_ask_1 : List UInt8 := dkwX1_ask_1 ++ dktX1_ask_2
def dkwX1_ask_0 : List UInt8 := [42, 27, 182, 0, 126, 154, 0, 5, 2, 172, 42, 182, 1, 40, 61, 2, 62, 28, 184, 0, 249, 54, 4, 4]
abbrev dktX1_ask_0 : List UInt8 := dkwX1_ask_0 ++ dktX1_ask_1
theorem dksX1_ask_0 : cX1_ask.data.toList.drop 0 = dktX1_ask_0 := by decide +kernel
theorem dksX1_ask_1 : cX1_ask.data.toList.drop 24 = dktX1_ask_1 := dk_seg dksX1_ask_0 24 rfl rfl
theorem dksX1_ask_2 : cX1_ask.data.toList.drop 47 = dktX1_ask_2 := dk_seg dksX1_ask_1 23 rfl rfl
theorem dksX1_ask_3 : cX1_ask.data.toList.drop 71 = dktX1_ask_3 := dk_seg dksX1_ask_2 24 rfl rfl
theorem dksX1_ask_4 : cX1_ask.data.toList.drop 93 = dktX1_ask_4 := dk_seg dksX1_ask_3 22 rfl rfl
theorem dksX1_ask_5 : cX1_ask.data.toList.drop 117 = dktX1_ask_5 := dk_seg dksX1_ask_4 24 rfl rfl
theorem dksX1_ask_6 : cX1_ask.data.toList.drop 141 = dktX1_ask_6 := dk_seg dksX1_ask_5 24 rfl rfl
theorem dX1_ask_0 : decode cX1_ask 0 = .ok (.aload_n 0, 1) := dk_42 (dk_at dksX1_ask_0 0 rfl rfl)
theorem dX1_ask_1 : decode cX1_ask 1 = .ok (.iload_n 1, 1) := dk_27 (dk_at dksX1_ask_0 1 rfl rfl)
theorem dX1_ask_2 : decode cX1_ask 2 = .ok (.invokevirtual 126, 3) := dk_182 0 126 (dk_at dksX1_ask_0 2 rfl rfl)
theorem dX1_ask_5 : decode cX1_ask 5 = .ok (.ifCond .ne 5, 3) := dk_154 0 5 (dk_at dksX1_ask_0 5 rfl rfl)
theorem dX1_ask_8 : decode cX1_ask 8 = .ok (.iconst (-1), 1) := dk_2 (dk_at dksX1_ask_0 8 rfl rfl)
theorem dX1_ask_9 : decode cX1_ask 9 = .ok (.ireturn, 1) := dk_172 (dk_at dksX1_ask_0 9 rfl rfl)
theorem dX1_ask_10 : decode cX1_ask 10 = .ok (.aload_n 0, 1) := dk_42 (dk_at dksX1_ask_0 10 rfl rfl)
theorem dX1_ask_11 : decode cX1_ask 11 = .ok (.invokevirtual 296, 3) := dk_182 1 40 (dk_at dksX1_ask_0 11 rfl rfl)
theorem dX1_ask_14 : decode cX1_ask 14 = .ok (.istore_n 2, 1) := dk_61 (dk_at dksX1_ask_0 14 rfl rfl)
theorem dX1_ask_15 : decode cX1_ask 15 = .ok (.iconst (-1), 1) := dk_2 (dk_at dksX1_ask_0 15 rfl rfl)
theorem dX1_ask_16 : decode cX1_ask 16 = .ok (.istore_n 3, 1) := dk_62 (dk_at dksX1_ask_0 16 rfl rfl)
theorem dX1_ask_17 : decode cX1_ask 17 = .ok (.iload_n 2, 1) := dk_28 (dk_at dksX1_ask_0 17 rfl rfl)
theorem dX1_ask_18 : decode cX1_ask 18 = .ok (.invokestatic 249, 3) := dk_184 0 249 (dk_at dksX1_ask_0 18 rfl rfl)
theorem dX1_ask_21 : decode cX1_ask 21 = .ok (.istore 4, 2) := dk_54 4 (dk_at dksX1_ask_0 21 rfl rfl)
theorem dX1_ask_23 : decode cX1_ask 23 = .ok (.iconst 1, 1) := dk_4 (dk_at dksX1_ask_0 23 rfl rfl)
theorem dX1_ask_24 : decode cX1_ask 24 = .ok (.istore 5, 2) := dk_54 5 (dk_at dksX1_ask_1 0 rfl rfl)
theorem dX1_ask_26 : decode cX1_ask 26 = .ok (.iload 5, 2) := dk_21 5 (dk_at dksX1_ask_1 2 rfl rfl)
theorem dX1_ask_28 : decode cX1_ask 28 = .ok (.bipush 9, 2) := dk_16 9 (dk_at dksX1_ask_1 4 rfl rfl)
theorem dX1_ask_30 : decode cX1_ask 30 = .ok (.if_icmp .gt 127, 3) := dk_163 0 127 (dk_at dksX1_ask_1 6 rfl rfl)
theorem dX1_ask_33 : decode cX1_ask 33 = .ok (.iconst 0, 1) := dk_3 (dk_at dksX1_ask_1 9 rfl rfl)
theorem dX1_ask_34 : decode cX1_ask 34 = .ok (.istore 6, 2) := dk_54 6 (dk_at dksX1_ask_1 10 rfl rfl)
theorem dX1_ask_36 : decode cX1_ask 36 = .ok (.iload 6, 2) := dk_21 6 (dk_at dksX1_ask_1 12 rfl rfl)
theorem dX1_ask_38 : decode cX1_ask 38 = .ok (.bipush 9, 2) := dk_16 9 (dk_at dksX1_ask_1 14 rfl rfl)
theorem dX1_ask_40 : decode cX1_ask 40 = .ok (.if_icmp .gt 111, 3) := dk_163 0 111 (dk_at dksX1_ask_1 16 rfl rfl)
theorem dX1_ask_43 : decode cX1_ask 43 = .ok (.iconst 0, 1) := dk_3 (dk_at dksX1_ask_1 19 rfl rfl)
theorem dX1_ask_44 : decode cX1_ask 44 = .ok (.istore 7, 2) := dk_54 7 (dk_at dksX1_ask_1 20 rfl rfl)
theorem dX1_ask_46 : decode cX1_ask 46 = .ok (.iconst 0, 1) := dk_3 (dk_at dksX1_ask_1 22 rfl rfl)
theorem dX1_ask_47 : decode cX1_ask 47 = .ok (.istore 8, 2) := dk_54 8 (dk_at dksX1_ask_2 0 rfl rfl)
theorem dX1_ask_49 : decode cX1_ask 49 = .ok (.iload 8, 2) := dk_21 8 (dk_at dksX1_ask_2 2 rfl rfl)
theorem dX1_ask_51 : decode cX1_ask 51 = .ok (.aload_n 0, 1) := dk_42 (dk_at dksX1_ask_2 4 rfl rfl)
theorem dX1_ask_52 : decode cX1_ask 52 = .ok (.invokevirtual 124, 3) := dk_182 0 124 (dk_at dksX1_ask_2 5 rfl rfl)
theorem dX1_ask_55 : decode cX1_ask 55 = .ok (.if_icmp .ge 53, 3) := dk_162 0 53 (dk_at dksX1_ask_2 8 rfl rfl)
theorem dX1_ask_58 : decode cX1_ask 58 = .ok (.iload_n 2, 1) := dk_28 (dk_at dksX1_ask_2 11 rfl rfl)
theorem dX1_ask_59 : decode cX1_ask 59 = .ok (.iload 8, 2) := dk_21 8 (dk_at dksX1_ask_2 12 rfl rfl)
theorem dX1_ask_61 : decode cX1_ask 61 = .ok (.invokestatic 281, 3) := dk_184 1 25 (dk_at dksX1_ask_2 14 rfl rfl)
theorem dX1_ask_64 : decode cX1_ask 64 = .ok (.ifCond .eq 38, 3) := dk_153 0 38 (dk_at dksX1_ask_2 17 rfl rfl)
theorem dX1_ask_67 : decode cX1_ask 67 = .ok (.aload_n 0, 1) := dk_42 (dk_at dksX1_ask_2 20 rfl rfl)
theorem dX1_ask_68 : decode cX1_ask 68 = .ok (.invokevirtual 98, 3) := dk_182 0 98 (dk_at dksX1_ask_2 21 rfl rfl)
theorem dX1_ask_71 : decode cX1_ask 71 = .ok (.aload_n 0, 1) := dk_42 (dk_at dksX1_ask_3 0 rfl rfl)
theorem dX1_ask_72 : decode cX1_ask 72 = .ok (.getfield 40, 3) := dk_180 0 40 (dk_at dksX1_ask_3 1 rfl rfl)
theorem dX1_ask_75 : decode cX1_ask 75 = .ok (.iload 8, 2) := dk_21 8 (dk_at dksX1_ask_3 4 rfl rfl)
theorem dX1_ask_77 : decode cX1_ask 77 = .ok (.invokevirtual 162, 3) := dk_182 0 162 (dk_at dksX1_ask_3 6 rfl rfl)
theorem dX1_ask_80 : decode cX1_ask 80 = .ok (.iload 5, 2) := dk_21 5 (dk_at dksX1_ask_3 9 rfl rfl)
theorem dX1_ask_82 : decode cX1_ask 82 = .ok (.iload 6, 2) := dk_21 6 (dk_at dksX1_ask_3 11 rfl rfl)
theorem dX1_ask_84 : decode cX1_ask 84 = .ok (.aload_n 0, 1) := dk_42 (dk_at dksX1_ask_3 13 rfl rfl)
theorem dX1_ask_85 : decode cX1_ask 85 = .ok (.getfield 40, 3) := dk_180 0 40 (dk_at dksX1_ask_3 14 rfl rfl)
theorem dX1_ask_88 : decode cX1_ask 88 = .ok (.getfield 138, 3) := dk_180 0 138 (dk_at dksX1_ask_3 17 rfl rfl)
theorem dX1_ask_91 : decode cX1_ask 91 = .ok (.iload_n 1, 1) := dk_27 (dk_at dksX1_ask_3 20 rfl rfl)
theorem dX1_ask_92 : decode cX1_ask 92 = .ok (.iaload, 1) := dk_46 (dk_at dksX1_ask_3 21 rfl rfl)
theorem dX1_ask_93 : decode cX1_ask 93 = .ok (.invokevirtual 288, 3) := dk_182 1 32 (dk_at dksX1_ask_4 0 rfl rfl)
theorem dX1_ask_96 : decode cX1_ask 96 = .ok (.ifCond .eq 6, 3) := dk_153 0 6 (dk_at dksX1_ask_4 3 rfl rfl)
theorem dX1_ask_99 : decode cX1_ask 99 = .ok (.iinc 7 1, 3) := dk_132 7 1 (dk_at dksX1_ask_4 6 rfl rfl)
theorem dX1_ask_102 : decode cX1_ask 102 = .ok (.iinc 8 1, 3) := dk_132 8 1 (dk_at dksX1_ask_4 9 rfl rfl)
theorem dX1_ask_105 : decode cX1_ask 105 = .ok (.goto (-56), 3) := dk_167 255 200 (dk_at dksX1_ask_4 12 rfl rfl)
theorem dX1_ask_108 : decode cX1_ask 108 = .ok (.iload 7, 2) := dk_21 7 (dk_at dksX1_ask_4 15 rfl rfl)
theorem dX1_ask_110 : decode cX1_ask 110 = .ok (.iload_n 2, 1) := dk_28 (dk_at dksX1_ask_4 17 rfl rfl)
theorem dX1_ask_111 : decode cX1_ask 111 = .ok (.invokestatic 249, 3) := dk_184 0 249 (dk_at dksX1_ask_4 18 rfl rfl)
theorem dX1_ask_114 : decode cX1_ask 114 = .ok (.iload 7, 2) := dk_21 7 (dk_at dksX1_ask_4 21 rfl rfl)
theorem dX1_ask_116 : decode cX1_ask 116 = .ok (.isub, 1) := dk_100 (dk_at dksX1_ask_4 23 rfl rfl)
theorem dX1_ask_117 : decode cX1_ask 117 = .ok (.invokestatic 299, 3) := dk_184 1 43 (dk_at dksX1_ask_5 0 rfl rfl)
theorem dX1_ask_120 : decode cX1_ask 120 = .ok (.istore 8, 2) := dk_54 8 (dk_at dksX1_ask_5 3 rfl rfl)
theorem dX1_ask_122 : decode cX1_ask 122 = .ok (.iload 8, 2) := dk_21 8 (dk_at dksX1_ask_5 5 rfl rfl)
theorem dX1_ask_124 : decode cX1_ask 124 = .ok (.iload 4, 2) := dk_21 4 (dk_at dksX1_ask_5 7 rfl rfl)
theorem dX1_ask_126 : decode cX1_ask 126 = .ok (.if_icmp .lt 6, 3) := dk_161 0 6 (dk_at dksX1_ask_5 9 rfl rfl)
theorem dX1_ask_129 : decode cX1_ask 129 = .ok (.goto 16, 3) := dk_167 0 16 (dk_at dksX1_ask_5 12 rfl rfl)
theorem dX1_ask_132 : decode cX1_ask 132 = .ok (.bipush 10, 2) := dk_16 10 (dk_at dksX1_ask_5 15 rfl rfl)
theorem dX1_ask_134 : decode cX1_ask 134 = .ok (.iload 5, 2) := dk_21 5 (dk_at dksX1_ask_5 17 rfl rfl)
theorem dX1_ask_136 : decode cX1_ask 136 = .ok (.imul, 1) := dk_104 (dk_at dksX1_ask_5 19 rfl rfl)
theorem dX1_ask_137 : decode cX1_ask 137 = .ok (.iload 6, 2) := dk_21 6 (dk_at dksX1_ask_5 20 rfl rfl)
theorem dX1_ask_139 : decode cX1_ask 139 = .ok (.iadd, 1) := dk_96 (dk_at dksX1_ask_5 22 rfl rfl)
theorem dX1_ask_140 : decode cX1_ask 140 = .ok (.istore_n 3, 1) := dk_62 (dk_at dksX1_ask_5 23 rfl rfl)
theorem dX1_ask_141 : decode cX1_ask 141 = .ok (.iload 8, 2) := dk_21 8 (dk_at dksX1_ask_6 0 rfl rfl)
theorem dX1_ask_143 : decode cX1_ask 143 = .ok (.istore 4, 2) := dk_54 4 (dk_at dksX1_ask_6 2 rfl rfl)
theorem dX1_ask_145 : decode cX1_ask 145 = .ok (.iinc 6 1, 3) := dk_132 6 1 (dk_at dksX1_ask_6 4 rfl rfl)
theorem dX1_ask_148 : decode cX1_ask 148 = .ok (.goto (-112), 3) := dk_167 255 144 (dk_at dksX1_ask_6 7 rfl rfl)
theorem dX1_ask_151 : decode cX1_ask 151 = .ok (.iinc 5 1, 3) := dk_132 5 1 (dk_at dksX1_ask_6 10 rfl rfl)
theorem dX1_ask_154 : decode cX1_ask 154 = .ok (.goto (-128), 3) := dk_167 255 128 (dk_at dksX1_ask_6 13 rfl rfl)
theorem dX1_ask_157 : decode cX1_ask 157 = .ok (.iload_n 3, 1) := dk_29 (dk_at dksX1_ask_6 16 rfl rfl)
theorem dX1_ask_158 : decode cX1_ask 158 = .ok (.ireturn, 1) := dk_172 (dk_at dksX1_ask_6 17 rfl rfl)
abbrev cX1_chance : ByteArray := prog_1_method_50_code
abbrev yX1_chance : MethodName := { cls := "WornSkin", name := "chance", desc := "(III)I" }
def dkwX1_chance_5 : List UInt8 := [20, 1, 50, 105, 22, 6, 109, 136, 172]
abbrev dktX1_chance_5 : List UInt8 := dkwX1_chance_5 ++ []
def dkwX1_chance_4 : List UInt8 := [167, 0, 7, 16, 10, 29, 100, 96, 133, 105, 55, 8, 132, 10, 1, 167, 255, 209, 22, 6, 22, 8, 101]
abbrev dktX1_chance_4 : List UInt8 := dkwX1_chance_4 ++ dktX1_chance_5
def dkwX1_chance_3 : List UInt8 := [20, 1, 48, 105, 55, 6, 22, 8, 21, 4, 153, 0, 7, 3, 167, 0, 4, 29, 21, 5, 153, 0, 7, 3]
abbrev dktX1_chance_3 : List UInt8 := dkwX1_chance_3 ++ dktX1_chance_4
def dkwX1_chance_2 : List UInt8 := [27, 3, 182, 0, 174, 54, 5, 10, 55, 6, 10, 55, 8, 3, 54, 10, 21, 10, 28, 162, 0, 47, 22, 6]
abbrev dktX1_chance_2 : List UInt8 := dkwX1_chance_2 ++ dktX1_chance_3
def dkwX1_chance_1 : List UInt8 := [184, 0, 120, 154, 0, 5, 2, 172, 42, 180, 0, 40, 27, 16, 9, 182, 0, 174, 54, 4, 42, 180, 0, 40]
abbrev dktX1_chance_1 : List UInt8 := dkwX1_chance_1 ++ dktX1_chance_2
def dkwX1_chance_0 : List UInt8 := [42, 27, 182, 0, 159, 153, 0, 23, 28, 4, 16, 6, 184, 0, 120, 153, 0, 13, 29, 3, 16, 10]
abbrev dktX1_chance_0 : List UInt8 := dkwX1_chance_0 ++ dktX1_chance_1
theorem dksX1_chance_0 : cX1_chance.data.toList.drop 0 = dktX1_chance_0 := by decide +kernel
theorem dksX1_chance_1 : cX1_chance.data.toList.drop 22 = dktX1_chance_1 := dk_seg dksX1_chance_0 22 rfl rfl
theorem dksX1_chance_2 : cX1_chance.data.toList.drop 46 = dktX1_chance_2 := dk_seg dksX1_chance_1 24 rfl rfl
theorem dksX1_chance_3 : cX1_chance.data.toList.drop 70 = dktX1_chance_3 := dk_seg dksX1_chance_2 24 rfl rfl
theorem dksX1_chance_4 : cX1_chance.data.toList.drop 94 = dktX1_chance_4 := dk_seg dksX1_chance_3 24 rfl rfl
theorem dksX1_chance_5 : cX1_chance.data.toList.drop 117 = dktX1_chance_5 := dk_seg dksX1_chance_4 23 rfl rfl
theorem dX1_chance_0 : decode cX1_chance 0 = .ok (.aload_n 0, 1) := dk_42 (dk_at dksX1_chance_0 0 rfl rfl)
theorem dX1_chance_1 : decode cX1_chance 1 = .ok (.iload_n 1, 1) := dk_27 (dk_at dksX1_chance_0 1 rfl rfl)
theorem dX1_chance_2 : decode cX1_chance 2 = .ok (.invokevirtual 159, 3) := dk_182 0 159 (dk_at dksX1_chance_0 2 rfl rfl)
theorem dX1_chance_5 : decode cX1_chance 5 = .ok (.ifCond .eq 23, 3) := dk_153 0 23 (dk_at dksX1_chance_0 5 rfl rfl)
theorem dX1_chance_8 : decode cX1_chance 8 = .ok (.iload_n 2, 1) := dk_28 (dk_at dksX1_chance_0 8 rfl rfl)
theorem dX1_chance_9 : decode cX1_chance 9 = .ok (.iconst 1, 1) := dk_4 (dk_at dksX1_chance_0 9 rfl rfl)
theorem dX1_chance_10 : decode cX1_chance 10 = .ok (.bipush 6, 2) := dk_16 6 (dk_at dksX1_chance_0 10 rfl rfl)
theorem dX1_chance_12 : decode cX1_chance 12 = .ok (.invokestatic 120, 3) := dk_184 0 120 (dk_at dksX1_chance_0 12 rfl rfl)
theorem dX1_chance_15 : decode cX1_chance 15 = .ok (.ifCond .eq 13, 3) := dk_153 0 13 (dk_at dksX1_chance_0 15 rfl rfl)
theorem dX1_chance_18 : decode cX1_chance 18 = .ok (.iload_n 3, 1) := dk_29 (dk_at dksX1_chance_0 18 rfl rfl)
theorem dX1_chance_19 : decode cX1_chance 19 = .ok (.iconst 0, 1) := dk_3 (dk_at dksX1_chance_0 19 rfl rfl)
theorem dX1_chance_20 : decode cX1_chance 20 = .ok (.bipush 10, 2) := dk_16 10 (dk_at dksX1_chance_0 20 rfl rfl)
theorem dX1_chance_22 : decode cX1_chance 22 = .ok (.invokestatic 120, 3) := dk_184 0 120 (dk_at dksX1_chance_1 0 rfl rfl)
theorem dX1_chance_25 : decode cX1_chance 25 = .ok (.ifCond .ne 5, 3) := dk_154 0 5 (dk_at dksX1_chance_1 3 rfl rfl)
theorem dX1_chance_28 : decode cX1_chance 28 = .ok (.iconst (-1), 1) := dk_2 (dk_at dksX1_chance_1 6 rfl rfl)
theorem dX1_chance_29 : decode cX1_chance 29 = .ok (.ireturn, 1) := dk_172 (dk_at dksX1_chance_1 7 rfl rfl)
theorem dX1_chance_30 : decode cX1_chance 30 = .ok (.aload_n 0, 1) := dk_42 (dk_at dksX1_chance_1 8 rfl rfl)
theorem dX1_chance_31 : decode cX1_chance 31 = .ok (.getfield 40, 3) := dk_180 0 40 (dk_at dksX1_chance_1 9 rfl rfl)
theorem dX1_chance_34 : decode cX1_chance 34 = .ok (.iload_n 1, 1) := dk_27 (dk_at dksX1_chance_1 12 rfl rfl)
theorem dX1_chance_35 : decode cX1_chance 35 = .ok (.bipush 9, 2) := dk_16 9 (dk_at dksX1_chance_1 13 rfl rfl)
theorem dX1_chance_37 : decode cX1_chance 37 = .ok (.invokevirtual 174, 3) := dk_182 0 174 (dk_at dksX1_chance_1 15 rfl rfl)
theorem dX1_chance_40 : decode cX1_chance 40 = .ok (.istore 4, 2) := dk_54 4 (dk_at dksX1_chance_1 18 rfl rfl)
theorem dX1_chance_42 : decode cX1_chance 42 = .ok (.aload_n 0, 1) := dk_42 (dk_at dksX1_chance_1 20 rfl rfl)
theorem dX1_chance_43 : decode cX1_chance 43 = .ok (.getfield 40, 3) := dk_180 0 40 (dk_at dksX1_chance_1 21 rfl rfl)
theorem dX1_chance_46 : decode cX1_chance 46 = .ok (.iload_n 1, 1) := dk_27 (dk_at dksX1_chance_2 0 rfl rfl)
theorem dX1_chance_47 : decode cX1_chance 47 = .ok (.iconst 0, 1) := dk_3 (dk_at dksX1_chance_2 1 rfl rfl)
theorem dX1_chance_48 : decode cX1_chance 48 = .ok (.invokevirtual 174, 3) := dk_182 0 174 (dk_at dksX1_chance_2 2 rfl rfl)
theorem dX1_chance_51 : decode cX1_chance 51 = .ok (.istore 5, 2) := dk_54 5 (dk_at dksX1_chance_2 5 rfl rfl)
theorem dX1_chance_53 : decode cX1_chance 53 = .ok (.lconst 1, 1) := dk_10 (dk_at dksX1_chance_2 7 rfl rfl)
theorem dX1_chance_54 : decode cX1_chance 54 = .ok (.lstore 6, 2) := dk_55 6 (dk_at dksX1_chance_2 8 rfl rfl)
theorem dX1_chance_56 : decode cX1_chance 56 = .ok (.lconst 1, 1) := dk_10 (dk_at dksX1_chance_2 10 rfl rfl)
theorem dX1_chance_57 : decode cX1_chance 57 = .ok (.lstore 8, 2) := dk_55 8 (dk_at dksX1_chance_2 11 rfl rfl)
theorem dX1_chance_59 : decode cX1_chance 59 = .ok (.iconst 0, 1) := dk_3 (dk_at dksX1_chance_2 13 rfl rfl)
theorem dX1_chance_60 : decode cX1_chance 60 = .ok (.istore 10, 2) := dk_54 10 (dk_at dksX1_chance_2 14 rfl rfl)
theorem dX1_chance_62 : decode cX1_chance 62 = .ok (.iload 10, 2) := dk_21 10 (dk_at dksX1_chance_2 16 rfl rfl)
theorem dX1_chance_64 : decode cX1_chance 64 = .ok (.iload_n 2, 1) := dk_28 (dk_at dksX1_chance_2 18 rfl rfl)
theorem dX1_chance_65 : decode cX1_chance 65 = .ok (.if_icmp .ge 47, 3) := dk_162 0 47 (dk_at dksX1_chance_2 19 rfl rfl)
theorem dX1_chance_68 : decode cX1_chance 68 = .ok (.lload 6, 2) := dk_22 6 (dk_at dksX1_chance_2 22 rfl rfl)
theorem dX1_chance_70 : decode cX1_chance 70 = .ok (.ldc2_w 304, 3) := dk_20 1 48 (dk_at dksX1_chance_3 0 rfl rfl)
theorem dX1_chance_73 : decode cX1_chance 73 = .ok (.lmul, 1) := dk_105 (dk_at dksX1_chance_3 3 rfl rfl)
theorem dX1_chance_74 : decode cX1_chance 74 = .ok (.lstore 6, 2) := dk_55 6 (dk_at dksX1_chance_3 4 rfl rfl)
theorem dX1_chance_76 : decode cX1_chance 76 = .ok (.lload 8, 2) := dk_22 8 (dk_at dksX1_chance_3 6 rfl rfl)
theorem dX1_chance_78 : decode cX1_chance 78 = .ok (.iload 4, 2) := dk_21 4 (dk_at dksX1_chance_3 8 rfl rfl)
theorem dX1_chance_80 : decode cX1_chance 80 = .ok (.ifCond .eq 7, 3) := dk_153 0 7 (dk_at dksX1_chance_3 10 rfl rfl)
theorem dX1_chance_83 : decode cX1_chance 83 = .ok (.iconst 0, 1) := dk_3 (dk_at dksX1_chance_3 13 rfl rfl)
theorem dX1_chance_84 : decode cX1_chance 84 = .ok (.goto 4, 3) := dk_167 0 4 (dk_at dksX1_chance_3 14 rfl rfl)
theorem dX1_chance_87 : decode cX1_chance 87 = .ok (.iload_n 3, 1) := dk_29 (dk_at dksX1_chance_3 17 rfl rfl)
theorem dX1_chance_88 : decode cX1_chance 88 = .ok (.iload 5, 2) := dk_21 5 (dk_at dksX1_chance_3 18 rfl rfl)
theorem dX1_chance_90 : decode cX1_chance 90 = .ok (.ifCond .eq 7, 3) := dk_153 0 7 (dk_at dksX1_chance_3 20 rfl rfl)
theorem dX1_chance_93 : decode cX1_chance 93 = .ok (.iconst 0, 1) := dk_3 (dk_at dksX1_chance_3 23 rfl rfl)
theorem dX1_chance_94 : decode cX1_chance 94 = .ok (.goto 7, 3) := dk_167 0 7 (dk_at dksX1_chance_4 0 rfl rfl)
theorem dX1_chance_97 : decode cX1_chance 97 = .ok (.bipush 10, 2) := dk_16 10 (dk_at dksX1_chance_4 3 rfl rfl)
theorem dX1_chance_99 : decode cX1_chance 99 = .ok (.iload_n 3, 1) := dk_29 (dk_at dksX1_chance_4 5 rfl rfl)
theorem dX1_chance_100 : decode cX1_chance 100 = .ok (.isub, 1) := dk_100 (dk_at dksX1_chance_4 6 rfl rfl)
theorem dX1_chance_101 : decode cX1_chance 101 = .ok (.iadd, 1) := dk_96 (dk_at dksX1_chance_4 7 rfl rfl)
theorem dX1_chance_102 : decode cX1_chance 102 = .ok (.i2l, 1) := dk_133 (dk_at dksX1_chance_4 8 rfl rfl)
theorem dX1_chance_103 : decode cX1_chance 103 = .ok (.lmul, 1) := dk_105 (dk_at dksX1_chance_4 9 rfl rfl)
theorem dX1_chance_104 : decode cX1_chance 104 = .ok (.lstore 8, 2) := dk_55 8 (dk_at dksX1_chance_4 10 rfl rfl)
theorem dX1_chance_106 : decode cX1_chance 106 = .ok (.iinc 10 1, 3) := dk_132 10 1 (dk_at dksX1_chance_4 12 rfl rfl)
theorem dX1_chance_109 : decode cX1_chance 109 = .ok (.goto (-47), 3) := dk_167 255 209 (dk_at dksX1_chance_4 15 rfl rfl)
theorem dX1_chance_112 : decode cX1_chance 112 = .ok (.lload 6, 2) := dk_22 6 (dk_at dksX1_chance_4 18 rfl rfl)
theorem dX1_chance_114 : decode cX1_chance 114 = .ok (.lload 8, 2) := dk_22 8 (dk_at dksX1_chance_4 20 rfl rfl)
theorem dX1_chance_116 : decode cX1_chance 116 = .ok (.lsub, 1) := dk_101 (dk_at dksX1_chance_4 22 rfl rfl)
theorem dX1_chance_117 : decode cX1_chance 117 = .ok (.ldc2_w 306, 3) := dk_20 1 50 (dk_at dksX1_chance_5 0 rfl rfl)
theorem dX1_chance_120 : decode cX1_chance 120 = .ok (.lmul, 1) := dk_105 (dk_at dksX1_chance_5 3 rfl rfl)
theorem dX1_chance_121 : decode cX1_chance 121 = .ok (.lload 6, 2) := dk_22 6 (dk_at dksX1_chance_5 4 rfl rfl)
theorem dX1_chance_123 : decode cX1_chance 123 = .ok (.ldiv, 1) := dk_109 (dk_at dksX1_chance_5 6 rfl rfl)
theorem dX1_chance_124 : decode cX1_chance 124 = .ok (.l2i, 1) := dk_136 (dk_at dksX1_chance_5 7 rfl rfl)
theorem dX1_chance_125 : decode cX1_chance 125 = .ok (.ireturn, 1) := dk_172 (dk_at dksX1_chance_5 8 rfl rfl)
abbrev cX1_draw : ByteArray := prog_1_method_55_code
abbrev yX1_draw : MethodName := { cls := "WornSkin", name := "draw", desc := "(I)I" }
def dkwX1_draw_1 : List UInt8 := [20, 1, 77, 109, 27, 133, 113, 136, 172]
abbrev dktX1_draw_1 : List UInt8 := dkwX1_draw_1 ++ []
def dkwX1_draw_0 : List UInt8 := [42, 42, 180, 1, 67, 20, 1, 71, 105, 20, 1, 73, 97, 20, 1, 75, 113, 181, 1, 67, 42, 180, 1, 67]
abbrev dktX1_draw_0 : List UInt8 := dkwX1_draw_0 ++ dktX1_draw_1
theorem dksX1_draw_0 : cX1_draw.data.toList.drop 0 = dktX1_draw_0 := by decide +kernel
theorem dksX1_draw_1 : cX1_draw.data.toList.drop 24 = dktX1_draw_1 := dk_seg dksX1_draw_0 24 rfl rfl
theorem dX1_draw_0 : decode cX1_draw 0 = .ok (.aload_n 0, 1) := dk_42 (dk_at dksX1_draw_0 0 rfl rfl)
theorem dX1_draw_1 : decode cX1_draw 1 = .ok (.aload_n 0, 1) := dk_42 (dk_at dksX1_draw_0 1 rfl rfl)
theorem dX1_draw_2 : decode cX1_draw 2 = .ok (.getfield 323, 3) := dk_180 1 67 (dk_at dksX1_draw_0 2 rfl rfl)
theorem dX1_draw_5 : decode cX1_draw 5 = .ok (.ldc2_w 327, 3) := dk_20 1 71 (dk_at dksX1_draw_0 5 rfl rfl)
theorem dX1_draw_8 : decode cX1_draw 8 = .ok (.lmul, 1) := dk_105 (dk_at dksX1_draw_0 8 rfl rfl)
theorem dX1_draw_9 : decode cX1_draw 9 = .ok (.ldc2_w 329, 3) := dk_20 1 73 (dk_at dksX1_draw_0 9 rfl rfl)
theorem dX1_draw_12 : decode cX1_draw 12 = .ok (.ladd, 1) := dk_97 (dk_at dksX1_draw_0 12 rfl rfl)
theorem dX1_draw_13 : decode cX1_draw 13 = .ok (.ldc2_w 331, 3) := dk_20 1 75 (dk_at dksX1_draw_0 13 rfl rfl)
theorem dX1_draw_16 : decode cX1_draw 16 = .ok (.lrem, 1) := dk_113 (dk_at dksX1_draw_0 16 rfl rfl)
theorem dX1_draw_17 : decode cX1_draw 17 = .ok (.putfield 323, 3) := dk_181 1 67 (dk_at dksX1_draw_0 17 rfl rfl)
theorem dX1_draw_20 : decode cX1_draw 20 = .ok (.aload_n 0, 1) := dk_42 (dk_at dksX1_draw_0 20 rfl rfl)
theorem dX1_draw_21 : decode cX1_draw 21 = .ok (.getfield 323, 3) := dk_180 1 67 (dk_at dksX1_draw_0 21 rfl rfl)
theorem dX1_draw_24 : decode cX1_draw 24 = .ok (.ldc2_w 333, 3) := dk_20 1 77 (dk_at dksX1_draw_1 0 rfl rfl)
theorem dX1_draw_27 : decode cX1_draw 27 = .ok (.ldiv, 1) := dk_109 (dk_at dksX1_draw_1 3 rfl rfl)
theorem dX1_draw_28 : decode cX1_draw 28 = .ok (.iload_n 1, 1) := dk_27 (dk_at dksX1_draw_1 4 rfl rfl)
theorem dX1_draw_29 : decode cX1_draw 29 = .ok (.i2l, 1) := dk_133 (dk_at dksX1_draw_1 5 rfl rfl)
theorem dX1_draw_30 : decode cX1_draw 30 = .ok (.lrem, 1) := dk_113 (dk_at dksX1_draw_1 6 rfl rfl)
theorem dX1_draw_31 : decode cX1_draw 31 = .ok (.l2i, 1) := dk_136 (dk_at dksX1_draw_1 7 rfl rfl)
theorem dX1_draw_32 : decode cX1_draw 32 = .ok (.ireturn, 1) := dk_172 (dk_at dksX1_draw_1 8 rfl rfl)
abbrev cX1_drawsText : ByteArray := prog_1_method_56_code
abbrev yX1_drawsText : MethodName := { cls := "WornSkin", name := "drawsText", desc := "()Z" }
def dkwX1_drawsText_4 : List UInt8 := [160, 0, 7, 4, 167, 0, 4, 3, 182, 0, 220, 3, 172]
abbrev dktX1_drawsText_4 : List UInt8 := dkwX1_drawsText_4 ++ []
def dkwX1_drawsText_3 : List UInt8 := [160, 0, 7, 4, 167, 0, 4, 3, 182, 0, 216, 153, 0, 22, 42, 180, 0, 44, 28, 21, 4, 4]
abbrev dktX1_drawsText_3 : List UInt8 := dkwX1_drawsText_3 ++ dktX1_drawsText_4
def dkwX1_drawsText_2 : List UInt8 := [4, 172, 42, 6, 182, 1, 79, 54, 4, 21, 4, 5, 162, 0, 44, 42, 180, 0, 44, 28, 21, 4, 4]
abbrev dktX1_drawsText_2 : List UInt8 := dkwX1_drawsText_2 ++ dktX1_drawsText_3
def dkwX1_drawsText_1 : List UInt8 := [62, 42, 180, 0, 44, 27, 28, 29, 182, 0, 206, 153, 0, 15, 42, 180, 0, 44, 27, 28, 29, 182, 0, 212]
abbrev dktX1_drawsText_1 : List UInt8 := dkwX1_drawsText_1 ++ dktX1_drawsText_2
def dkwX1_drawsText_0 : List UInt8 := [42, 42, 182, 0, 124, 182, 1, 79, 60, 42, 42, 182, 0, 118, 182, 1, 79, 61, 42, 16, 6, 182, 1, 79]
abbrev dktX1_drawsText_0 : List UInt8 := dkwX1_drawsText_0 ++ dktX1_drawsText_1
theorem dksX1_drawsText_0 : cX1_drawsText.data.toList.drop 0 = dktX1_drawsText_0 := by decide +kernel
theorem dksX1_drawsText_1 : cX1_drawsText.data.toList.drop 24 = dktX1_drawsText_1 := dk_seg dksX1_drawsText_0 24 rfl rfl
theorem dksX1_drawsText_2 : cX1_drawsText.data.toList.drop 48 = dktX1_drawsText_2 := dk_seg dksX1_drawsText_1 24 rfl rfl
theorem dksX1_drawsText_3 : cX1_drawsText.data.toList.drop 71 = dktX1_drawsText_3 := dk_seg dksX1_drawsText_2 23 rfl rfl
theorem dksX1_drawsText_4 : cX1_drawsText.data.toList.drop 93 = dktX1_drawsText_4 := dk_seg dksX1_drawsText_3 22 rfl rfl
theorem dX1_drawsText_0 : decode cX1_drawsText 0 = .ok (.aload_n 0, 1) := dk_42 (dk_at dksX1_drawsText_0 0 rfl rfl)
theorem dX1_drawsText_1 : decode cX1_drawsText 1 = .ok (.aload_n 0, 1) := dk_42 (dk_at dksX1_drawsText_0 1 rfl rfl)
theorem dX1_drawsText_2 : decode cX1_drawsText 2 = .ok (.invokevirtual 124, 3) := dk_182 0 124 (dk_at dksX1_drawsText_0 2 rfl rfl)
theorem dX1_drawsText_5 : decode cX1_drawsText 5 = .ok (.invokevirtual 335, 3) := dk_182 1 79 (dk_at dksX1_drawsText_0 5 rfl rfl)
theorem dX1_drawsText_8 : decode cX1_drawsText 8 = .ok (.istore_n 1, 1) := dk_60 (dk_at dksX1_drawsText_0 8 rfl rfl)
theorem dX1_drawsText_9 : decode cX1_drawsText 9 = .ok (.aload_n 0, 1) := dk_42 (dk_at dksX1_drawsText_0 9 rfl rfl)
theorem dX1_drawsText_10 : decode cX1_drawsText 10 = .ok (.aload_n 0, 1) := dk_42 (dk_at dksX1_drawsText_0 10 rfl rfl)
theorem dX1_drawsText_11 : decode cX1_drawsText 11 = .ok (.invokevirtual 118, 3) := dk_182 0 118 (dk_at dksX1_drawsText_0 11 rfl rfl)
theorem dX1_drawsText_14 : decode cX1_drawsText 14 = .ok (.invokevirtual 335, 3) := dk_182 1 79 (dk_at dksX1_drawsText_0 14 rfl rfl)
theorem dX1_drawsText_17 : decode cX1_drawsText 17 = .ok (.istore_n 2, 1) := dk_61 (dk_at dksX1_drawsText_0 17 rfl rfl)
theorem dX1_drawsText_18 : decode cX1_drawsText 18 = .ok (.aload_n 0, 1) := dk_42 (dk_at dksX1_drawsText_0 18 rfl rfl)
theorem dX1_drawsText_19 : decode cX1_drawsText 19 = .ok (.bipush 6, 2) := dk_16 6 (dk_at dksX1_drawsText_0 19 rfl rfl)
theorem dX1_drawsText_21 : decode cX1_drawsText 21 = .ok (.invokevirtual 335, 3) := dk_182 1 79 (dk_at dksX1_drawsText_0 21 rfl rfl)
theorem dX1_drawsText_24 : decode cX1_drawsText 24 = .ok (.istore_n 3, 1) := dk_62 (dk_at dksX1_drawsText_1 0 rfl rfl)
theorem dX1_drawsText_25 : decode cX1_drawsText 25 = .ok (.aload_n 0, 1) := dk_42 (dk_at dksX1_drawsText_1 1 rfl rfl)
theorem dX1_drawsText_26 : decode cX1_drawsText 26 = .ok (.getfield 44, 3) := dk_180 0 44 (dk_at dksX1_drawsText_1 2 rfl rfl)
theorem dX1_drawsText_29 : decode cX1_drawsText 29 = .ok (.iload_n 1, 1) := dk_27 (dk_at dksX1_drawsText_1 5 rfl rfl)
theorem dX1_drawsText_30 : decode cX1_drawsText 30 = .ok (.iload_n 2, 1) := dk_28 (dk_at dksX1_drawsText_1 6 rfl rfl)
theorem dX1_drawsText_31 : decode cX1_drawsText 31 = .ok (.iload_n 3, 1) := dk_29 (dk_at dksX1_drawsText_1 7 rfl rfl)
theorem dX1_drawsText_32 : decode cX1_drawsText 32 = .ok (.invokevirtual 206, 3) := dk_182 0 206 (dk_at dksX1_drawsText_1 8 rfl rfl)
theorem dX1_drawsText_35 : decode cX1_drawsText 35 = .ok (.ifCond .eq 15, 3) := dk_153 0 15 (dk_at dksX1_drawsText_1 11 rfl rfl)
theorem dX1_drawsText_38 : decode cX1_drawsText 38 = .ok (.aload_n 0, 1) := dk_42 (dk_at dksX1_drawsText_1 14 rfl rfl)
theorem dX1_drawsText_39 : decode cX1_drawsText 39 = .ok (.getfield 44, 3) := dk_180 0 44 (dk_at dksX1_drawsText_1 15 rfl rfl)
theorem dX1_drawsText_42 : decode cX1_drawsText 42 = .ok (.iload_n 1, 1) := dk_27 (dk_at dksX1_drawsText_1 18 rfl rfl)
theorem dX1_drawsText_43 : decode cX1_drawsText 43 = .ok (.iload_n 2, 1) := dk_28 (dk_at dksX1_drawsText_1 19 rfl rfl)
theorem dX1_drawsText_44 : decode cX1_drawsText 44 = .ok (.iload_n 3, 1) := dk_29 (dk_at dksX1_drawsText_1 20 rfl rfl)
theorem dX1_drawsText_45 : decode cX1_drawsText 45 = .ok (.invokevirtual 212, 3) := dk_182 0 212 (dk_at dksX1_drawsText_1 21 rfl rfl)
theorem dX1_drawsText_48 : decode cX1_drawsText 48 = .ok (.iconst 1, 1) := dk_4 (dk_at dksX1_drawsText_2 0 rfl rfl)
theorem dX1_drawsText_49 : decode cX1_drawsText 49 = .ok (.ireturn, 1) := dk_172 (dk_at dksX1_drawsText_2 1 rfl rfl)
theorem dX1_drawsText_50 : decode cX1_drawsText 50 = .ok (.aload_n 0, 1) := dk_42 (dk_at dksX1_drawsText_2 2 rfl rfl)
theorem dX1_drawsText_51 : decode cX1_drawsText 51 = .ok (.iconst 3, 1) := dk_6 (dk_at dksX1_drawsText_2 3 rfl rfl)
theorem dX1_drawsText_52 : decode cX1_drawsText 52 = .ok (.invokevirtual 335, 3) := dk_182 1 79 (dk_at dksX1_drawsText_2 4 rfl rfl)
theorem dX1_drawsText_55 : decode cX1_drawsText 55 = .ok (.istore 4, 2) := dk_54 4 (dk_at dksX1_drawsText_2 7 rfl rfl)
theorem dX1_drawsText_57 : decode cX1_drawsText 57 = .ok (.iload 4, 2) := dk_21 4 (dk_at dksX1_drawsText_2 9 rfl rfl)
theorem dX1_drawsText_59 : decode cX1_drawsText 59 = .ok (.iconst 2, 1) := dk_5 (dk_at dksX1_drawsText_2 11 rfl rfl)
theorem dX1_drawsText_60 : decode cX1_drawsText 60 = .ok (.if_icmp .ge 44, 3) := dk_162 0 44 (dk_at dksX1_drawsText_2 12 rfl rfl)
theorem dX1_drawsText_63 : decode cX1_drawsText 63 = .ok (.aload_n 0, 1) := dk_42 (dk_at dksX1_drawsText_2 15 rfl rfl)
theorem dX1_drawsText_64 : decode cX1_drawsText 64 = .ok (.getfield 44, 3) := dk_180 0 44 (dk_at dksX1_drawsText_2 16 rfl rfl)
theorem dX1_drawsText_67 : decode cX1_drawsText 67 = .ok (.iload_n 2, 1) := dk_28 (dk_at dksX1_drawsText_2 19 rfl rfl)
theorem dX1_drawsText_68 : decode cX1_drawsText 68 = .ok (.iload 4, 2) := dk_21 4 (dk_at dksX1_drawsText_2 20 rfl rfl)
theorem dX1_drawsText_70 : decode cX1_drawsText 70 = .ok (.iconst 1, 1) := dk_4 (dk_at dksX1_drawsText_2 22 rfl rfl)
theorem dX1_drawsText_71 : decode cX1_drawsText 71 = .ok (.if_icmp .ne 7, 3) := dk_160 0 7 (dk_at dksX1_drawsText_3 0 rfl rfl)
theorem dX1_drawsText_74 : decode cX1_drawsText 74 = .ok (.iconst 1, 1) := dk_4 (dk_at dksX1_drawsText_3 3 rfl rfl)
theorem dX1_drawsText_75 : decode cX1_drawsText 75 = .ok (.goto 4, 3) := dk_167 0 4 (dk_at dksX1_drawsText_3 4 rfl rfl)
theorem dX1_drawsText_78 : decode cX1_drawsText 78 = .ok (.iconst 0, 1) := dk_3 (dk_at dksX1_drawsText_3 7 rfl rfl)
theorem dX1_drawsText_79 : decode cX1_drawsText 79 = .ok (.invokevirtual 216, 3) := dk_182 0 216 (dk_at dksX1_drawsText_3 8 rfl rfl)
theorem dX1_drawsText_82 : decode cX1_drawsText 82 = .ok (.ifCond .eq 22, 3) := dk_153 0 22 (dk_at dksX1_drawsText_3 11 rfl rfl)
theorem dX1_drawsText_85 : decode cX1_drawsText 85 = .ok (.aload_n 0, 1) := dk_42 (dk_at dksX1_drawsText_3 14 rfl rfl)
theorem dX1_drawsText_86 : decode cX1_drawsText 86 = .ok (.getfield 44, 3) := dk_180 0 44 (dk_at dksX1_drawsText_3 15 rfl rfl)
theorem dX1_drawsText_89 : decode cX1_drawsText 89 = .ok (.iload_n 2, 1) := dk_28 (dk_at dksX1_drawsText_3 18 rfl rfl)
theorem dX1_drawsText_90 : decode cX1_drawsText 90 = .ok (.iload 4, 2) := dk_21 4 (dk_at dksX1_drawsText_3 19 rfl rfl)
theorem dX1_drawsText_92 : decode cX1_drawsText 92 = .ok (.iconst 1, 1) := dk_4 (dk_at dksX1_drawsText_3 21 rfl rfl)
theorem dX1_drawsText_93 : decode cX1_drawsText 93 = .ok (.if_icmp .ne 7, 3) := dk_160 0 7 (dk_at dksX1_drawsText_4 0 rfl rfl)
theorem dX1_drawsText_96 : decode cX1_drawsText 96 = .ok (.iconst 1, 1) := dk_4 (dk_at dksX1_drawsText_4 3 rfl rfl)
theorem dX1_drawsText_97 : decode cX1_drawsText 97 = .ok (.goto 4, 3) := dk_167 0 4 (dk_at dksX1_drawsText_4 4 rfl rfl)
theorem dX1_drawsText_100 : decode cX1_drawsText 100 = .ok (.iconst 0, 1) := dk_3 (dk_at dksX1_drawsText_4 7 rfl rfl)
theorem dX1_drawsText_101 : decode cX1_drawsText 101 = .ok (.invokevirtual 220, 3) := dk_182 0 220 (dk_at dksX1_drawsText_4 8 rfl rfl)
theorem dX1_drawsText_104 : decode cX1_drawsText 104 = .ok (.iconst 0, 1) := dk_3 (dk_at dksX1_drawsText_4 11 rfl rfl)
theorem dX1_drawsText_105 : decode cX1_drawsText 105 = .ok (.ireturn, 1) := dk_172 (dk_at dksX1_drawsText_4 12 rfl rfl)
abbrev cX1_years : ByteArray := prog_1_method_57_code
abbrev yX1_years : MethodName := { cls := "WornSkin", name := "years", desc := "(III)I" }
def dkwX1_years_6 : List UInt8 := [182, 1, 85, 172]
abbrev dktX1_years_6 : List UInt8 := dkwX1_years_6 ++ []
def dkwX1_years_5 : List UInt8 := [160, 0, 20, 42, 180, 0, 44, 42, 180, 0, 44, 182, 0, 152, 182, 0, 246, 167, 0, 10, 42, 180, 0, 44]
abbrev dktX1_years_5 : List UInt8 := dkwX1_years_5 ++ dktX1_years_6
def dkwX1_years_4 : List UInt8 := [4, 96, 181, 0, 227, 132, 5, 1, 167, 255, 210, 29, 154, 0, 8, 21, 4, 167, 0, 32, 29, 4]
abbrev dktX1_years_4 : List UInt8 := dkwX1_years_4 ++ dktX1_years_5
def dkwX1_years_3 : List UInt8 := [182, 0, 118, 158, 0, 13, 42, 182, 1, 82, 153, 0, 6, 132, 4, 1, 42, 180, 0, 44, 89, 180, 0, 227]
abbrev dktX1_years_3 : List UInt8 := dkwX1_years_3 ++ dktX1_years_4
def dkwX1_years_2 : List UInt8 := [181, 1, 67, 3, 54, 4, 3, 54, 5, 21, 5, 28, 162, 0, 46, 42, 182, 0, 124, 158, 0, 20, 42]
abbrev dktX1_years_2 : List UInt8 := dkwX1_years_2 ++ dktX1_years_3
def dkwX1_years_1 : List UInt8 := [184, 0, 120, 154, 0, 5, 2, 172, 42, 180, 0, 44, 42, 180, 0, 40, 182, 1, 4, 87, 42, 27, 133]
abbrev dktX1_years_1 : List UInt8 := dkwX1_years_1 ++ dktX1_years_2
def dkwX1_years_0 : List UInt8 := [27, 3, 17, 39, 15, 184, 0, 120, 153, 0, 22, 28, 4, 16, 99, 184, 0, 120, 153, 0, 12, 29, 3, 5]
abbrev dktX1_years_0 : List UInt8 := dkwX1_years_0 ++ dktX1_years_1
theorem dksX1_years_0 : cX1_years.data.toList.drop 0 = dktX1_years_0 := by decide +kernel
theorem dksX1_years_1 : cX1_years.data.toList.drop 24 = dktX1_years_1 := dk_seg dksX1_years_0 24 rfl rfl
theorem dksX1_years_2 : cX1_years.data.toList.drop 47 = dktX1_years_2 := dk_seg dksX1_years_1 23 rfl rfl
theorem dksX1_years_3 : cX1_years.data.toList.drop 70 = dktX1_years_3 := dk_seg dksX1_years_2 23 rfl rfl
theorem dksX1_years_4 : cX1_years.data.toList.drop 94 = dktX1_years_4 := dk_seg dksX1_years_3 24 rfl rfl
theorem dksX1_years_5 : cX1_years.data.toList.drop 116 = dktX1_years_5 := dk_seg dksX1_years_4 22 rfl rfl
theorem dksX1_years_6 : cX1_years.data.toList.drop 140 = dktX1_years_6 := dk_seg dksX1_years_5 24 rfl rfl
theorem dX1_years_0 : decode cX1_years 0 = .ok (.iload_n 1, 1) := dk_27 (dk_at dksX1_years_0 0 rfl rfl)
theorem dX1_years_1 : decode cX1_years 1 = .ok (.iconst 0, 1) := dk_3 (dk_at dksX1_years_0 1 rfl rfl)
theorem dX1_years_2 : decode cX1_years 2 = .ok (.sipush 9999, 3) := dk_17 39 15 (dk_at dksX1_years_0 2 rfl rfl)
theorem dX1_years_5 : decode cX1_years 5 = .ok (.invokestatic 120, 3) := dk_184 0 120 (dk_at dksX1_years_0 5 rfl rfl)
theorem dX1_years_8 : decode cX1_years 8 = .ok (.ifCond .eq 22, 3) := dk_153 0 22 (dk_at dksX1_years_0 8 rfl rfl)
theorem dX1_years_11 : decode cX1_years 11 = .ok (.iload_n 2, 1) := dk_28 (dk_at dksX1_years_0 11 rfl rfl)
theorem dX1_years_12 : decode cX1_years 12 = .ok (.iconst 1, 1) := dk_4 (dk_at dksX1_years_0 12 rfl rfl)
theorem dX1_years_13 : decode cX1_years 13 = .ok (.bipush 99, 2) := dk_16 99 (dk_at dksX1_years_0 13 rfl rfl)
theorem dX1_years_15 : decode cX1_years 15 = .ok (.invokestatic 120, 3) := dk_184 0 120 (dk_at dksX1_years_0 15 rfl rfl)
theorem dX1_years_18 : decode cX1_years 18 = .ok (.ifCond .eq 12, 3) := dk_153 0 12 (dk_at dksX1_years_0 18 rfl rfl)
theorem dX1_years_21 : decode cX1_years 21 = .ok (.iload_n 3, 1) := dk_29 (dk_at dksX1_years_0 21 rfl rfl)
theorem dX1_years_22 : decode cX1_years 22 = .ok (.iconst 0, 1) := dk_3 (dk_at dksX1_years_0 22 rfl rfl)
theorem dX1_years_23 : decode cX1_years 23 = .ok (.iconst 2, 1) := dk_5 (dk_at dksX1_years_0 23 rfl rfl)
theorem dX1_years_24 : decode cX1_years 24 = .ok (.invokestatic 120, 3) := dk_184 0 120 (dk_at dksX1_years_1 0 rfl rfl)
theorem dX1_years_27 : decode cX1_years 27 = .ok (.ifCond .ne 5, 3) := dk_154 0 5 (dk_at dksX1_years_1 3 rfl rfl)
theorem dX1_years_30 : decode cX1_years 30 = .ok (.iconst (-1), 1) := dk_2 (dk_at dksX1_years_1 6 rfl rfl)
theorem dX1_years_31 : decode cX1_years 31 = .ok (.ireturn, 1) := dk_172 (dk_at dksX1_years_1 7 rfl rfl)
theorem dX1_years_32 : decode cX1_years 32 = .ok (.aload_n 0, 1) := dk_42 (dk_at dksX1_years_1 8 rfl rfl)
theorem dX1_years_33 : decode cX1_years 33 = .ok (.getfield 44, 3) := dk_180 0 44 (dk_at dksX1_years_1 9 rfl rfl)
theorem dX1_years_36 : decode cX1_years 36 = .ok (.aload_n 0, 1) := dk_42 (dk_at dksX1_years_1 12 rfl rfl)
theorem dX1_years_37 : decode cX1_years 37 = .ok (.getfield 40, 3) := dk_180 0 40 (dk_at dksX1_years_1 13 rfl rfl)
theorem dX1_years_40 : decode cX1_years 40 = .ok (.invokevirtual 260, 3) := dk_182 1 4 (dk_at dksX1_years_1 16 rfl rfl)
theorem dX1_years_43 : decode cX1_years 43 = .ok (.pop, 1) := dk_87 (dk_at dksX1_years_1 19 rfl rfl)
theorem dX1_years_44 : decode cX1_years 44 = .ok (.aload_n 0, 1) := dk_42 (dk_at dksX1_years_1 20 rfl rfl)
theorem dX1_years_45 : decode cX1_years 45 = .ok (.iload_n 1, 1) := dk_27 (dk_at dksX1_years_1 21 rfl rfl)
theorem dX1_years_46 : decode cX1_years 46 = .ok (.i2l, 1) := dk_133 (dk_at dksX1_years_1 22 rfl rfl)
theorem dX1_years_47 : decode cX1_years 47 = .ok (.putfield 323, 3) := dk_181 1 67 (dk_at dksX1_years_2 0 rfl rfl)
theorem dX1_years_50 : decode cX1_years 50 = .ok (.iconst 0, 1) := dk_3 (dk_at dksX1_years_2 3 rfl rfl)
theorem dX1_years_51 : decode cX1_years 51 = .ok (.istore 4, 2) := dk_54 4 (dk_at dksX1_years_2 4 rfl rfl)
theorem dX1_years_53 : decode cX1_years 53 = .ok (.iconst 0, 1) := dk_3 (dk_at dksX1_years_2 6 rfl rfl)
theorem dX1_years_54 : decode cX1_years 54 = .ok (.istore 5, 2) := dk_54 5 (dk_at dksX1_years_2 7 rfl rfl)
theorem dX1_years_56 : decode cX1_years 56 = .ok (.iload 5, 2) := dk_21 5 (dk_at dksX1_years_2 9 rfl rfl)
theorem dX1_years_58 : decode cX1_years 58 = .ok (.iload_n 2, 1) := dk_28 (dk_at dksX1_years_2 11 rfl rfl)
theorem dX1_years_59 : decode cX1_years 59 = .ok (.if_icmp .ge 46, 3) := dk_162 0 46 (dk_at dksX1_years_2 12 rfl rfl)
theorem dX1_years_62 : decode cX1_years 62 = .ok (.aload_n 0, 1) := dk_42 (dk_at dksX1_years_2 15 rfl rfl)
theorem dX1_years_63 : decode cX1_years 63 = .ok (.invokevirtual 124, 3) := dk_182 0 124 (dk_at dksX1_years_2 16 rfl rfl)
theorem dX1_years_66 : decode cX1_years 66 = .ok (.ifCond .le 20, 3) := dk_158 0 20 (dk_at dksX1_years_2 19 rfl rfl)
theorem dX1_years_69 : decode cX1_years 69 = .ok (.aload_n 0, 1) := dk_42 (dk_at dksX1_years_2 22 rfl rfl)
theorem dX1_years_70 : decode cX1_years 70 = .ok (.invokevirtual 118, 3) := dk_182 0 118 (dk_at dksX1_years_3 0 rfl rfl)
theorem dX1_years_73 : decode cX1_years 73 = .ok (.ifCond .le 13, 3) := dk_158 0 13 (dk_at dksX1_years_3 3 rfl rfl)
theorem dX1_years_76 : decode cX1_years 76 = .ok (.aload_n 0, 1) := dk_42 (dk_at dksX1_years_3 6 rfl rfl)
theorem dX1_years_77 : decode cX1_years 77 = .ok (.invokevirtual 338, 3) := dk_182 1 82 (dk_at dksX1_years_3 7 rfl rfl)
theorem dX1_years_80 : decode cX1_years 80 = .ok (.ifCond .eq 6, 3) := dk_153 0 6 (dk_at dksX1_years_3 10 rfl rfl)
theorem dX1_years_83 : decode cX1_years 83 = .ok (.iinc 4 1, 3) := dk_132 4 1 (dk_at dksX1_years_3 13 rfl rfl)
theorem dX1_years_86 : decode cX1_years 86 = .ok (.aload_n 0, 1) := dk_42 (dk_at dksX1_years_3 16 rfl rfl)
theorem dX1_years_87 : decode cX1_years 87 = .ok (.getfield 44, 3) := dk_180 0 44 (dk_at dksX1_years_3 17 rfl rfl)
theorem dX1_years_90 : decode cX1_years 90 = .ok (.dup, 1) := dk_89 (dk_at dksX1_years_3 20 rfl rfl)
theorem dX1_years_91 : decode cX1_years 91 = .ok (.getfield 227, 3) := dk_180 0 227 (dk_at dksX1_years_3 21 rfl rfl)
theorem dX1_years_94 : decode cX1_years 94 = .ok (.iconst 1, 1) := dk_4 (dk_at dksX1_years_4 0 rfl rfl)
theorem dX1_years_95 : decode cX1_years 95 = .ok (.iadd, 1) := dk_96 (dk_at dksX1_years_4 1 rfl rfl)
theorem dX1_years_96 : decode cX1_years 96 = .ok (.putfield 227, 3) := dk_181 0 227 (dk_at dksX1_years_4 2 rfl rfl)
theorem dX1_years_99 : decode cX1_years 99 = .ok (.iinc 5 1, 3) := dk_132 5 1 (dk_at dksX1_years_4 5 rfl rfl)
theorem dX1_years_102 : decode cX1_years 102 = .ok (.goto (-46), 3) := dk_167 255 210 (dk_at dksX1_years_4 8 rfl rfl)
theorem dX1_years_105 : decode cX1_years 105 = .ok (.iload_n 3, 1) := dk_29 (dk_at dksX1_years_4 11 rfl rfl)
theorem dX1_years_106 : decode cX1_years 106 = .ok (.ifCond .ne 8, 3) := dk_154 0 8 (dk_at dksX1_years_4 12 rfl rfl)
theorem dX1_years_109 : decode cX1_years 109 = .ok (.iload 4, 2) := dk_21 4 (dk_at dksX1_years_4 15 rfl rfl)
theorem dX1_years_111 : decode cX1_years 111 = .ok (.goto 32, 3) := dk_167 0 32 (dk_at dksX1_years_4 17 rfl rfl)
theorem dX1_years_114 : decode cX1_years 114 = .ok (.iload_n 3, 1) := dk_29 (dk_at dksX1_years_4 20 rfl rfl)
theorem dX1_years_115 : decode cX1_years 115 = .ok (.iconst 1, 1) := dk_4 (dk_at dksX1_years_4 21 rfl rfl)
theorem dX1_years_116 : decode cX1_years 116 = .ok (.if_icmp .ne 20, 3) := dk_160 0 20 (dk_at dksX1_years_5 0 rfl rfl)
theorem dX1_years_119 : decode cX1_years 119 = .ok (.aload_n 0, 1) := dk_42 (dk_at dksX1_years_5 3 rfl rfl)
theorem dX1_years_120 : decode cX1_years 120 = .ok (.getfield 44, 3) := dk_180 0 44 (dk_at dksX1_years_5 4 rfl rfl)
theorem dX1_years_123 : decode cX1_years 123 = .ok (.aload_n 0, 1) := dk_42 (dk_at dksX1_years_5 7 rfl rfl)
theorem dX1_years_124 : decode cX1_years 124 = .ok (.getfield 44, 3) := dk_180 0 44 (dk_at dksX1_years_5 8 rfl rfl)
theorem dX1_years_127 : decode cX1_years 127 = .ok (.invokevirtual 152, 3) := dk_182 0 152 (dk_at dksX1_years_5 11 rfl rfl)
theorem dX1_years_130 : decode cX1_years 130 = .ok (.invokevirtual 246, 3) := dk_182 0 246 (dk_at dksX1_years_5 14 rfl rfl)
theorem dX1_years_133 : decode cX1_years 133 = .ok (.goto 10, 3) := dk_167 0 10 (dk_at dksX1_years_5 17 rfl rfl)
theorem dX1_years_136 : decode cX1_years 136 = .ok (.aload_n 0, 1) := dk_42 (dk_at dksX1_years_5 20 rfl rfl)
theorem dX1_years_137 : decode cX1_years 137 = .ok (.getfield 44, 3) := dk_180 0 44 (dk_at dksX1_years_5 21 rfl rfl)
theorem dX1_years_140 : decode cX1_years 140 = .ok (.invokevirtual 341, 3) := dk_182 1 85 (dk_at dksX1_years_6 0 rfl rfl)
theorem dX1_years_143 : decode cX1_years 143 = .ok (.ireturn, 1) := dk_172 (dk_at dksX1_years_6 3 rfl rfl)
abbrev cX1_copied : ByteArray := prog_1_method_58_code
abbrev yX1_copied : MethodName := { cls := "WornSkin", name := "copied", desc := "(Ljava/util/ArrayList;)Ljava/util/ArrayList;" }
def dkwX1_copied_1 : List UInt8 := [182, 0, 234, 192, 1, 31, 182, 0, 202, 87, 132, 2, 1, 167, 255, 232, 43, 176]
abbrev dktX1_copied_1 : List UInt8 := dkwX1_copied_1 ++ []
def dkwX1_copied_0 : List UInt8 := [187, 0, 47, 89, 5, 183, 0, 49, 76, 3, 61, 28, 42, 182, 0, 111, 162, 0, 22, 43, 42, 28]
abbrev dktX1_copied_0 : List UInt8 := dkwX1_copied_0 ++ dktX1_copied_1
theorem dksX1_copied_0 : cX1_copied.data.toList.drop 0 = dktX1_copied_0 := by decide +kernel
theorem dksX1_copied_1 : cX1_copied.data.toList.drop 22 = dktX1_copied_1 := dk_seg dksX1_copied_0 22 rfl rfl
theorem dX1_copied_0 : decode cX1_copied 0 = .ok (.new 47, 3) := dk_187 0 47 (dk_at dksX1_copied_0 0 rfl rfl)
theorem dX1_copied_3 : decode cX1_copied 3 = .ok (.dup, 1) := dk_89 (dk_at dksX1_copied_0 3 rfl rfl)
theorem dX1_copied_4 : decode cX1_copied 4 = .ok (.iconst 2, 1) := dk_5 (dk_at dksX1_copied_0 4 rfl rfl)
theorem dX1_copied_5 : decode cX1_copied 5 = .ok (.invokespecial 49, 3) := dk_183 0 49 (dk_at dksX1_copied_0 5 rfl rfl)
theorem dX1_copied_8 : decode cX1_copied 8 = .ok (.astore_n 1, 1) := dk_76 (dk_at dksX1_copied_0 8 rfl rfl)
theorem dX1_copied_9 : decode cX1_copied 9 = .ok (.iconst 0, 1) := dk_3 (dk_at dksX1_copied_0 9 rfl rfl)
theorem dX1_copied_10 : decode cX1_copied 10 = .ok (.istore_n 2, 1) := dk_61 (dk_at dksX1_copied_0 10 rfl rfl)
theorem dX1_copied_11 : decode cX1_copied 11 = .ok (.iload_n 2, 1) := dk_28 (dk_at dksX1_copied_0 11 rfl rfl)
theorem dX1_copied_12 : decode cX1_copied 12 = .ok (.aload_n 0, 1) := dk_42 (dk_at dksX1_copied_0 12 rfl rfl)
theorem dX1_copied_13 : decode cX1_copied 13 = .ok (.invokevirtual 111, 3) := dk_182 0 111 (dk_at dksX1_copied_0 13 rfl rfl)
theorem dX1_copied_16 : decode cX1_copied 16 = .ok (.if_icmp .ge 22, 3) := dk_162 0 22 (dk_at dksX1_copied_0 16 rfl rfl)
theorem dX1_copied_19 : decode cX1_copied 19 = .ok (.aload_n 1, 1) := dk_43 (dk_at dksX1_copied_0 19 rfl rfl)
theorem dX1_copied_20 : decode cX1_copied 20 = .ok (.aload_n 0, 1) := dk_42 (dk_at dksX1_copied_0 20 rfl rfl)
theorem dX1_copied_21 : decode cX1_copied 21 = .ok (.iload_n 2, 1) := dk_28 (dk_at dksX1_copied_0 21 rfl rfl)
theorem dX1_copied_22 : decode cX1_copied 22 = .ok (.invokevirtual 234, 3) := dk_182 0 234 (dk_at dksX1_copied_1 0 rfl rfl)
theorem dX1_copied_25 : decode cX1_copied 25 = .ok (.checkcast 287, 3) := dk_192 1 31 (dk_at dksX1_copied_1 3 rfl rfl)
theorem dX1_copied_28 : decode cX1_copied 28 = .ok (.invokevirtual 202, 3) := dk_182 0 202 (dk_at dksX1_copied_1 6 rfl rfl)
theorem dX1_copied_31 : decode cX1_copied 31 = .ok (.pop, 1) := dk_87 (dk_at dksX1_copied_1 9 rfl rfl)
theorem dX1_copied_32 : decode cX1_copied 32 = .ok (.iinc 2 1, 3) := dk_132 2 1 (dk_at dksX1_copied_1 10 rfl rfl)
theorem dX1_copied_35 : decode cX1_copied 35 = .ok (.goto (-24), 3) := dk_167 255 232 (dk_at dksX1_copied_1 13 rfl rfl)
theorem dX1_copied_38 : decode cX1_copied 38 = .ok (.aload_n 1, 1) := dk_43 (dk_at dksX1_copied_1 16 rfl rfl)
theorem dX1_copied_39 : decode cX1_copied 39 = .ok (.areturn, 1) := dk_176 (dk_at dksX1_copied_1 17 rfl rfl)
abbrev cX1_mark : ByteArray := prog_1_method_59_code
abbrev yX1_mark : MethodName := { cls := "WornSkin", name := "mark", desc := "(IZ)Z" }
def dkwX1_mark_4 : List UInt8 := [27, 50, 180, 1, 96, 184, 1, 88, 181, 0, 56, 42, 180, 0, 60, 182, 0, 90, 4, 172]
abbrev dktX1_mark_4 : List UInt8 := dkwX1_mark_4 ++ []
def dkwX1_mark_3 : List UInt8 := [182, 0, 198, 181, 0, 40, 42, 42, 180, 0, 74, 27, 50, 180, 1, 95, 181, 0, 52, 42, 42, 180, 0, 74]
abbrev dktX1_mark_3 : List UInt8 := dkwX1_mark_3 ++ dktX1_mark_4
def dkwX1_mark_2 : List UInt8 := [42, 180, 0, 56, 184, 1, 88, 183, 1, 91, 83, 4, 172, 42, 42, 180, 0, 74, 27, 50, 180, 1, 94]
abbrev dktX1_mark_2 : List UInt8 := dkwX1_mark_2 ++ dktX1_mark_3
def dkwX1_mark_1 : List UInt8 := [28, 154, 0, 36, 42, 180, 0, 74, 27, 187, 0, 72, 89, 42, 180, 0, 40, 182, 0, 198, 42, 180, 0, 52]
abbrev dktX1_mark_1 : List UInt8 := dkwX1_mark_1 ++ dktX1_mark_2
def dkwX1_mark_0 : List UInt8 := [27, 3, 6, 184, 0, 120, 153, 0, 16, 28, 153, 0, 14, 42, 180, 0, 74, 27, 50, 199, 0, 5, 3, 172]
abbrev dktX1_mark_0 : List UInt8 := dkwX1_mark_0 ++ dktX1_mark_1
theorem dksX1_mark_0 : cX1_mark.data.toList.drop 0 = dktX1_mark_0 := by decide +kernel
theorem dksX1_mark_1 : cX1_mark.data.toList.drop 24 = dktX1_mark_1 := dk_seg dksX1_mark_0 24 rfl rfl
theorem dksX1_mark_2 : cX1_mark.data.toList.drop 48 = dktX1_mark_2 := dk_seg dksX1_mark_1 24 rfl rfl
theorem dksX1_mark_3 : cX1_mark.data.toList.drop 71 = dktX1_mark_3 := dk_seg dksX1_mark_2 23 rfl rfl
theorem dksX1_mark_4 : cX1_mark.data.toList.drop 95 = dktX1_mark_4 := dk_seg dksX1_mark_3 24 rfl rfl
theorem dX1_mark_0 : decode cX1_mark 0 = .ok (.iload_n 1, 1) := dk_27 (dk_at dksX1_mark_0 0 rfl rfl)
theorem dX1_mark_1 : decode cX1_mark 1 = .ok (.iconst 0, 1) := dk_3 (dk_at dksX1_mark_0 1 rfl rfl)
theorem dX1_mark_2 : decode cX1_mark 2 = .ok (.iconst 3, 1) := dk_6 (dk_at dksX1_mark_0 2 rfl rfl)
theorem dX1_mark_3 : decode cX1_mark 3 = .ok (.invokestatic 120, 3) := dk_184 0 120 (dk_at dksX1_mark_0 3 rfl rfl)
theorem dX1_mark_6 : decode cX1_mark 6 = .ok (.ifCond .eq 16, 3) := dk_153 0 16 (dk_at dksX1_mark_0 6 rfl rfl)
theorem dX1_mark_9 : decode cX1_mark 9 = .ok (.iload_n 2, 1) := dk_28 (dk_at dksX1_mark_0 9 rfl rfl)
theorem dX1_mark_10 : decode cX1_mark 10 = .ok (.ifCond .eq 14, 3) := dk_153 0 14 (dk_at dksX1_mark_0 10 rfl rfl)
theorem dX1_mark_13 : decode cX1_mark 13 = .ok (.aload_n 0, 1) := dk_42 (dk_at dksX1_mark_0 13 rfl rfl)
theorem dX1_mark_14 : decode cX1_mark 14 = .ok (.getfield 74, 3) := dk_180 0 74 (dk_at dksX1_mark_0 14 rfl rfl)
theorem dX1_mark_17 : decode cX1_mark 17 = .ok (.iload_n 1, 1) := dk_27 (dk_at dksX1_mark_0 17 rfl rfl)
theorem dX1_mark_18 : decode cX1_mark 18 = .ok (.aaload, 1) := dk_50 (dk_at dksX1_mark_0 18 rfl rfl)
theorem dX1_mark_19 : decode cX1_mark 19 = .ok (.ifnonnull 5, 3) := dk_199 0 5 (dk_at dksX1_mark_0 19 rfl rfl)
theorem dX1_mark_22 : decode cX1_mark 22 = .ok (.iconst 0, 1) := dk_3 (dk_at dksX1_mark_0 22 rfl rfl)
theorem dX1_mark_23 : decode cX1_mark 23 = .ok (.ireturn, 1) := dk_172 (dk_at dksX1_mark_0 23 rfl rfl)
theorem dX1_mark_24 : decode cX1_mark 24 = .ok (.iload_n 2, 1) := dk_28 (dk_at dksX1_mark_1 0 rfl rfl)
theorem dX1_mark_25 : decode cX1_mark 25 = .ok (.ifCond .ne 36, 3) := dk_154 0 36 (dk_at dksX1_mark_1 1 rfl rfl)
theorem dX1_mark_28 : decode cX1_mark 28 = .ok (.aload_n 0, 1) := dk_42 (dk_at dksX1_mark_1 4 rfl rfl)
theorem dX1_mark_29 : decode cX1_mark 29 = .ok (.getfield 74, 3) := dk_180 0 74 (dk_at dksX1_mark_1 5 rfl rfl)
theorem dX1_mark_32 : decode cX1_mark 32 = .ok (.iload_n 1, 1) := dk_27 (dk_at dksX1_mark_1 8 rfl rfl)
theorem dX1_mark_33 : decode cX1_mark 33 = .ok (.new 72, 3) := dk_187 0 72 (dk_at dksX1_mark_1 9 rfl rfl)
theorem dX1_mark_36 : decode cX1_mark 36 = .ok (.dup, 1) := dk_89 (dk_at dksX1_mark_1 12 rfl rfl)
theorem dX1_mark_37 : decode cX1_mark 37 = .ok (.aload_n 0, 1) := dk_42 (dk_at dksX1_mark_1 13 rfl rfl)
theorem dX1_mark_38 : decode cX1_mark 38 = .ok (.getfield 40, 3) := dk_180 0 40 (dk_at dksX1_mark_1 14 rfl rfl)
theorem dX1_mark_41 : decode cX1_mark 41 = .ok (.invokevirtual 198, 3) := dk_182 0 198 (dk_at dksX1_mark_1 17 rfl rfl)
theorem dX1_mark_44 : decode cX1_mark 44 = .ok (.aload_n 0, 1) := dk_42 (dk_at dksX1_mark_1 20 rfl rfl)
theorem dX1_mark_45 : decode cX1_mark 45 = .ok (.getfield 52, 3) := dk_180 0 52 (dk_at dksX1_mark_1 21 rfl rfl)
theorem dX1_mark_48 : decode cX1_mark 48 = .ok (.aload_n 0, 1) := dk_42 (dk_at dksX1_mark_2 0 rfl rfl)
theorem dX1_mark_49 : decode cX1_mark 49 = .ok (.getfield 56, 3) := dk_180 0 56 (dk_at dksX1_mark_2 1 rfl rfl)
theorem dX1_mark_52 : decode cX1_mark 52 = .ok (.invokestatic 344, 3) := dk_184 1 88 (dk_at dksX1_mark_2 4 rfl rfl)
theorem dX1_mark_55 : decode cX1_mark 55 = .ok (.invokespecial 347, 3) := dk_183 1 91 (dk_at dksX1_mark_2 7 rfl rfl)
theorem dX1_mark_58 : decode cX1_mark 58 = .ok (.aastore, 1) := dk_83 (dk_at dksX1_mark_2 10 rfl rfl)
theorem dX1_mark_59 : decode cX1_mark 59 = .ok (.iconst 1, 1) := dk_4 (dk_at dksX1_mark_2 11 rfl rfl)
theorem dX1_mark_60 : decode cX1_mark 60 = .ok (.ireturn, 1) := dk_172 (dk_at dksX1_mark_2 12 rfl rfl)
theorem dX1_mark_61 : decode cX1_mark 61 = .ok (.aload_n 0, 1) := dk_42 (dk_at dksX1_mark_2 13 rfl rfl)
theorem dX1_mark_62 : decode cX1_mark 62 = .ok (.aload_n 0, 1) := dk_42 (dk_at dksX1_mark_2 14 rfl rfl)
theorem dX1_mark_63 : decode cX1_mark 63 = .ok (.getfield 74, 3) := dk_180 0 74 (dk_at dksX1_mark_2 15 rfl rfl)
theorem dX1_mark_66 : decode cX1_mark 66 = .ok (.iload_n 1, 1) := dk_27 (dk_at dksX1_mark_2 18 rfl rfl)
theorem dX1_mark_67 : decode cX1_mark 67 = .ok (.aaload, 1) := dk_50 (dk_at dksX1_mark_2 19 rfl rfl)
theorem dX1_mark_68 : decode cX1_mark 68 = .ok (.getfield 350, 3) := dk_180 1 94 (dk_at dksX1_mark_2 20 rfl rfl)
theorem dX1_mark_71 : decode cX1_mark 71 = .ok (.invokevirtual 198, 3) := dk_182 0 198 (dk_at dksX1_mark_3 0 rfl rfl)
theorem dX1_mark_74 : decode cX1_mark 74 = .ok (.putfield 40, 3) := dk_181 0 40 (dk_at dksX1_mark_3 3 rfl rfl)
theorem dX1_mark_77 : decode cX1_mark 77 = .ok (.aload_n 0, 1) := dk_42 (dk_at dksX1_mark_3 6 rfl rfl)
theorem dX1_mark_78 : decode cX1_mark 78 = .ok (.aload_n 0, 1) := dk_42 (dk_at dksX1_mark_3 7 rfl rfl)
theorem dX1_mark_79 : decode cX1_mark 79 = .ok (.getfield 74, 3) := dk_180 0 74 (dk_at dksX1_mark_3 8 rfl rfl)
theorem dX1_mark_82 : decode cX1_mark 82 = .ok (.iload_n 1, 1) := dk_27 (dk_at dksX1_mark_3 11 rfl rfl)
theorem dX1_mark_83 : decode cX1_mark 83 = .ok (.aaload, 1) := dk_50 (dk_at dksX1_mark_3 12 rfl rfl)
theorem dX1_mark_84 : decode cX1_mark 84 = .ok (.getfield 351, 3) := dk_180 1 95 (dk_at dksX1_mark_3 13 rfl rfl)
theorem dX1_mark_87 : decode cX1_mark 87 = .ok (.putfield 52, 3) := dk_181 0 52 (dk_at dksX1_mark_3 16 rfl rfl)
theorem dX1_mark_90 : decode cX1_mark 90 = .ok (.aload_n 0, 1) := dk_42 (dk_at dksX1_mark_3 19 rfl rfl)
theorem dX1_mark_91 : decode cX1_mark 91 = .ok (.aload_n 0, 1) := dk_42 (dk_at dksX1_mark_3 20 rfl rfl)
theorem dX1_mark_92 : decode cX1_mark 92 = .ok (.getfield 74, 3) := dk_180 0 74 (dk_at dksX1_mark_3 21 rfl rfl)
theorem dX1_mark_95 : decode cX1_mark 95 = .ok (.iload_n 1, 1) := dk_27 (dk_at dksX1_mark_4 0 rfl rfl)
theorem dX1_mark_96 : decode cX1_mark 96 = .ok (.aaload, 1) := dk_50 (dk_at dksX1_mark_4 1 rfl rfl)
theorem dX1_mark_97 : decode cX1_mark 97 = .ok (.getfield 352, 3) := dk_180 1 96 (dk_at dksX1_mark_4 2 rfl rfl)
theorem dX1_mark_100 : decode cX1_mark 100 = .ok (.invokestatic 344, 3) := dk_184 1 88 (dk_at dksX1_mark_4 5 rfl rfl)
theorem dX1_mark_103 : decode cX1_mark 103 = .ok (.putfield 56, 3) := dk_181 0 56 (dk_at dksX1_mark_4 8 rfl rfl)
theorem dX1_mark_106 : decode cX1_mark 106 = .ok (.aload_n 0, 1) := dk_42 (dk_at dksX1_mark_4 11 rfl rfl)
theorem dX1_mark_107 : decode cX1_mark 107 = .ok (.getfield 60, 3) := dk_180 0 60 (dk_at dksX1_mark_4 12 rfl rfl)
theorem dX1_mark_110 : decode cX1_mark 110 = .ok (.invokevirtual 90, 3) := dk_182 0 90 (dk_at dksX1_mark_4 15 rfl rfl)
theorem dX1_mark_113 : decode cX1_mark 113 = .ok (.iconst 1, 1) := dk_4 (dk_at dksX1_mark_4 18 rfl rfl)
theorem dX1_mark_114 : decode cX1_mark 114 = .ok (.ireturn, 1) := dk_172 (dk_at dksX1_mark_4 19 rfl rfl)
abbrev cX1_layersAll : ByteArray := prog_1_method_60_code
abbrev yX1_layersAll : MethodName := { cls := "WornSkin", name := "layersAll", desc := "()I" }
def dkwX1_layersAll_1 : List UInt8 := [132, 2, 1, 167, 255, 235, 27, 172]
abbrev dktX1_layersAll_1 : List UInt8 := dkwX1_layersAll_1 ++ []
def dkwX1_layersAll_0 : List UInt8 := [3, 60, 3, 61, 28, 16, 18, 162, 0, 21, 27, 42, 180, 0, 40, 180, 0, 185, 28, 46, 96, 60]
abbrev dktX1_layersAll_0 : List UInt8 := dkwX1_layersAll_0 ++ dktX1_layersAll_1
theorem dksX1_layersAll_0 : cX1_layersAll.data.toList.drop 0 = dktX1_layersAll_0 := by decide +kernel
theorem dksX1_layersAll_1 : cX1_layersAll.data.toList.drop 22 = dktX1_layersAll_1 := dk_seg dksX1_layersAll_0 22 rfl rfl
theorem dX1_layersAll_0 : decode cX1_layersAll 0 = .ok (.iconst 0, 1) := dk_3 (dk_at dksX1_layersAll_0 0 rfl rfl)
theorem dX1_layersAll_1 : decode cX1_layersAll 1 = .ok (.istore_n 1, 1) := dk_60 (dk_at dksX1_layersAll_0 1 rfl rfl)
theorem dX1_layersAll_2 : decode cX1_layersAll 2 = .ok (.iconst 0, 1) := dk_3 (dk_at dksX1_layersAll_0 2 rfl rfl)
theorem dX1_layersAll_3 : decode cX1_layersAll 3 = .ok (.istore_n 2, 1) := dk_61 (dk_at dksX1_layersAll_0 3 rfl rfl)
theorem dX1_layersAll_4 : decode cX1_layersAll 4 = .ok (.iload_n 2, 1) := dk_28 (dk_at dksX1_layersAll_0 4 rfl rfl)
theorem dX1_layersAll_5 : decode cX1_layersAll 5 = .ok (.bipush 18, 2) := dk_16 18 (dk_at dksX1_layersAll_0 5 rfl rfl)
theorem dX1_layersAll_7 : decode cX1_layersAll 7 = .ok (.if_icmp .ge 21, 3) := dk_162 0 21 (dk_at dksX1_layersAll_0 7 rfl rfl)
theorem dX1_layersAll_10 : decode cX1_layersAll 10 = .ok (.iload_n 1, 1) := dk_27 (dk_at dksX1_layersAll_0 10 rfl rfl)
theorem dX1_layersAll_11 : decode cX1_layersAll 11 = .ok (.aload_n 0, 1) := dk_42 (dk_at dksX1_layersAll_0 11 rfl rfl)
theorem dX1_layersAll_12 : decode cX1_layersAll 12 = .ok (.getfield 40, 3) := dk_180 0 40 (dk_at dksX1_layersAll_0 12 rfl rfl)
theorem dX1_layersAll_15 : decode cX1_layersAll 15 = .ok (.getfield 185, 3) := dk_180 0 185 (dk_at dksX1_layersAll_0 15 rfl rfl)
theorem dX1_layersAll_18 : decode cX1_layersAll 18 = .ok (.iload_n 2, 1) := dk_28 (dk_at dksX1_layersAll_0 18 rfl rfl)
theorem dX1_layersAll_19 : decode cX1_layersAll 19 = .ok (.iaload, 1) := dk_46 (dk_at dksX1_layersAll_0 19 rfl rfl)
theorem dX1_layersAll_20 : decode cX1_layersAll 20 = .ok (.iadd, 1) := dk_96 (dk_at dksX1_layersAll_0 20 rfl rfl)
theorem dX1_layersAll_21 : decode cX1_layersAll 21 = .ok (.istore_n 1, 1) := dk_60 (dk_at dksX1_layersAll_0 21 rfl rfl)
theorem dX1_layersAll_22 : decode cX1_layersAll 22 = .ok (.iinc 2 1, 3) := dk_132 2 1 (dk_at dksX1_layersAll_1 0 rfl rfl)
theorem dX1_layersAll_25 : decode cX1_layersAll 25 = .ok (.goto (-21), 3) := dk_167 255 235 (dk_at dksX1_layersAll_1 3 rfl rfl)
theorem dX1_layersAll_28 : decode cX1_layersAll 28 = .ok (.iload_n 1, 1) := dk_27 (dk_at dksX1_layersAll_1 6 rfl rfl)
theorem dX1_layersAll_29 : decode cX1_layersAll 29 = .ok (.ireturn, 1) := dk_172 (dk_at dksX1_layersAll_1 7 rfl rfl)
abbrev cX1_count : ByteArray := prog_1_method_61_code
abbrev yX1_count : MethodName := { cls := "WornSkin", name := "count", desc := "(I)I" }
def dkwX1_count_6 : List UInt8 := [2, 172]
abbrev dktX1_count_6 : List UInt8 := dkwX1_count_6 ++ []
def dkwX1_count_5 : List UInt8 := [42, 180, 0, 56, 182, 0, 111, 172, 42, 180, 0, 60, 182, 0, 111, 172, 42, 180, 0, 24, 180, 0, 82, 172]
abbrev dktX1_count_5 : List UInt8 := dkwX1_count_5 ++ dktX1_count_6
def dkwX1_count_4 : List UInt8 := [172, 42, 180, 0, 40, 42, 180, 0, 40, 182, 0, 152, 182, 0, 246, 172, 42, 180, 0, 52, 182, 0, 111, 172]
abbrev dktX1_count_4 : List UInt8 := dkwX1_count_4 ++ dktX1_count_5
def dkwX1_count_3 : List UInt8 := [182, 0, 152, 172, 42, 180, 0, 40, 182, 1, 85, 172, 42, 180, 0, 40, 182, 0, 243, 172, 42, 182, 1, 97]
abbrev dktX1_count_3 : List UInt8 := dkwX1_count_3 ++ dktX1_count_4
def dkwX1_count_2 : List UInt8 := [42, 182, 0, 118, 172, 42, 182, 0, 124, 172, 42, 180, 0, 40, 180, 0, 227, 172, 42, 180, 0, 40]
abbrev dktX1_count_2 : List UInt8 := dkwX1_count_2 ++ dktX1_count_3
def dkwX1_count_1 : List UInt8 := [170, 0, 0, 0, 0, 0, 157, 0, 0, 0, 0, 0, 0, 0, 11, 0, 0, 0, 63, 0, 0, 0, 68, 0, 0, 0, 73, 0, 0, 0, 81, 0, 0, 0, 89, 0, 0, 0, 97, 0, 0, 0, 105, 0, 0, 0, 110, 0, 0, 0, 125, 0, 0, 0, 133, 0, 0, 0, 141, 0, 0, 0, 149]
abbrev dktX1_count_1 : List UInt8 := dkwX1_count_1 ++ dktX1_count_2
def dkwX1_count_0 : List UInt8 := [27]
abbrev dktX1_count_0 : List UInt8 := dkwX1_count_0 ++ dktX1_count_1
theorem dksX1_count_0 : cX1_count.data.toList.drop 0 = dktX1_count_0 := by decide +kernel
theorem dksX1_count_1 : cX1_count.data.toList.drop 1 = dktX1_count_1 := dk_seg dksX1_count_0 1 rfl rfl
theorem dksX1_count_2 : cX1_count.data.toList.drop 64 = dktX1_count_2 := dk_seg dksX1_count_1 63 rfl rfl
theorem dksX1_count_3 : cX1_count.data.toList.drop 86 = dktX1_count_3 := dk_seg dksX1_count_2 22 rfl rfl
theorem dksX1_count_4 : cX1_count.data.toList.drop 110 = dktX1_count_4 := dk_seg dksX1_count_3 24 rfl rfl
theorem dksX1_count_5 : cX1_count.data.toList.drop 134 = dktX1_count_5 := dk_seg dksX1_count_4 24 rfl rfl
theorem dksX1_count_6 : cX1_count.data.toList.drop 158 = dktX1_count_6 := dk_seg dksX1_count_5 24 rfl rfl
theorem dX1_count_0 : decode cX1_count 0 = .ok (.iload_n 1, 1) := dk_27 (dk_at dksX1_count_0 0 rfl rfl)
theorem dX1_count_1 : decode cX1_count 1 = .ok (.tableswitch 157 0 11 #[63, 68, 73, 81, 89, 97, 105, 110, 125, 133, 141, 149], 63) := by decide +kernel
theorem dX1_count_64 : decode cX1_count 64 = .ok (.aload_n 0, 1) := dk_42 (dk_at dksX1_count_2 0 rfl rfl)
theorem dX1_count_65 : decode cX1_count 65 = .ok (.invokevirtual 118, 3) := dk_182 0 118 (dk_at dksX1_count_2 1 rfl rfl)
theorem dX1_count_68 : decode cX1_count 68 = .ok (.ireturn, 1) := dk_172 (dk_at dksX1_count_2 4 rfl rfl)
theorem dX1_count_69 : decode cX1_count 69 = .ok (.aload_n 0, 1) := dk_42 (dk_at dksX1_count_2 5 rfl rfl)
theorem dX1_count_70 : decode cX1_count 70 = .ok (.invokevirtual 124, 3) := dk_182 0 124 (dk_at dksX1_count_2 6 rfl rfl)
theorem dX1_count_73 : decode cX1_count 73 = .ok (.ireturn, 1) := dk_172 (dk_at dksX1_count_2 9 rfl rfl)
theorem dX1_count_74 : decode cX1_count 74 = .ok (.aload_n 0, 1) := dk_42 (dk_at dksX1_count_2 10 rfl rfl)
theorem dX1_count_75 : decode cX1_count 75 = .ok (.getfield 40, 3) := dk_180 0 40 (dk_at dksX1_count_2 11 rfl rfl)
theorem dX1_count_78 : decode cX1_count 78 = .ok (.getfield 227, 3) := dk_180 0 227 (dk_at dksX1_count_2 14 rfl rfl)
theorem dX1_count_81 : decode cX1_count 81 = .ok (.ireturn, 1) := dk_172 (dk_at dksX1_count_2 17 rfl rfl)
theorem dX1_count_82 : decode cX1_count 82 = .ok (.aload_n 0, 1) := dk_42 (dk_at dksX1_count_2 18 rfl rfl)
theorem dX1_count_83 : decode cX1_count 83 = .ok (.getfield 40, 3) := dk_180 0 40 (dk_at dksX1_count_2 19 rfl rfl)
theorem dX1_count_86 : decode cX1_count 86 = .ok (.invokevirtual 152, 3) := dk_182 0 152 (dk_at dksX1_count_3 0 rfl rfl)
theorem dX1_count_89 : decode cX1_count 89 = .ok (.ireturn, 1) := dk_172 (dk_at dksX1_count_3 3 rfl rfl)
theorem dX1_count_90 : decode cX1_count 90 = .ok (.aload_n 0, 1) := dk_42 (dk_at dksX1_count_3 4 rfl rfl)
theorem dX1_count_91 : decode cX1_count 91 = .ok (.getfield 40, 3) := dk_180 0 40 (dk_at dksX1_count_3 5 rfl rfl)
theorem dX1_count_94 : decode cX1_count 94 = .ok (.invokevirtual 341, 3) := dk_182 1 85 (dk_at dksX1_count_3 8 rfl rfl)
theorem dX1_count_97 : decode cX1_count 97 = .ok (.ireturn, 1) := dk_172 (dk_at dksX1_count_3 11 rfl rfl)
theorem dX1_count_98 : decode cX1_count 98 = .ok (.aload_n 0, 1) := dk_42 (dk_at dksX1_count_3 12 rfl rfl)
theorem dX1_count_99 : decode cX1_count 99 = .ok (.getfield 40, 3) := dk_180 0 40 (dk_at dksX1_count_3 13 rfl rfl)
theorem dX1_count_102 : decode cX1_count 102 = .ok (.invokevirtual 243, 3) := dk_182 0 243 (dk_at dksX1_count_3 16 rfl rfl)
theorem dX1_count_105 : decode cX1_count 105 = .ok (.ireturn, 1) := dk_172 (dk_at dksX1_count_3 19 rfl rfl)
theorem dX1_count_106 : decode cX1_count 106 = .ok (.aload_n 0, 1) := dk_42 (dk_at dksX1_count_3 20 rfl rfl)
theorem dX1_count_107 : decode cX1_count 107 = .ok (.invokevirtual 353, 3) := dk_182 1 97 (dk_at dksX1_count_3 21 rfl rfl)
theorem dX1_count_110 : decode cX1_count 110 = .ok (.ireturn, 1) := dk_172 (dk_at dksX1_count_4 0 rfl rfl)
theorem dX1_count_111 : decode cX1_count 111 = .ok (.aload_n 0, 1) := dk_42 (dk_at dksX1_count_4 1 rfl rfl)
theorem dX1_count_112 : decode cX1_count 112 = .ok (.getfield 40, 3) := dk_180 0 40 (dk_at dksX1_count_4 2 rfl rfl)
theorem dX1_count_115 : decode cX1_count 115 = .ok (.aload_n 0, 1) := dk_42 (dk_at dksX1_count_4 5 rfl rfl)
theorem dX1_count_116 : decode cX1_count 116 = .ok (.getfield 40, 3) := dk_180 0 40 (dk_at dksX1_count_4 6 rfl rfl)
theorem dX1_count_119 : decode cX1_count 119 = .ok (.invokevirtual 152, 3) := dk_182 0 152 (dk_at dksX1_count_4 9 rfl rfl)
theorem dX1_count_122 : decode cX1_count 122 = .ok (.invokevirtual 246, 3) := dk_182 0 246 (dk_at dksX1_count_4 12 rfl rfl)
theorem dX1_count_125 : decode cX1_count 125 = .ok (.ireturn, 1) := dk_172 (dk_at dksX1_count_4 15 rfl rfl)
theorem dX1_count_126 : decode cX1_count 126 = .ok (.aload_n 0, 1) := dk_42 (dk_at dksX1_count_4 16 rfl rfl)
theorem dX1_count_127 : decode cX1_count 127 = .ok (.getfield 52, 3) := dk_180 0 52 (dk_at dksX1_count_4 17 rfl rfl)
theorem dX1_count_130 : decode cX1_count 130 = .ok (.invokevirtual 111, 3) := dk_182 0 111 (dk_at dksX1_count_4 20 rfl rfl)
theorem dX1_count_133 : decode cX1_count 133 = .ok (.ireturn, 1) := dk_172 (dk_at dksX1_count_4 23 rfl rfl)
theorem dX1_count_134 : decode cX1_count 134 = .ok (.aload_n 0, 1) := dk_42 (dk_at dksX1_count_5 0 rfl rfl)
theorem dX1_count_135 : decode cX1_count 135 = .ok (.getfield 56, 3) := dk_180 0 56 (dk_at dksX1_count_5 1 rfl rfl)
theorem dX1_count_138 : decode cX1_count 138 = .ok (.invokevirtual 111, 3) := dk_182 0 111 (dk_at dksX1_count_5 4 rfl rfl)
theorem dX1_count_141 : decode cX1_count 141 = .ok (.ireturn, 1) := dk_172 (dk_at dksX1_count_5 7 rfl rfl)
theorem dX1_count_142 : decode cX1_count 142 = .ok (.aload_n 0, 1) := dk_42 (dk_at dksX1_count_5 8 rfl rfl)
theorem dX1_count_143 : decode cX1_count 143 = .ok (.getfield 60, 3) := dk_180 0 60 (dk_at dksX1_count_5 9 rfl rfl)
theorem dX1_count_146 : decode cX1_count 146 = .ok (.invokevirtual 111, 3) := dk_182 0 111 (dk_at dksX1_count_5 12 rfl rfl)
theorem dX1_count_149 : decode cX1_count 149 = .ok (.ireturn, 1) := dk_172 (dk_at dksX1_count_5 15 rfl rfl)
theorem dX1_count_150 : decode cX1_count 150 = .ok (.aload_n 0, 1) := dk_42 (dk_at dksX1_count_5 16 rfl rfl)
theorem dX1_count_151 : decode cX1_count 151 = .ok (.getfield 24, 3) := dk_180 0 24 (dk_at dksX1_count_5 17 rfl rfl)
theorem dX1_count_154 : decode cX1_count 154 = .ok (.getfield 82, 3) := dk_180 0 82 (dk_at dksX1_count_5 20 rfl rfl)
theorem dX1_count_157 : decode cX1_count 157 = .ok (.ireturn, 1) := dk_172 (dk_at dksX1_count_5 23 rfl rfl)
theorem dX1_count_158 : decode cX1_count 158 = .ok (.iconst (-1), 1) := dk_2 (dk_at dksX1_count_6 0 rfl rfl)
theorem dX1_count_159 : decode cX1_count 159 = .ok (.ireturn, 1) := dk_172 (dk_at dksX1_count_6 1 rfl rfl)
abbrev cX1_must : ByteArray := prog_1_method_53_code
abbrev yX1_must : MethodName := { cls := "WornSkin", name := "must", desc := "(Z)V" }
def dkwX1_must_0 : List UInt8 := [26, 154, 0, 11, 187, 1, 56, 89, 183, 1, 58, 191, 177]
abbrev dktX1_must_0 : List UInt8 := dkwX1_must_0 ++ []
theorem dksX1_must_0 : cX1_must.data.toList.drop 0 = dktX1_must_0 := by decide +kernel
theorem dX1_must_0 : decode cX1_must 0 = .ok (.iload_n 0, 1) := dk_26 (dk_at dksX1_must_0 0 rfl rfl)
theorem dX1_must_1 : decode cX1_must 1 = .ok (.ifCond .ne 11, 3) := dk_154 0 11 (dk_at dksX1_must_0 1 rfl rfl)
theorem dX1_must_4 : decode cX1_must 4 = .ok (.new 312, 3) := dk_187 1 56 (dk_at dksX1_must_0 4 rfl rfl)
theorem dX1_must_7 : decode cX1_must 7 = .ok (.dup, 1) := dk_89 (dk_at dksX1_must_0 7 rfl rfl)
theorem dX1_must_8 : decode cX1_must 8 = .ok (.invokespecial 314, 3) := dk_183 1 58 (dk_at dksX1_must_0 8 rfl rfl)
theorem dX1_must_11 : decode cX1_must 11 = .ok (.athrow, 1) := dk_191 (dk_at dksX1_must_0 11 rfl rfl)
theorem dX1_must_12 : decode cX1_must 12 = .ok (.return_, 1) := dk_177 (dk_at dksX1_must_0 12 rfl rfl)
abbrev cX1_rests : ByteArray := prog_1_method_54_code
abbrev yX1_rests : MethodName := { cls := "WornSkin", name := "rests", desc := "(IIII)I" }
def dkwX1_rests_5 : List UInt8 := [167, 0, 4, 3, 184, 1, 59, 21, 5, 172]
abbrev dktX1_rests_5 : List UInt8 := dkwX1_rests_5 ++ []
def dkwX1_rests_4 : List UInt8 := [160, 0, 6, 21, 6, 172, 132, 5, 1, 132, 6, 1, 167, 255, 198, 21, 4, 2, 160, 0, 7, 4]
abbrev dktX1_rests_4 : List UInt8 := dkwX1_rests_4 ++ dktX1_rests_5
def dkwX1_rests_3 : List UInt8 := [160, 0, 7, 4, 167, 0, 4, 3, 27, 28, 29, 184, 1, 63, 154, 0, 6, 167, 0, 16, 21, 5, 21, 4]
abbrev dktX1_rests_3 : List UInt8 := dkwX1_rests_3 ++ dktX1_rests_4
def dkwX1_rests_2 : List UInt8 := [54, 6, 21, 6, 7, 162, 0, 58, 21, 6, 4, 164, 0, 7, 4, 167, 0, 4, 3, 21, 6, 5, 112, 4]
abbrev dktX1_rests_2 : List UInt8 := dkwX1_rests_2 ++ dktX1_rests_3
def dkwX1_rests_1 : List UInt8 := [184, 0, 120, 153, 0, 13, 21, 4, 2, 161, 0, 7, 4, 167, 0, 4, 3, 184, 1, 59, 3, 54, 5, 3]
abbrev dktX1_rests_1 : List UInt8 := dkwX1_rests_1 ++ dktX1_rests_2
def dkwX1_rests_0 : List UInt8 := [27, 3, 16, 9, 184, 0, 120, 153, 0, 33, 28, 3, 16, 9, 184, 0, 120, 153, 0, 23, 29, 3, 16, 9]
abbrev dktX1_rests_0 : List UInt8 := dkwX1_rests_0 ++ dktX1_rests_1
theorem dksX1_rests_0 : cX1_rests.data.toList.drop 0 = dktX1_rests_0 := by decide +kernel
theorem dksX1_rests_1 : cX1_rests.data.toList.drop 24 = dktX1_rests_1 := dk_seg dksX1_rests_0 24 rfl rfl
theorem dksX1_rests_2 : cX1_rests.data.toList.drop 48 = dktX1_rests_2 := dk_seg dksX1_rests_1 24 rfl rfl
theorem dksX1_rests_3 : cX1_rests.data.toList.drop 72 = dktX1_rests_3 := dk_seg dksX1_rests_2 24 rfl rfl
theorem dksX1_rests_4 : cX1_rests.data.toList.drop 96 = dktX1_rests_4 := dk_seg dksX1_rests_3 24 rfl rfl
theorem dksX1_rests_5 : cX1_rests.data.toList.drop 118 = dktX1_rests_5 := dk_seg dksX1_rests_4 22 rfl rfl
theorem dX1_rests_0 : decode cX1_rests 0 = .ok (.iload_n 1, 1) := dk_27 (dk_at dksX1_rests_0 0 rfl rfl)
theorem dX1_rests_1 : decode cX1_rests 1 = .ok (.iconst 0, 1) := dk_3 (dk_at dksX1_rests_0 1 rfl rfl)
theorem dX1_rests_2 : decode cX1_rests 2 = .ok (.bipush 9, 2) := dk_16 9 (dk_at dksX1_rests_0 2 rfl rfl)
theorem dX1_rests_4 : decode cX1_rests 4 = .ok (.invokestatic 120, 3) := dk_184 0 120 (dk_at dksX1_rests_0 4 rfl rfl)
theorem dX1_rests_7 : decode cX1_rests 7 = .ok (.ifCond .eq 33, 3) := dk_153 0 33 (dk_at dksX1_rests_0 7 rfl rfl)
theorem dX1_rests_10 : decode cX1_rests 10 = .ok (.iload_n 2, 1) := dk_28 (dk_at dksX1_rests_0 10 rfl rfl)
theorem dX1_rests_11 : decode cX1_rests 11 = .ok (.iconst 0, 1) := dk_3 (dk_at dksX1_rests_0 11 rfl rfl)
theorem dX1_rests_12 : decode cX1_rests 12 = .ok (.bipush 9, 2) := dk_16 9 (dk_at dksX1_rests_0 12 rfl rfl)
theorem dX1_rests_14 : decode cX1_rests 14 = .ok (.invokestatic 120, 3) := dk_184 0 120 (dk_at dksX1_rests_0 14 rfl rfl)
theorem dX1_rests_17 : decode cX1_rests 17 = .ok (.ifCond .eq 23, 3) := dk_153 0 23 (dk_at dksX1_rests_0 17 rfl rfl)
theorem dX1_rests_20 : decode cX1_rests 20 = .ok (.iload_n 3, 1) := dk_29 (dk_at dksX1_rests_0 20 rfl rfl)
theorem dX1_rests_21 : decode cX1_rests 21 = .ok (.iconst 0, 1) := dk_3 (dk_at dksX1_rests_0 21 rfl rfl)
theorem dX1_rests_22 : decode cX1_rests 22 = .ok (.bipush 9, 2) := dk_16 9 (dk_at dksX1_rests_0 22 rfl rfl)
theorem dX1_rests_24 : decode cX1_rests 24 = .ok (.invokestatic 120, 3) := dk_184 0 120 (dk_at dksX1_rests_1 0 rfl rfl)
theorem dX1_rests_27 : decode cX1_rests 27 = .ok (.ifCond .eq 13, 3) := dk_153 0 13 (dk_at dksX1_rests_1 3 rfl rfl)
theorem dX1_rests_30 : decode cX1_rests 30 = .ok (.iload 4, 2) := dk_21 4 (dk_at dksX1_rests_1 6 rfl rfl)
theorem dX1_rests_32 : decode cX1_rests 32 = .ok (.iconst (-1), 1) := dk_2 (dk_at dksX1_rests_1 8 rfl rfl)
theorem dX1_rests_33 : decode cX1_rests 33 = .ok (.if_icmp .lt 7, 3) := dk_161 0 7 (dk_at dksX1_rests_1 9 rfl rfl)
theorem dX1_rests_36 : decode cX1_rests 36 = .ok (.iconst 1, 1) := dk_4 (dk_at dksX1_rests_1 12 rfl rfl)
theorem dX1_rests_37 : decode cX1_rests 37 = .ok (.goto 4, 3) := dk_167 0 4 (dk_at dksX1_rests_1 13 rfl rfl)
theorem dX1_rests_40 : decode cX1_rests 40 = .ok (.iconst 0, 1) := dk_3 (dk_at dksX1_rests_1 16 rfl rfl)
theorem dX1_rests_41 : decode cX1_rests 41 = .ok (.invokestatic 315, 3) := dk_184 1 59 (dk_at dksX1_rests_1 17 rfl rfl)
theorem dX1_rests_44 : decode cX1_rests 44 = .ok (.iconst 0, 1) := dk_3 (dk_at dksX1_rests_1 20 rfl rfl)
theorem dX1_rests_45 : decode cX1_rests 45 = .ok (.istore 5, 2) := dk_54 5 (dk_at dksX1_rests_1 21 rfl rfl)
theorem dX1_rests_47 : decode cX1_rests 47 = .ok (.iconst 0, 1) := dk_3 (dk_at dksX1_rests_1 23 rfl rfl)
theorem dX1_rests_48 : decode cX1_rests 48 = .ok (.istore 6, 2) := dk_54 6 (dk_at dksX1_rests_2 0 rfl rfl)
theorem dX1_rests_50 : decode cX1_rests 50 = .ok (.iload 6, 2) := dk_21 6 (dk_at dksX1_rests_2 2 rfl rfl)
theorem dX1_rests_52 : decode cX1_rests 52 = .ok (.iconst 4, 1) := dk_7 (dk_at dksX1_rests_2 4 rfl rfl)
theorem dX1_rests_53 : decode cX1_rests 53 = .ok (.if_icmp .ge 58, 3) := dk_162 0 58 (dk_at dksX1_rests_2 5 rfl rfl)
theorem dX1_rests_56 : decode cX1_rests 56 = .ok (.iload 6, 2) := dk_21 6 (dk_at dksX1_rests_2 8 rfl rfl)
theorem dX1_rests_58 : decode cX1_rests 58 = .ok (.iconst 1, 1) := dk_4 (dk_at dksX1_rests_2 10 rfl rfl)
theorem dX1_rests_59 : decode cX1_rests 59 = .ok (.if_icmp .le 7, 3) := dk_164 0 7 (dk_at dksX1_rests_2 11 rfl rfl)
theorem dX1_rests_62 : decode cX1_rests 62 = .ok (.iconst 1, 1) := dk_4 (dk_at dksX1_rests_2 14 rfl rfl)
theorem dX1_rests_63 : decode cX1_rests 63 = .ok (.goto 4, 3) := dk_167 0 4 (dk_at dksX1_rests_2 15 rfl rfl)
theorem dX1_rests_66 : decode cX1_rests 66 = .ok (.iconst 0, 1) := dk_3 (dk_at dksX1_rests_2 18 rfl rfl)
theorem dX1_rests_67 : decode cX1_rests 67 = .ok (.iload 6, 2) := dk_21 6 (dk_at dksX1_rests_2 19 rfl rfl)
theorem dX1_rests_69 : decode cX1_rests 69 = .ok (.iconst 2, 1) := dk_5 (dk_at dksX1_rests_2 21 rfl rfl)
theorem dX1_rests_70 : decode cX1_rests 70 = .ok (.irem, 1) := dk_112 (dk_at dksX1_rests_2 22 rfl rfl)
theorem dX1_rests_71 : decode cX1_rests 71 = .ok (.iconst 1, 1) := dk_4 (dk_at dksX1_rests_2 23 rfl rfl)
theorem dX1_rests_72 : decode cX1_rests 72 = .ok (.if_icmp .ne 7, 3) := dk_160 0 7 (dk_at dksX1_rests_3 0 rfl rfl)
theorem dX1_rests_75 : decode cX1_rests 75 = .ok (.iconst 1, 1) := dk_4 (dk_at dksX1_rests_3 3 rfl rfl)
theorem dX1_rests_76 : decode cX1_rests 76 = .ok (.goto 4, 3) := dk_167 0 4 (dk_at dksX1_rests_3 4 rfl rfl)
theorem dX1_rests_79 : decode cX1_rests 79 = .ok (.iconst 0, 1) := dk_3 (dk_at dksX1_rests_3 7 rfl rfl)
theorem dX1_rests_80 : decode cX1_rests 80 = .ok (.iload_n 1, 1) := dk_27 (dk_at dksX1_rests_3 8 rfl rfl)
theorem dX1_rests_81 : decode cX1_rests 81 = .ok (.iload_n 2, 1) := dk_28 (dk_at dksX1_rests_3 9 rfl rfl)
theorem dX1_rests_82 : decode cX1_rests 82 = .ok (.iload_n 3, 1) := dk_29 (dk_at dksX1_rests_3 10 rfl rfl)
theorem dX1_rests_83 : decode cX1_rests 83 = .ok (.invokestatic 319, 3) := dk_184 1 63 (dk_at dksX1_rests_3 11 rfl rfl)
theorem dX1_rests_86 : decode cX1_rests 86 = .ok (.ifCond .ne 6, 3) := dk_154 0 6 (dk_at dksX1_rests_3 14 rfl rfl)
theorem dX1_rests_89 : decode cX1_rests 89 = .ok (.goto 16, 3) := dk_167 0 16 (dk_at dksX1_rests_3 17 rfl rfl)
theorem dX1_rests_92 : decode cX1_rests 92 = .ok (.iload 5, 2) := dk_21 5 (dk_at dksX1_rests_3 20 rfl rfl)
theorem dX1_rests_94 : decode cX1_rests 94 = .ok (.iload 4, 2) := dk_21 4 (dk_at dksX1_rests_3 22 rfl rfl)
theorem dX1_rests_96 : decode cX1_rests 96 = .ok (.if_icmp .ne 6, 3) := dk_160 0 6 (dk_at dksX1_rests_4 0 rfl rfl)
theorem dX1_rests_99 : decode cX1_rests 99 = .ok (.iload 6, 2) := dk_21 6 (dk_at dksX1_rests_4 3 rfl rfl)
theorem dX1_rests_101 : decode cX1_rests 101 = .ok (.ireturn, 1) := dk_172 (dk_at dksX1_rests_4 5 rfl rfl)
theorem dX1_rests_102 : decode cX1_rests 102 = .ok (.iinc 5 1, 3) := dk_132 5 1 (dk_at dksX1_rests_4 6 rfl rfl)
theorem dX1_rests_105 : decode cX1_rests 105 = .ok (.iinc 6 1, 3) := dk_132 6 1 (dk_at dksX1_rests_4 9 rfl rfl)
theorem dX1_rests_108 : decode cX1_rests 108 = .ok (.goto (-58), 3) := dk_167 255 198 (dk_at dksX1_rests_4 12 rfl rfl)
theorem dX1_rests_111 : decode cX1_rests 111 = .ok (.iload 4, 2) := dk_21 4 (dk_at dksX1_rests_4 15 rfl rfl)
theorem dX1_rests_113 : decode cX1_rests 113 = .ok (.iconst (-1), 1) := dk_2 (dk_at dksX1_rests_4 17 rfl rfl)
theorem dX1_rests_114 : decode cX1_rests 114 = .ok (.if_icmp .ne 7, 3) := dk_160 0 7 (dk_at dksX1_rests_4 18 rfl rfl)
theorem dX1_rests_117 : decode cX1_rests 117 = .ok (.iconst 1, 1) := dk_4 (dk_at dksX1_rests_4 21 rfl rfl)
theorem dX1_rests_118 : decode cX1_rests 118 = .ok (.goto 4, 3) := dk_167 0 4 (dk_at dksX1_rests_5 0 rfl rfl)
theorem dX1_rests_121 : decode cX1_rests 121 = .ok (.iconst 0, 1) := dk_3 (dk_at dksX1_rests_5 3 rfl rfl)
theorem dX1_rests_122 : decode cX1_rests 122 = .ok (.invokestatic 315, 3) := dk_184 1 59 (dk_at dksX1_rests_5 4 rfl rfl)
theorem dX1_rests_125 : decode cX1_rests 125 = .ok (.iload 5, 2) := dk_21 5 (dk_at dksX1_rests_5 7 rfl rfl)
theorem dX1_rests_127 : decode cX1_rests 127 = .ok (.ireturn, 1) := dk_172 (dk_at dksX1_rests_5 9 rfl rfl)
abbrev cX1_init : ByteArray := prog_1_method_5_code
abbrev yX1_init : MethodName := { cls := "WornSkin", name := "<init>", desc := "()V" }
def dkwX1_init_4 : List UInt8 := [7, 189, 0, 72, 181, 0, 74, 177]
abbrev dktX1_init_4 : List UInt8 := dkwX1_init_4 ++ []
def dkwX1_init_3 : List UInt8 := [42, 187, 0, 47, 89, 183, 0, 59, 181, 0, 60, 42, 187, 0, 63, 89, 42, 183, 0, 65, 181, 0, 68, 42]
abbrev dktX1_init_3 : List UInt8 := dkwX1_init_3 ++ dktX1_init_4
def dkwX1_init_2 : List UInt8 := [42, 187, 0, 47, 89, 5, 183, 0, 49, 181, 0, 52, 42, 187, 0, 47, 89, 5, 183, 0, 49, 181, 0, 56]
abbrev dktX1_init_2 : List UInt8 := dkwX1_init_2 ++ dktX1_init_3
def dkwX1_init_1 : List UInt8 := [187, 0, 33, 89, 183, 0, 35, 182, 0, 36, 181, 0, 40, 42, 187, 0, 30, 89, 183, 0, 32, 181, 0, 44]
abbrev dktX1_init_1 : List UInt8 := dkwX1_init_1 ++ dktX1_init_2
def dkwX1_init_0 : List UInt8 := [42, 183, 0, 16, 42, 187, 0, 21, 89, 183, 0, 23, 181, 0, 24, 42, 187, 0, 30, 89, 183, 0, 32]
abbrev dktX1_init_0 : List UInt8 := dkwX1_init_0 ++ dktX1_init_1
theorem dksX1_init_0 : cX1_init.data.toList.drop 0 = dktX1_init_0 := by decide +kernel
theorem dksX1_init_1 : cX1_init.data.toList.drop 23 = dktX1_init_1 := dk_seg dksX1_init_0 23 rfl rfl
theorem dksX1_init_2 : cX1_init.data.toList.drop 47 = dktX1_init_2 := dk_seg dksX1_init_1 24 rfl rfl
theorem dksX1_init_3 : cX1_init.data.toList.drop 71 = dktX1_init_3 := dk_seg dksX1_init_2 24 rfl rfl
theorem dksX1_init_4 : cX1_init.data.toList.drop 95 = dktX1_init_4 := dk_seg dksX1_init_3 24 rfl rfl
theorem dX1_init_0 : decode cX1_init 0 = .ok (.aload_n 0, 1) := dk_42 (dk_at dksX1_init_0 0 rfl rfl)
theorem dX1_init_1 : decode cX1_init 1 = .ok (.invokespecial 16, 3) := dk_183 0 16 (dk_at dksX1_init_0 1 rfl rfl)
theorem dX1_init_4 : decode cX1_init 4 = .ok (.aload_n 0, 1) := dk_42 (dk_at dksX1_init_0 4 rfl rfl)
theorem dX1_init_5 : decode cX1_init 5 = .ok (.new 21, 3) := dk_187 0 21 (dk_at dksX1_init_0 5 rfl rfl)
theorem dX1_init_8 : decode cX1_init 8 = .ok (.dup, 1) := dk_89 (dk_at dksX1_init_0 8 rfl rfl)
theorem dX1_init_9 : decode cX1_init 9 = .ok (.invokespecial 23, 3) := dk_183 0 23 (dk_at dksX1_init_0 9 rfl rfl)
theorem dX1_init_12 : decode cX1_init 12 = .ok (.putfield 24, 3) := dk_181 0 24 (dk_at dksX1_init_0 12 rfl rfl)
theorem dX1_init_15 : decode cX1_init 15 = .ok (.aload_n 0, 1) := dk_42 (dk_at dksX1_init_0 15 rfl rfl)
theorem dX1_init_16 : decode cX1_init 16 = .ok (.new 30, 3) := dk_187 0 30 (dk_at dksX1_init_0 16 rfl rfl)
theorem dX1_init_19 : decode cX1_init 19 = .ok (.dup, 1) := dk_89 (dk_at dksX1_init_0 19 rfl rfl)
theorem dX1_init_20 : decode cX1_init 20 = .ok (.invokespecial 32, 3) := dk_183 0 32 (dk_at dksX1_init_0 20 rfl rfl)
theorem dX1_init_23 : decode cX1_init 23 = .ok (.new 33, 3) := dk_187 0 33 (dk_at dksX1_init_1 0 rfl rfl)
theorem dX1_init_26 : decode cX1_init 26 = .ok (.dup, 1) := dk_89 (dk_at dksX1_init_1 3 rfl rfl)
theorem dX1_init_27 : decode cX1_init 27 = .ok (.invokespecial 35, 3) := dk_183 0 35 (dk_at dksX1_init_1 4 rfl rfl)
theorem dX1_init_30 : decode cX1_init 30 = .ok (.invokevirtual 36, 3) := dk_182 0 36 (dk_at dksX1_init_1 7 rfl rfl)
theorem dX1_init_33 : decode cX1_init 33 = .ok (.putfield 40, 3) := dk_181 0 40 (dk_at dksX1_init_1 10 rfl rfl)
theorem dX1_init_36 : decode cX1_init 36 = .ok (.aload_n 0, 1) := dk_42 (dk_at dksX1_init_1 13 rfl rfl)
theorem dX1_init_37 : decode cX1_init 37 = .ok (.new 30, 3) := dk_187 0 30 (dk_at dksX1_init_1 14 rfl rfl)
theorem dX1_init_40 : decode cX1_init 40 = .ok (.dup, 1) := dk_89 (dk_at dksX1_init_1 17 rfl rfl)
theorem dX1_init_41 : decode cX1_init 41 = .ok (.invokespecial 32, 3) := dk_183 0 32 (dk_at dksX1_init_1 18 rfl rfl)
theorem dX1_init_44 : decode cX1_init 44 = .ok (.putfield 44, 3) := dk_181 0 44 (dk_at dksX1_init_1 21 rfl rfl)
theorem dX1_init_47 : decode cX1_init 47 = .ok (.aload_n 0, 1) := dk_42 (dk_at dksX1_init_2 0 rfl rfl)
theorem dX1_init_48 : decode cX1_init 48 = .ok (.new 47, 3) := dk_187 0 47 (dk_at dksX1_init_2 1 rfl rfl)
theorem dX1_init_51 : decode cX1_init 51 = .ok (.dup, 1) := dk_89 (dk_at dksX1_init_2 4 rfl rfl)
theorem dX1_init_52 : decode cX1_init 52 = .ok (.iconst 2, 1) := dk_5 (dk_at dksX1_init_2 5 rfl rfl)
theorem dX1_init_53 : decode cX1_init 53 = .ok (.invokespecial 49, 3) := dk_183 0 49 (dk_at dksX1_init_2 6 rfl rfl)
theorem dX1_init_56 : decode cX1_init 56 = .ok (.putfield 52, 3) := dk_181 0 52 (dk_at dksX1_init_2 9 rfl rfl)
theorem dX1_init_59 : decode cX1_init 59 = .ok (.aload_n 0, 1) := dk_42 (dk_at dksX1_init_2 12 rfl rfl)
theorem dX1_init_60 : decode cX1_init 60 = .ok (.new 47, 3) := dk_187 0 47 (dk_at dksX1_init_2 13 rfl rfl)
theorem dX1_init_63 : decode cX1_init 63 = .ok (.dup, 1) := dk_89 (dk_at dksX1_init_2 16 rfl rfl)
theorem dX1_init_64 : decode cX1_init 64 = .ok (.iconst 2, 1) := dk_5 (dk_at dksX1_init_2 17 rfl rfl)
theorem dX1_init_65 : decode cX1_init 65 = .ok (.invokespecial 49, 3) := dk_183 0 49 (dk_at dksX1_init_2 18 rfl rfl)
theorem dX1_init_68 : decode cX1_init 68 = .ok (.putfield 56, 3) := dk_181 0 56 (dk_at dksX1_init_2 21 rfl rfl)
theorem dX1_init_71 : decode cX1_init 71 = .ok (.aload_n 0, 1) := dk_42 (dk_at dksX1_init_3 0 rfl rfl)
theorem dX1_init_72 : decode cX1_init 72 = .ok (.new 47, 3) := dk_187 0 47 (dk_at dksX1_init_3 1 rfl rfl)
theorem dX1_init_75 : decode cX1_init 75 = .ok (.dup, 1) := dk_89 (dk_at dksX1_init_3 4 rfl rfl)
theorem dX1_init_76 : decode cX1_init 76 = .ok (.invokespecial 59, 3) := dk_183 0 59 (dk_at dksX1_init_3 5 rfl rfl)
theorem dX1_init_79 : decode cX1_init 79 = .ok (.putfield 60, 3) := dk_181 0 60 (dk_at dksX1_init_3 8 rfl rfl)
theorem dX1_init_82 : decode cX1_init 82 = .ok (.aload_n 0, 1) := dk_42 (dk_at dksX1_init_3 11 rfl rfl)
theorem dX1_init_83 : decode cX1_init 83 = .ok (.new 63, 3) := dk_187 0 63 (dk_at dksX1_init_3 12 rfl rfl)
theorem dX1_init_86 : decode cX1_init 86 = .ok (.dup, 1) := dk_89 (dk_at dksX1_init_3 15 rfl rfl)
theorem dX1_init_87 : decode cX1_init 87 = .ok (.aload_n 0, 1) := dk_42 (dk_at dksX1_init_3 16 rfl rfl)
theorem dX1_init_88 : decode cX1_init 88 = .ok (.invokespecial 65, 3) := dk_183 0 65 (dk_at dksX1_init_3 17 rfl rfl)
theorem dX1_init_91 : decode cX1_init 91 = .ok (.putfield 68, 3) := dk_181 0 68 (dk_at dksX1_init_3 20 rfl rfl)
theorem dX1_init_94 : decode cX1_init 94 = .ok (.aload_n 0, 1) := dk_42 (dk_at dksX1_init_3 23 rfl rfl)
theorem dX1_init_95 : decode cX1_init 95 = .ok (.iconst 4, 1) := dk_7 (dk_at dksX1_init_4 0 rfl rfl)
theorem dX1_init_96 : decode cX1_init 96 = .ok (.anewarray 72, 3) := dk_189 0 72 (dk_at dksX1_init_4 1 rfl rfl)
theorem dX1_init_99 : decode cX1_init 99 = .ok (.putfield 74, 3) := dk_181 0 74 (dk_at dksX1_init_4 4 rfl rfl)
theorem dX1_init_102 : decode cX1_init 102 = .ok (.return_, 1) := dk_177 (dk_at dksX1_init_4 7 rfl rfl)
abbrev cX0_rests : ByteArray := method_3_code
abbrev yX0_rests : MethodName := { cls := "WornSkinLaw", name := "rests", desc := "(LWornSkin;IIII[J)I" }
def dkwX0_rests_0 : List UInt8 := [25, 5, 3, 42, 27, 28, 29, 21, 4, 182, 0, 7, 133, 80, 167, 0, 7, 58, 6, 4, 172, 3, 172]
abbrev dktX0_rests_0 : List UInt8 := dkwX0_rests_0 ++ []
theorem dksX0_rests_0 : cX0_rests.data.toList.drop 0 = dktX0_rests_0 := by decide +kernel
theorem dX0_rests_0 : decode cX0_rests 0 = .ok (.aload 5, 2) := dk_25 5 (dk_at dksX0_rests_0 0 rfl rfl)
theorem dX0_rests_2 : decode cX0_rests 2 = .ok (.iconst 0, 1) := dk_3 (dk_at dksX0_rests_0 2 rfl rfl)
theorem dX0_rests_3 : decode cX0_rests 3 = .ok (.aload_n 0, 1) := dk_42 (dk_at dksX0_rests_0 3 rfl rfl)
theorem dX0_rests_4 : decode cX0_rests 4 = .ok (.iload_n 1, 1) := dk_27 (dk_at dksX0_rests_0 4 rfl rfl)
theorem dX0_rests_5 : decode cX0_rests 5 = .ok (.iload_n 2, 1) := dk_28 (dk_at dksX0_rests_0 5 rfl rfl)
theorem dX0_rests_6 : decode cX0_rests 6 = .ok (.iload_n 3, 1) := dk_29 (dk_at dksX0_rests_0 6 rfl rfl)
theorem dX0_rests_7 : decode cX0_rests 7 = .ok (.iload 4, 2) := dk_21 4 (dk_at dksX0_rests_0 7 rfl rfl)
theorem dX0_rests_9 : decode cX0_rests 9 = .ok (.invokevirtual 7, 3) := dk_182 0 7 (dk_at dksX0_rests_0 9 rfl rfl)
theorem dX0_rests_12 : decode cX0_rests 12 = .ok (.i2l, 1) := dk_133 (dk_at dksX0_rests_0 12 rfl rfl)
theorem dX0_rests_13 : decode cX0_rests 13 = .ok (.lastore, 1) := dk_80 (dk_at dksX0_rests_0 13 rfl rfl)
theorem dX0_rests_14 : decode cX0_rests 14 = .ok (.goto 7, 3) := dk_167 0 7 (dk_at dksX0_rests_0 14 rfl rfl)
theorem dX0_rests_17 : decode cX0_rests 17 = .ok (.astore 6, 2) := dk_58 6 (dk_at dksX0_rests_0 17 rfl rfl)
theorem dX0_rests_19 : decode cX0_rests 19 = .ok (.iconst 1, 1) := dk_4 (dk_at dksX0_rests_0 19 rfl rfl)
theorem dX0_rests_20 : decode cX0_rests 20 = .ok (.ireturn, 1) := dk_172 (dk_at dksX0_rests_0 20 rfl rfl)
theorem dX0_rests_21 : decode cX0_rests 21 = .ok (.iconst 0, 1) := dk_3 (dk_at dksX0_rests_0 21 rfl rfl)
theorem dX0_rests_22 : decode cX0_rests 22 = .ok (.ireturn, 1) := dk_172 (dk_at dksX0_rests_0 22 rfl rfl)
abbrev cX1_lay : ByteArray := prog_1_method_39_code
abbrev yX1_lay : MethodName := { cls := "WornSkin", name := "lay", desc := "(I)I" }
def dkwX1_lay_2 : List UInt8 := [172]
abbrev dktX1_lay_2 : List UInt8 := dkwX1_lay_2 ++ []
def dkwX1_lay_1 : List UInt8 := [27, 2, 160, 0, 13, 42, 180, 0, 68, 180, 1, 16, 167, 0, 12, 42, 180, 0, 68, 180, 1, 19, 27, 46]
abbrev dktX1_lay_1 : List UInt8 := dkwX1_lay_1 ++ dktX1_lay_2
def dkwX1_lay_0 : List UInt8 := [27, 2, 159, 0, 14, 42, 27, 182, 0, 159, 154, 0, 6, 16, 254, 172, 42, 180, 0, 68, 182, 1, 12, 87]
abbrev dktX1_lay_0 : List UInt8 := dkwX1_lay_0 ++ dktX1_lay_1
theorem dksX1_lay_0 : cX1_lay.data.toList.drop 0 = dktX1_lay_0 := by decide +kernel
theorem dksX1_lay_1 : cX1_lay.data.toList.drop 24 = dktX1_lay_1 := dk_seg dksX1_lay_0 24 rfl rfl
theorem dksX1_lay_2 : cX1_lay.data.toList.drop 48 = dktX1_lay_2 := dk_seg dksX1_lay_1 24 rfl rfl
theorem dX1_lay_0 : decode cX1_lay 0 = .ok (.iload_n 1, 1) := dk_27 (dk_at dksX1_lay_0 0 rfl rfl)
theorem dX1_lay_1 : decode cX1_lay 1 = .ok (.iconst (-1), 1) := dk_2 (dk_at dksX1_lay_0 1 rfl rfl)
theorem dX1_lay_2 : decode cX1_lay 2 = .ok (.if_icmp .eq 14, 3) := dk_159 0 14 (dk_at dksX1_lay_0 2 rfl rfl)
theorem dX1_lay_5 : decode cX1_lay 5 = .ok (.aload_n 0, 1) := dk_42 (dk_at dksX1_lay_0 5 rfl rfl)
theorem dX1_lay_6 : decode cX1_lay 6 = .ok (.iload_n 1, 1) := dk_27 (dk_at dksX1_lay_0 6 rfl rfl)
theorem dX1_lay_7 : decode cX1_lay 7 = .ok (.invokevirtual 159, 3) := dk_182 0 159 (dk_at dksX1_lay_0 7 rfl rfl)
theorem dX1_lay_10 : decode cX1_lay 10 = .ok (.ifCond .ne 6, 3) := dk_154 0 6 (dk_at dksX1_lay_0 10 rfl rfl)
theorem dX1_lay_13 : decode cX1_lay 13 = .ok (.bipush (-2), 2) := dk_16 254 (dk_at dksX1_lay_0 13 rfl rfl)
theorem dX1_lay_15 : decode cX1_lay 15 = .ok (.ireturn, 1) := dk_172 (dk_at dksX1_lay_0 15 rfl rfl)
theorem dX1_lay_16 : decode cX1_lay 16 = .ok (.aload_n 0, 1) := dk_42 (dk_at dksX1_lay_0 16 rfl rfl)
theorem dX1_lay_17 : decode cX1_lay 17 = .ok (.getfield 68, 3) := dk_180 0 68 (dk_at dksX1_lay_0 17 rfl rfl)
theorem dX1_lay_20 : decode cX1_lay 20 = .ok (.invokevirtual 268, 3) := dk_182 1 12 (dk_at dksX1_lay_0 20 rfl rfl)
theorem dX1_lay_23 : decode cX1_lay 23 = .ok (.pop, 1) := dk_87 (dk_at dksX1_lay_0 23 rfl rfl)
theorem dX1_lay_24 : decode cX1_lay 24 = .ok (.iload_n 1, 1) := dk_27 (dk_at dksX1_lay_1 0 rfl rfl)
theorem dX1_lay_25 : decode cX1_lay 25 = .ok (.iconst (-1), 1) := dk_2 (dk_at dksX1_lay_1 1 rfl rfl)
theorem dX1_lay_26 : decode cX1_lay 26 = .ok (.if_icmp .ne 13, 3) := dk_160 0 13 (dk_at dksX1_lay_1 2 rfl rfl)
theorem dX1_lay_29 : decode cX1_lay 29 = .ok (.aload_n 0, 1) := dk_42 (dk_at dksX1_lay_1 5 rfl rfl)
theorem dX1_lay_30 : decode cX1_lay 30 = .ok (.getfield 68, 3) := dk_180 0 68 (dk_at dksX1_lay_1 6 rfl rfl)
theorem dX1_lay_33 : decode cX1_lay 33 = .ok (.getfield 272, 3) := dk_180 1 16 (dk_at dksX1_lay_1 9 rfl rfl)
theorem dX1_lay_36 : decode cX1_lay 36 = .ok (.goto 12, 3) := dk_167 0 12 (dk_at dksX1_lay_1 12 rfl rfl)
theorem dX1_lay_39 : decode cX1_lay 39 = .ok (.aload_n 0, 1) := dk_42 (dk_at dksX1_lay_1 15 rfl rfl)
theorem dX1_lay_40 : decode cX1_lay 40 = .ok (.getfield 68, 3) := dk_180 0 68 (dk_at dksX1_lay_1 16 rfl rfl)
theorem dX1_lay_43 : decode cX1_lay 43 = .ok (.getfield 275, 3) := dk_180 1 19 (dk_at dksX1_lay_1 19 rfl rfl)
theorem dX1_lay_46 : decode cX1_lay 46 = .ok (.iload_n 1, 1) := dk_27 (dk_at dksX1_lay_1 22 rfl rfl)
theorem dX1_lay_47 : decode cX1_lay 47 = .ok (.iaload, 1) := dk_46 (dk_at dksX1_lay_1 23 rfl rfl)
theorem dX1_lay_48 : decode cX1_lay 48 = .ok (.ireturn, 1) := dk_172 (dk_at dksX1_lay_2 0 rfl rfl)
