set_option maxRecDepth 100000
abbrev cX5_init : ByteArray := prog_6_method_1_code
abbrev yX5_init : MethodName := { cls := "WornSkin$Facts", name := "<init>", desc := "()V" }
def dkwX5_init_0 : List UInt8 := [42, 183, 0, 1, 42, 7, 188, 10, 181, 0, 9, 177]
abbrev dktX5_init_0 : List UInt8 := dkwX5_init_0 ++ []
theorem dksX5_init_0 : cX5_init.data.toList.drop 0 = dktX5_init_0 := by decide +kernel
theorem dX5_init_0 : decode cX5_init 0 = .ok (.aload_n 0, 1) := dk_42 (dk_at dksX5_init_0 0 rfl rfl)
theorem dX5_init_1 : decode cX5_init 1 = .ok (.invokespecial 1, 3) := dk_183 0 1 (dk_at dksX5_init_0 1 rfl rfl)
theorem dX5_init_4 : decode cX5_init 4 = .ok (.aload_n 0, 1) := dk_42 (dk_at dksX5_init_0 4 rfl rfl)
theorem dX5_init_5 : decode cX5_init 5 = .ok (.iconst 4, 1) := dk_7 (dk_at dksX5_init_0 5 rfl rfl)
theorem dX5_init_6 : decode cX5_init 6 = .ok (.newarray .int, 2) := dk_188_10 (dk_at dksX5_init_0 6 rfl rfl)
theorem dX5_init_8 : decode cX5_init 8 = .ok (.putfield 9, 3) := dk_181 0 9 (dk_at dksX5_init_0 8 rfl rfl)
theorem dX5_init_11 : decode cX5_init 11 = .ok (.return_, 1) := dk_177 (dk_at dksX5_init_0 11 rfl rfl)
abbrev cX14_init : ByteArray := prog_4_method_1_code
abbrev yX14_init : MethodName := { cls := "WornSkin$Expression", name := "<init>", desc := "()V" }
theorem dX14_init_0 : decode cX14_init 0 = .ok (.aload_n 0, 1) := by decide +kernel
theorem dX14_init_1 : decode cX14_init 1 = .ok (.invokespecial 1, 3) := by decide +kernel
theorem dX14_init_4 : decode cX14_init 4 = .ok (.return_, 1) := by decide +kernel
abbrev cX16_init : ByteArray := prog_17_method_1_code
abbrev yX16_init : MethodName := { cls := "WornSkin$Plain", name := "<init>", desc := "(I)V" }
def dkwX16_init_0 : List UInt8 := [42, 183, 0, 1, 42, 27, 181, 0, 7, 177]
abbrev dktX16_init_0 : List UInt8 := dkwX16_init_0 ++ []
theorem dksX16_init_0 : cX16_init.data.toList.drop 0 = dktX16_init_0 := by decide +kernel
theorem dX16_init_0 : decode cX16_init 0 = .ok (.aload_n 0, 1) := dk_42 (dk_at dksX16_init_0 0 rfl rfl)
theorem dX16_init_1 : decode cX16_init 1 = .ok (.invokespecial 1, 3) := dk_183 0 1 (dk_at dksX16_init_0 1 rfl rfl)
theorem dX16_init_4 : decode cX16_init 4 = .ok (.aload_n 0, 1) := dk_42 (dk_at dksX16_init_0 4 rfl rfl)
theorem dX16_init_5 : decode cX16_init 5 = .ok (.iload_n 1, 1) := dk_27 (dk_at dksX16_init_0 5 rfl rfl)
theorem dX16_init_6 : decode cX16_init 6 = .ok (.putfield 7, 3) := dk_181 0 7 (dk_at dksX16_init_0 6 rfl rfl)
theorem dX16_init_9 : decode cX16_init 9 = .ok (.return_, 1) := dk_177 (dk_at dksX16_init_0 9 rfl rfl)
abbrev cX15_init : ByteArray := prog_5_method_1_code
abbrev yX15_init : MethodName := { cls := "WornSkin$Fact", name := "<init>", desc := "(I)V" }
def dkwX15_init_0 : List UInt8 := [42, 183, 0, 1, 42, 27, 181, 0, 7, 177]
abbrev dktX15_init_0 : List UInt8 := dkwX15_init_0 ++ []
theorem dksX15_init_0 : cX15_init.data.toList.drop 0 = dktX15_init_0 := by decide +kernel
theorem dX15_init_0 : decode cX15_init 0 = .ok (.aload_n 0, 1) := dk_42 (dk_at dksX15_init_0 0 rfl rfl)
theorem dX15_init_1 : decode cX15_init 1 = .ok (.invokespecial 1, 3) := dk_183 0 1 (dk_at dksX15_init_0 1 rfl rfl)
theorem dX15_init_4 : decode cX15_init 4 = .ok (.aload_n 0, 1) := dk_42 (dk_at dksX15_init_0 4 rfl rfl)
theorem dX15_init_5 : decode cX15_init 5 = .ok (.iload_n 1, 1) := dk_27 (dk_at dksX15_init_0 5 rfl rfl)
theorem dX15_init_6 : decode cX15_init 6 = .ok (.putfield 7, 3) := dk_181 0 7 (dk_at dksX15_init_0 6 rfl rfl)
theorem dX15_init_9 : decode cX15_init 9 = .ok (.return_, 1) := dk_177 (dk_at dksX15_init_0 9 rfl rfl)
abbrev cX17_init : ByteArray := prog_14_method_1_code
abbrev yX17_init : MethodName := { cls := "WornSkin$Not", name := "<init>", desc := "(LWornSkin$Expression;)V" }
def dkwX17_init_0 : List UInt8 := [42, 183, 0, 1, 42, 43, 181, 0, 7, 177]
abbrev dktX17_init_0 : List UInt8 := dkwX17_init_0 ++ []
theorem dksX17_init_0 : cX17_init.data.toList.drop 0 = dktX17_init_0 := by decide +kernel
theorem dX17_init_0 : decode cX17_init 0 = .ok (.aload_n 0, 1) := dk_42 (dk_at dksX17_init_0 0 rfl rfl)
theorem dX17_init_1 : decode cX17_init 1 = .ok (.invokespecial 1, 3) := dk_183 0 1 (dk_at dksX17_init_0 1 rfl rfl)
theorem dX17_init_4 : decode cX17_init 4 = .ok (.aload_n 0, 1) := dk_42 (dk_at dksX17_init_0 4 rfl rfl)
theorem dX17_init_5 : decode cX17_init 5 = .ok (.aload_n 1, 1) := dk_43 (dk_at dksX17_init_0 5 rfl rfl)
theorem dX17_init_6 : decode cX17_init 6 = .ok (.putfield 7, 3) := dk_181 0 7 (dk_at dksX17_init_0 6 rfl rfl)
theorem dX17_init_9 : decode cX17_init 9 = .ok (.return_, 1) := dk_177 (dk_at dksX17_init_0 9 rfl rfl)
abbrev cX19_init : ByteArray := prog_11_method_1_code
abbrev yX19_init : MethodName := { cls := "WornSkin$Link", name := "<init>", desc := "(LWornSkin$Expression;)V" }
def dkwX19_init_0 : List UInt8 := [42, 183, 0, 1, 42, 43, 181, 0, 7, 177]
abbrev dktX19_init_0 : List UInt8 := dkwX19_init_0 ++ []
theorem dksX19_init_0 : cX19_init.data.toList.drop 0 = dktX19_init_0 := by decide +kernel
theorem dX19_init_0 : decode cX19_init 0 = .ok (.aload_n 0, 1) := dk_42 (dk_at dksX19_init_0 0 rfl rfl)
theorem dX19_init_1 : decode cX19_init 1 = .ok (.invokespecial 1, 3) := dk_183 0 1 (dk_at dksX19_init_0 1 rfl rfl)
theorem dX19_init_4 : decode cX19_init 4 = .ok (.aload_n 0, 1) := dk_42 (dk_at dksX19_init_0 4 rfl rfl)
theorem dX19_init_5 : decode cX19_init 5 = .ok (.aload_n 1, 1) := dk_43 (dk_at dksX19_init_0 5 rfl rfl)
theorem dX19_init_6 : decode cX19_init 6 = .ok (.putfield 7, 3) := dk_181 0 7 (dk_at dksX19_init_0 6 rfl rfl)
theorem dX19_init_9 : decode cX19_init 9 = .ok (.return_, 1) := dk_177 (dk_at dksX19_init_0 9 rfl rfl)
abbrev cX21_init : ByteArray := prog_18_method_1_code
abbrev yX21_init : MethodName := { cls := "WornSkin$Plus", name := "<init>", desc := "(LWornSkin$Expression;)V" }
def dkwX21_init_0 : List UInt8 := [42, 43, 183, 0, 1, 177]
abbrev dktX21_init_0 : List UInt8 := dkwX21_init_0 ++ []
theorem dksX21_init_0 : cX21_init.data.toList.drop 0 = dktX21_init_0 := by decide +kernel
theorem dX21_init_0 : decode cX21_init 0 = .ok (.aload_n 0, 1) := dk_42 (dk_at dksX21_init_0 0 rfl rfl)
theorem dX21_init_1 : decode cX21_init 1 = .ok (.aload_n 1, 1) := dk_43 (dk_at dksX21_init_0 1 rfl rfl)
theorem dX21_init_2 : decode cX21_init 2 = .ok (.invokespecial 1, 3) := dk_183 0 1 (dk_at dksX21_init_0 2 rfl rfl)
theorem dX21_init_5 : decode cX21_init 5 = .ok (.return_, 1) := dk_177 (dk_at dksX21_init_0 5 rfl rfl)
abbrev cX22_init : ByteArray := prog_13_method_1_code
abbrev yX22_init : MethodName := { cls := "WornSkin$Minus", name := "<init>", desc := "(LWornSkin$Expression;)V" }
def dkwX22_init_0 : List UInt8 := [42, 43, 183, 0, 1, 177]
abbrev dktX22_init_0 : List UInt8 := dkwX22_init_0 ++ []
theorem dksX22_init_0 : cX22_init.data.toList.drop 0 = dktX22_init_0 := by decide +kernel
theorem dX22_init_0 : decode cX22_init 0 = .ok (.aload_n 0, 1) := dk_42 (dk_at dksX22_init_0 0 rfl rfl)
theorem dX22_init_1 : decode cX22_init 1 = .ok (.aload_n 1, 1) := dk_43 (dk_at dksX22_init_0 1 rfl rfl)
theorem dX22_init_2 : decode cX22_init 2 = .ok (.invokespecial 1, 3) := dk_183 0 1 (dk_at dksX22_init_0 2 rfl rfl)
theorem dX22_init_5 : decode cX22_init 5 = .ok (.return_, 1) := dk_177 (dk_at dksX22_init_0 5 rfl rfl)
abbrev cX20_init : ByteArray := prog_27_method_1_code
abbrev yX20_init : MethodName := { cls := "WornSkin$Times", name := "<init>", desc := "(LWornSkin$Expression;)V" }
def dkwX20_init_0 : List UInt8 := [42, 43, 183, 0, 1, 177]
abbrev dktX20_init_0 : List UInt8 := dkwX20_init_0 ++ []
theorem dksX20_init_0 : cX20_init.data.toList.drop 0 = dktX20_init_0 := by decide +kernel
theorem dX20_init_0 : decode cX20_init 0 = .ok (.aload_n 0, 1) := dk_42 (dk_at dksX20_init_0 0 rfl rfl)
theorem dX20_init_1 : decode cX20_init 1 = .ok (.aload_n 1, 1) := dk_43 (dk_at dksX20_init_0 1 rfl rfl)
theorem dX20_init_2 : decode cX20_init 2 = .ok (.invokespecial 1, 3) := dk_183 0 1 (dk_at dksX20_init_0 2 rfl rfl)
theorem dX20_init_5 : decode cX20_init 5 = .ok (.return_, 1) := dk_177 (dk_at dksX20_init_0 5 rfl rfl)
abbrev cX25_init : ByteArray := prog_2_method_1_code
abbrev yX25_init : MethodName := { cls := "WornSkin$And", name := "<init>", desc := "(LWornSkin$Expression;)V" }
def dkwX25_init_0 : List UInt8 := [42, 43, 183, 0, 1, 177]
abbrev dktX25_init_0 : List UInt8 := dkwX25_init_0 ++ []
theorem dksX25_init_0 : cX25_init.data.toList.drop 0 = dktX25_init_0 := by decide +kernel
theorem dX25_init_0 : decode cX25_init 0 = .ok (.aload_n 0, 1) := dk_42 (dk_at dksX25_init_0 0 rfl rfl)
theorem dX25_init_1 : decode cX25_init 1 = .ok (.aload_n 1, 1) := dk_43 (dk_at dksX25_init_0 1 rfl rfl)
theorem dX25_init_2 : decode cX25_init 2 = .ok (.invokespecial 1, 3) := dk_183 0 1 (dk_at dksX25_init_0 2 rfl rfl)
theorem dX25_init_5 : decode cX25_init 5 = .ok (.return_, 1) := dk_177 (dk_at dksX25_init_0 5 rfl rfl)
abbrev cX26_init : ByteArray := prog_16_method_1_code
abbrev yX26_init : MethodName := { cls := "WornSkin$Or", name := "<init>", desc := "(LWornSkin$Expression;)V" }
def dkwX26_init_0 : List UInt8 := [42, 43, 183, 0, 1, 177]
abbrev dktX26_init_0 : List UInt8 := dkwX26_init_0 ++ []
theorem dksX26_init_0 : cX26_init.data.toList.drop 0 = dktX26_init_0 := by decide +kernel
theorem dX26_init_0 : decode cX26_init 0 = .ok (.aload_n 0, 1) := dk_42 (dk_at dksX26_init_0 0 rfl rfl)
theorem dX26_init_1 : decode cX26_init 1 = .ok (.aload_n 1, 1) := dk_43 (dk_at dksX26_init_0 1 rfl rfl)
theorem dX26_init_2 : decode cX26_init 2 = .ok (.invokespecial 1, 3) := dk_183 0 1 (dk_at dksX26_init_0 2 rfl rfl)
theorem dX26_init_5 : decode cX26_init 5 = .ok (.return_, 1) := dk_177 (dk_at dksX26_init_0 5 rfl rfl)
abbrev cX23_init : ByteArray := prog_8_method_1_code
abbrev yX23_init : MethodName := { cls := "WornSkin$Less", name := "<init>", desc := "(LWornSkin$Expression;)V" }
def dkwX23_init_0 : List UInt8 := [42, 43, 183, 0, 1, 177]
abbrev dktX23_init_0 : List UInt8 := dkwX23_init_0 ++ []
theorem dksX23_init_0 : cX23_init.data.toList.drop 0 = dktX23_init_0 := by decide +kernel
theorem dX23_init_0 : decode cX23_init 0 = .ok (.aload_n 0, 1) := dk_42 (dk_at dksX23_init_0 0 rfl rfl)
theorem dX23_init_1 : decode cX23_init 1 = .ok (.aload_n 1, 1) := dk_43 (dk_at dksX23_init_0 1 rfl rfl)
theorem dX23_init_2 : decode cX23_init 2 = .ok (.invokespecial 1, 3) := dk_183 0 1 (dk_at dksX23_init_0 2 rfl rfl)
theorem dX23_init_5 : decode cX23_init 5 = .ok (.return_, 1) := dk_177 (dk_at dksX23_init_0 5 rfl rfl)
abbrev cX24_init : ByteArray := prog_22_method_1_code
abbrev yX24_init : MethodName := { cls := "WornSkin$Same", name := "<init>", desc := "(LWornSkin$Expression;)V" }
def dkwX24_init_0 : List UInt8 := [42, 43, 183, 0, 1, 177]
abbrev dktX24_init_0 : List UInt8 := dkwX24_init_0 ++ []
theorem dksX24_init_0 : cX24_init.data.toList.drop 0 = dktX24_init_0 := by decide +kernel
theorem dX24_init_0 : decode cX24_init 0 = .ok (.aload_n 0, 1) := dk_42 (dk_at dksX24_init_0 0 rfl rfl)
theorem dX24_init_1 : decode cX24_init 1 = .ok (.aload_n 1, 1) := dk_43 (dk_at dksX24_init_0 1 rfl rfl)
theorem dX24_init_2 : decode cX24_init 2 = .ok (.invokespecial 1, 3) := dk_183 0 1 (dk_at dksX24_init_0 2 rfl rfl)
theorem dX24_init_5 : decode cX24_init 5 = .ok (.return_, 1) := dk_177 (dk_at dksX24_init_0 5 rfl rfl)
abbrev cX18_init : ByteArray := prog_3_method_1_code
abbrev yX18_init : MethodName := { cls := "WornSkin$Chain", name := "<init>", desc := "(LWornSkin$Expression;)V" }
def dkwX18_init_0 : List UInt8 := [42, 183, 0, 1, 42, 187, 0, 7, 89, 4, 183, 0, 9, 181, 0, 12, 42, 43, 181, 0, 18, 177]
abbrev dktX18_init_0 : List UInt8 := dkwX18_init_0 ++ []
theorem dksX18_init_0 : cX18_init.data.toList.drop 0 = dktX18_init_0 := by decide +kernel
theorem dX18_init_0 : decode cX18_init 0 = .ok (.aload_n 0, 1) := dk_42 (dk_at dksX18_init_0 0 rfl rfl)
theorem dX18_init_1 : decode cX18_init 1 = .ok (.invokespecial 1, 3) := dk_183 0 1 (dk_at dksX18_init_0 1 rfl rfl)
theorem dX18_init_4 : decode cX18_init 4 = .ok (.aload_n 0, 1) := dk_42 (dk_at dksX18_init_0 4 rfl rfl)
theorem dX18_init_5 : decode cX18_init 5 = .ok (.new 7, 3) := dk_187 0 7 (dk_at dksX18_init_0 5 rfl rfl)
theorem dX18_init_8 : decode cX18_init 8 = .ok (.dup, 1) := dk_89 (dk_at dksX18_init_0 8 rfl rfl)
theorem dX18_init_9 : decode cX18_init 9 = .ok (.iconst 1, 1) := dk_4 (dk_at dksX18_init_0 9 rfl rfl)
theorem dX18_init_10 : decode cX18_init 10 = .ok (.invokespecial 9, 3) := dk_183 0 9 (dk_at dksX18_init_0 10 rfl rfl)
theorem dX18_init_13 : decode cX18_init 13 = .ok (.putfield 12, 3) := dk_181 0 12 (dk_at dksX18_init_0 13 rfl rfl)
theorem dX18_init_16 : decode cX18_init 16 = .ok (.aload_n 0, 1) := dk_42 (dk_at dksX18_init_0 16 rfl rfl)
theorem dX18_init_17 : decode cX18_init 17 = .ok (.aload_n 1, 1) := dk_43 (dk_at dksX18_init_0 17 rfl rfl)
theorem dX18_init_18 : decode cX18_init 18 = .ok (.putfield 18, 3) := dk_181 0 18 (dk_at dksX18_init_0 18 rfl rfl)
theorem dX18_init_21 : decode cX18_init 21 = .ok (.return_, 1) := dk_177 (dk_at dksX18_init_0 21 rfl rfl)
abbrev cX10_init : ByteArray := prog_26_method_1_code
abbrev yX10_init : MethodName := { cls := "WornSkin$Text", name := "<init>", desc := "(ZI)V" }
def dkwX10_init_0 : List UInt8 := [42, 183, 0, 1, 42, 27, 181, 0, 7, 42, 28, 181, 0, 13, 177]
abbrev dktX10_init_0 : List UInt8 := dkwX10_init_0 ++ []
theorem dksX10_init_0 : cX10_init.data.toList.drop 0 = dktX10_init_0 := by decide +kernel
theorem dX10_init_0 : decode cX10_init 0 = .ok (.aload_n 0, 1) := dk_42 (dk_at dksX10_init_0 0 rfl rfl)
theorem dX10_init_1 : decode cX10_init 1 = .ok (.invokespecial 1, 3) := dk_183 0 1 (dk_at dksX10_init_0 1 rfl rfl)
theorem dX10_init_4 : decode cX10_init 4 = .ok (.aload_n 0, 1) := dk_42 (dk_at dksX10_init_0 4 rfl rfl)
theorem dX10_init_5 : decode cX10_init 5 = .ok (.iload_n 1, 1) := dk_27 (dk_at dksX10_init_0 5 rfl rfl)
theorem dX10_init_6 : decode cX10_init 6 = .ok (.putfield 7, 3) := dk_181 0 7 (dk_at dksX10_init_0 6 rfl rfl)
theorem dX10_init_9 : decode cX10_init 9 = .ok (.aload_n 0, 1) := dk_42 (dk_at dksX10_init_0 9 rfl rfl)
theorem dX10_init_10 : decode cX10_init 10 = .ok (.iload_n 2, 1) := dk_28 (dk_at dksX10_init_0 10 rfl rfl)
theorem dX10_init_11 : decode cX10_init 11 = .ok (.putfield 13, 3) := dk_181 0 13 (dk_at dksX10_init_0 11 rfl rfl)
theorem dX10_init_14 : decode cX10_init 14 = .ok (.return_, 1) := dk_177 (dk_at dksX10_init_0 14 rfl rfl)
abbrev cX11_init : ByteArray := prog_19_method_1_code
abbrev yX11_init : MethodName := { cls := "WornSkin$Psalm", name := "<init>", desc := "(ZI)V" }
def dkwX11_init_0 : List UInt8 := [42, 27, 28, 183, 0, 1, 177]
abbrev dktX11_init_0 : List UInt8 := dkwX11_init_0 ++ []
theorem dksX11_init_0 : cX11_init.data.toList.drop 0 = dktX11_init_0 := by decide +kernel
theorem dX11_init_0 : decode cX11_init 0 = .ok (.aload_n 0, 1) := dk_42 (dk_at dksX11_init_0 0 rfl rfl)
theorem dX11_init_1 : decode cX11_init 1 = .ok (.iload_n 1, 1) := dk_27 (dk_at dksX11_init_0 1 rfl rfl)
theorem dX11_init_2 : decode cX11_init 2 = .ok (.iload_n 2, 1) := dk_28 (dk_at dksX11_init_0 2 rfl rfl)
theorem dX11_init_3 : decode cX11_init 3 = .ok (.invokespecial 1, 3) := dk_183 0 1 (dk_at dksX11_init_0 3 rfl rfl)
theorem dX11_init_6 : decode cX11_init 6 = .ok (.return_, 1) := dk_177 (dk_at dksX11_init_0 6 rfl rfl)
abbrev cX12_init : ByteArray := prog_21_method_1_code
abbrev yX12_init : MethodName := { cls := "WornSkin$Recipe", name := "<init>", desc := "(ZI)V" }
def dkwX12_init_0 : List UInt8 := [42, 27, 28, 183, 0, 1, 177]
abbrev dktX12_init_0 : List UInt8 := dkwX12_init_0 ++ []
theorem dksX12_init_0 : cX12_init.data.toList.drop 0 = dktX12_init_0 := by decide +kernel
theorem dX12_init_0 : decode cX12_init 0 = .ok (.aload_n 0, 1) := dk_42 (dk_at dksX12_init_0 0 rfl rfl)
theorem dX12_init_1 : decode cX12_init 1 = .ok (.iload_n 1, 1) := dk_27 (dk_at dksX12_init_0 1 rfl rfl)
theorem dX12_init_2 : decode cX12_init 2 = .ok (.iload_n 2, 1) := dk_28 (dk_at dksX12_init_0 2 rfl rfl)
theorem dX12_init_3 : decode cX12_init 3 = .ok (.invokespecial 1, 3) := dk_183 0 1 (dk_at dksX12_init_0 3 rfl rfl)
theorem dX12_init_6 : decode cX12_init 6 = .ok (.return_, 1) := dk_177 (dk_at dksX12_init_0 6 rfl rfl)
abbrev cX13_init : ByteArray := prog_15_method_1_code
abbrev yX13_init : MethodName := { cls := "WornSkin$Oath", name := "<init>", desc := "(ZI)V" }
def dkwX13_init_0 : List UInt8 := [42, 27, 28, 183, 0, 1, 177]
abbrev dktX13_init_0 : List UInt8 := dkwX13_init_0 ++ []
theorem dksX13_init_0 : cX13_init.data.toList.drop 0 = dktX13_init_0 := by decide +kernel
theorem dX13_init_0 : decode cX13_init 0 = .ok (.aload_n 0, 1) := dk_42 (dk_at dksX13_init_0 0 rfl rfl)
theorem dX13_init_1 : decode cX13_init 1 = .ok (.iload_n 1, 1) := dk_27 (dk_at dksX13_init_0 1 rfl rfl)
theorem dX13_init_2 : decode cX13_init 2 = .ok (.iload_n 2, 1) := dk_28 (dk_at dksX13_init_0 2 rfl rfl)
theorem dX13_init_3 : decode cX13_init 3 = .ok (.invokespecial 1, 3) := dk_183 0 1 (dk_at dksX13_init_0 3 rfl rfl)
theorem dX13_init_6 : decode cX13_init 6 = .ok (.return_, 1) := dk_177 (dk_at dksX13_init_0 6 rfl rfl)
abbrev cX9_init : ByteArray := prog_25_method_1_code
abbrev yX9_init : MethodName := { cls := "WornSkin$Skin", name := "<init>", desc := "(II)V" }
def dkwX9_init_0 : List UInt8 := [42, 183, 0, 1, 42, 27, 181, 0, 7, 42, 28, 181, 0, 13, 177]
abbrev dktX9_init_0 : List UInt8 := dkwX9_init_0 ++ []
theorem dksX9_init_0 : cX9_init.data.toList.drop 0 = dktX9_init_0 := by decide +kernel
theorem dX9_init_0 : decode cX9_init 0 = .ok (.aload_n 0, 1) := dk_42 (dk_at dksX9_init_0 0 rfl rfl)
theorem dX9_init_1 : decode cX9_init 1 = .ok (.invokespecial 1, 3) := dk_183 0 1 (dk_at dksX9_init_0 1 rfl rfl)
theorem dX9_init_4 : decode cX9_init 4 = .ok (.aload_n 0, 1) := dk_42 (dk_at dksX9_init_0 4 rfl rfl)
theorem dX9_init_5 : decode cX9_init 5 = .ok (.iload_n 1, 1) := dk_27 (dk_at dksX9_init_0 5 rfl rfl)
theorem dX9_init_6 : decode cX9_init 6 = .ok (.putfield 7, 3) := dk_181 0 7 (dk_at dksX9_init_0 6 rfl rfl)
theorem dX9_init_9 : decode cX9_init 9 = .ok (.aload_n 0, 1) := dk_42 (dk_at dksX9_init_0 9 rfl rfl)
theorem dX9_init_10 : decode cX9_init 10 = .ok (.iload_n 2, 1) := dk_28 (dk_at dksX9_init_0 10 rfl rfl)
theorem dX9_init_11 : decode cX9_init 11 = .ok (.putfield 13, 3) := dk_181 0 13 (dk_at dksX9_init_0 11 rfl rfl)
theorem dX9_init_14 : decode cX9_init 14 = .ok (.return_, 1) := dk_177 (dk_at dksX9_init_0 14 rfl rfl)
abbrev cX4_init : ByteArray := prog_9_method_1_code
abbrev yX4_init : MethodName := { cls := "WornSkin$Library", name := "<init>", desc := "()V" }
def dkwX4_init_3 : List UInt8 := [181, 0, 36, 177]
abbrev dktX4_init_3 : List UInt8 := dkwX4_init_3 ++ []
def dkwX4_init_2 : List UInt8 := [183, 0, 11, 181, 0, 26, 42, 16, 12, 188, 10, 181, 0, 29, 42, 187, 0, 33, 89, 183, 0, 35]
abbrev dktX4_init_2 : List UInt8 := dkwX4_init_2 ++ dktX4_init_3
def dkwX4_init_1 : List UInt8 := [183, 0, 11, 181, 0, 20, 42, 187, 0, 9, 89, 5, 183, 0, 11, 181, 0, 23, 42, 187, 0, 9, 89, 5]
abbrev dktX4_init_1 : List UInt8 := dkwX4_init_1 ++ dktX4_init_2
def dkwX4_init_0 : List UInt8 := [42, 183, 0, 3, 42, 187, 0, 9, 89, 5, 183, 0, 11, 181, 0, 14, 42, 187, 0, 9, 89, 5]
abbrev dktX4_init_0 : List UInt8 := dkwX4_init_0 ++ dktX4_init_1
theorem dksX4_init_0 : cX4_init.data.toList.drop 0 = dktX4_init_0 := by decide +kernel
theorem dksX4_init_1 : cX4_init.data.toList.drop 22 = dktX4_init_1 := dk_seg dksX4_init_0 22 rfl rfl
theorem dksX4_init_2 : cX4_init.data.toList.drop 46 = dktX4_init_2 := dk_seg dksX4_init_1 24 rfl rfl
theorem dksX4_init_3 : cX4_init.data.toList.drop 68 = dktX4_init_3 := dk_seg dksX4_init_2 22 rfl rfl
theorem dX4_init_0 : decode cX4_init 0 = .ok (.aload_n 0, 1) := dk_42 (dk_at dksX4_init_0 0 rfl rfl)
theorem dX4_init_1 : decode cX4_init 1 = .ok (.invokespecial 3, 3) := dk_183 0 3 (dk_at dksX4_init_0 1 rfl rfl)
theorem dX4_init_4 : decode cX4_init 4 = .ok (.aload_n 0, 1) := dk_42 (dk_at dksX4_init_0 4 rfl rfl)
theorem dX4_init_5 : decode cX4_init 5 = .ok (.new 9, 3) := dk_187 0 9 (dk_at dksX4_init_0 5 rfl rfl)
theorem dX4_init_8 : decode cX4_init 8 = .ok (.dup, 1) := dk_89 (dk_at dksX4_init_0 8 rfl rfl)
theorem dX4_init_9 : decode cX4_init 9 = .ok (.iconst 2, 1) := dk_5 (dk_at dksX4_init_0 9 rfl rfl)
theorem dX4_init_10 : decode cX4_init 10 = .ok (.invokespecial 11, 3) := dk_183 0 11 (dk_at dksX4_init_0 10 rfl rfl)
theorem dX4_init_13 : decode cX4_init 13 = .ok (.putfield 14, 3) := dk_181 0 14 (dk_at dksX4_init_0 13 rfl rfl)
theorem dX4_init_16 : decode cX4_init 16 = .ok (.aload_n 0, 1) := dk_42 (dk_at dksX4_init_0 16 rfl rfl)
theorem dX4_init_17 : decode cX4_init 17 = .ok (.new 9, 3) := dk_187 0 9 (dk_at dksX4_init_0 17 rfl rfl)
theorem dX4_init_20 : decode cX4_init 20 = .ok (.dup, 1) := dk_89 (dk_at dksX4_init_0 20 rfl rfl)
theorem dX4_init_21 : decode cX4_init 21 = .ok (.iconst 2, 1) := dk_5 (dk_at dksX4_init_0 21 rfl rfl)
theorem dX4_init_22 : decode cX4_init 22 = .ok (.invokespecial 11, 3) := dk_183 0 11 (dk_at dksX4_init_1 0 rfl rfl)
theorem dX4_init_25 : decode cX4_init 25 = .ok (.putfield 20, 3) := dk_181 0 20 (dk_at dksX4_init_1 3 rfl rfl)
theorem dX4_init_28 : decode cX4_init 28 = .ok (.aload_n 0, 1) := dk_42 (dk_at dksX4_init_1 6 rfl rfl)
theorem dX4_init_29 : decode cX4_init 29 = .ok (.new 9, 3) := dk_187 0 9 (dk_at dksX4_init_1 7 rfl rfl)
theorem dX4_init_32 : decode cX4_init 32 = .ok (.dup, 1) := dk_89 (dk_at dksX4_init_1 10 rfl rfl)
theorem dX4_init_33 : decode cX4_init 33 = .ok (.iconst 2, 1) := dk_5 (dk_at dksX4_init_1 11 rfl rfl)
theorem dX4_init_34 : decode cX4_init 34 = .ok (.invokespecial 11, 3) := dk_183 0 11 (dk_at dksX4_init_1 12 rfl rfl)
theorem dX4_init_37 : decode cX4_init 37 = .ok (.putfield 23, 3) := dk_181 0 23 (dk_at dksX4_init_1 15 rfl rfl)
theorem dX4_init_40 : decode cX4_init 40 = .ok (.aload_n 0, 1) := dk_42 (dk_at dksX4_init_1 18 rfl rfl)
theorem dX4_init_41 : decode cX4_init 41 = .ok (.new 9, 3) := dk_187 0 9 (dk_at dksX4_init_1 19 rfl rfl)
theorem dX4_init_44 : decode cX4_init 44 = .ok (.dup, 1) := dk_89 (dk_at dksX4_init_1 22 rfl rfl)
theorem dX4_init_45 : decode cX4_init 45 = .ok (.iconst 2, 1) := dk_5 (dk_at dksX4_init_1 23 rfl rfl)
theorem dX4_init_46 : decode cX4_init 46 = .ok (.invokespecial 11, 3) := dk_183 0 11 (dk_at dksX4_init_2 0 rfl rfl)
theorem dX4_init_49 : decode cX4_init 49 = .ok (.putfield 26, 3) := dk_181 0 26 (dk_at dksX4_init_2 3 rfl rfl)
theorem dX4_init_52 : decode cX4_init 52 = .ok (.aload_n 0, 1) := dk_42 (dk_at dksX4_init_2 6 rfl rfl)
theorem dX4_init_53 : decode cX4_init 53 = .ok (.bipush 12, 2) := dk_16 12 (dk_at dksX4_init_2 7 rfl rfl)
theorem dX4_init_55 : decode cX4_init 55 = .ok (.newarray .int, 2) := dk_188_10 (dk_at dksX4_init_2 9 rfl rfl)
theorem dX4_init_57 : decode cX4_init 57 = .ok (.putfield 29, 3) := dk_181 0 29 (dk_at dksX4_init_2 11 rfl rfl)
theorem dX4_init_60 : decode cX4_init 60 = .ok (.aload_n 0, 1) := dk_42 (dk_at dksX4_init_2 14 rfl rfl)
theorem dX4_init_61 : decode cX4_init 61 = .ok (.new 33, 3) := dk_187 0 33 (dk_at dksX4_init_2 15 rfl rfl)
theorem dX4_init_64 : decode cX4_init 64 = .ok (.dup, 1) := dk_89 (dk_at dksX4_init_2 18 rfl rfl)
theorem dX4_init_65 : decode cX4_init 65 = .ok (.invokespecial 35, 3) := dk_183 0 35 (dk_at dksX4_init_2 19 rfl rfl)
theorem dX4_init_68 : decode cX4_init 68 = .ok (.putfield 36, 3) := dk_181 0 36 (dk_at dksX4_init_3 0 rfl rfl)
theorem dX4_init_71 : decode cX4_init 71 = .ok (.return_, 1) := dk_177 (dk_at dksX4_init_3 3 rfl rfl)
abbrev cX31_init : ByteArray := prog_12_method_1_code
abbrev yX31_init : MethodName := { cls := "WornSkin$Mark", name := "<init>", desc := "(LWornSkin$Shelf;Ljava/util/ArrayList;Ljava/util/ArrayList;)V" }
def dkwX31_init_0 : List UInt8 := [42, 183, 0, 1, 42, 43, 181, 0, 7, 42, 44, 181, 0, 13, 42, 45, 181, 0, 17, 177]
abbrev dktX31_init_0 : List UInt8 := dkwX31_init_0 ++ []
theorem dksX31_init_0 : cX31_init.data.toList.drop 0 = dktX31_init_0 := by decide +kernel
theorem dX31_init_0 : decode cX31_init 0 = .ok (.aload_n 0, 1) := dk_42 (dk_at dksX31_init_0 0 rfl rfl)
theorem dX31_init_1 : decode cX31_init 1 = .ok (.invokespecial 1, 3) := dk_183 0 1 (dk_at dksX31_init_0 1 rfl rfl)
theorem dX31_init_4 : decode cX31_init 4 = .ok (.aload_n 0, 1) := dk_42 (dk_at dksX31_init_0 4 rfl rfl)
theorem dX31_init_5 : decode cX31_init 5 = .ok (.aload_n 1, 1) := dk_43 (dk_at dksX31_init_0 5 rfl rfl)
theorem dX31_init_6 : decode cX31_init 6 = .ok (.putfield 7, 3) := dk_181 0 7 (dk_at dksX31_init_0 6 rfl rfl)
theorem dX31_init_9 : decode cX31_init 9 = .ok (.aload_n 0, 1) := dk_42 (dk_at dksX31_init_0 9 rfl rfl)
theorem dX31_init_10 : decode cX31_init 10 = .ok (.aload_n 2, 1) := dk_44 (dk_at dksX31_init_0 10 rfl rfl)
theorem dX31_init_11 : decode cX31_init 11 = .ok (.putfield 13, 3) := dk_181 0 13 (dk_at dksX31_init_0 11 rfl rfl)
theorem dX31_init_14 : decode cX31_init 14 = .ok (.aload_n 0, 1) := dk_42 (dk_at dksX31_init_0 14 rfl rfl)
theorem dX31_init_15 : decode cX31_init 15 = .ok (.aload_n 3, 1) := dk_45 (dk_at dksX31_init_0 15 rfl rfl)
theorem dX31_init_16 : decode cX31_init 16 = .ok (.putfield 17, 3) := dk_181 0 17 (dk_at dksX31_init_0 16 rfl rfl)
theorem dX31_init_19 : decode cX31_init 19 = .ok (.return_, 1) := dk_177 (dk_at dksX31_init_0 19 rfl rfl)
abbrev cX27_init : ByteArray := prog_10_method_1_code
abbrev yX27_init : MethodName := { cls := "WornSkin$Line", name := "<init>", desc := "()V" }
theorem dX27_init_0 : decode cX27_init 0 = .ok (.aload_n 0, 1) := by decide +kernel
theorem dX27_init_1 : decode cX27_init 1 = .ok (.invokespecial 1, 3) := by decide +kernel
theorem dX27_init_4 : decode cX27_init 4 = .ok (.return_, 1) := by decide +kernel
abbrev cX28_init : ByteArray := prog_28_method_1_code
abbrev yX28_init : MethodName := { cls := "WornSkin$Weeks", name := "<init>", desc := "()V" }
theorem dX28_init_0 : decode cX28_init 0 = .ok (.aload_n 0, 1) := by decide +kernel
theorem dX28_init_1 : decode cX28_init 1 = .ok (.invokespecial 1, 3) := by decide +kernel
theorem dX28_init_4 : decode cX28_init 4 = .ok (.return_, 1) := by decide +kernel
abbrev cX29_init : ByteArray := prog_23_method_1_code
abbrev yX29_init : MethodName := { cls := "WornSkin$Scrapes", name := "<init>", desc := "(IZ)V" }
def dkwX29_init_0 : List UInt8 := [42, 183, 0, 1, 42, 27, 181, 0, 7, 42, 28, 181, 0, 13, 177]
abbrev dktX29_init_0 : List UInt8 := dkwX29_init_0 ++ []
theorem dksX29_init_0 : cX29_init.data.toList.drop 0 = dktX29_init_0 := by decide +kernel
theorem dX29_init_0 : decode cX29_init 0 = .ok (.aload_n 0, 1) := dk_42 (dk_at dksX29_init_0 0 rfl rfl)
theorem dX29_init_1 : decode cX29_init 1 = .ok (.invokespecial 1, 3) := dk_183 0 1 (dk_at dksX29_init_0 1 rfl rfl)
theorem dX29_init_4 : decode cX29_init 4 = .ok (.aload_n 0, 1) := dk_42 (dk_at dksX29_init_0 4 rfl rfl)
theorem dX29_init_5 : decode cX29_init 5 = .ok (.iload_n 1, 1) := dk_27 (dk_at dksX29_init_0 5 rfl rfl)
theorem dX29_init_6 : decode cX29_init 6 = .ok (.putfield 7, 3) := dk_181 0 7 (dk_at dksX29_init_0 6 rfl rfl)
theorem dX29_init_9 : decode cX29_init 9 = .ok (.aload_n 0, 1) := dk_42 (dk_at dksX29_init_0 9 rfl rfl)
theorem dX29_init_10 : decode cX29_init 10 = .ok (.iload_n 2, 1) := dk_28 (dk_at dksX29_init_0 10 rfl rfl)
theorem dX29_init_11 : decode cX29_init 11 = .ok (.putfield 13, 3) := dk_181 0 13 (dk_at dksX29_init_0 11 rfl rfl)
theorem dX29_init_14 : decode cX29_init 14 = .ok (.return_, 1) := dk_177 (dk_at dksX29_init_0 14 rfl rfl)
abbrev cX30_init : ByteArray := prog_29_method_1_code
abbrev yX30_init : MethodName := { cls := "WornSkin$Writes", name := "<init>", desc := "(III)V" }
def dkwX30_init_0 : List UInt8 := [42, 183, 0, 1, 42, 27, 181, 0, 7, 42, 28, 181, 0, 13, 42, 29, 181, 0, 16, 177]
abbrev dktX30_init_0 : List UInt8 := dkwX30_init_0 ++ []
theorem dksX30_init_0 : cX30_init.data.toList.drop 0 = dktX30_init_0 := by decide +kernel
theorem dX30_init_0 : decode cX30_init 0 = .ok (.aload_n 0, 1) := dk_42 (dk_at dksX30_init_0 0 rfl rfl)
theorem dX30_init_1 : decode cX30_init 1 = .ok (.invokespecial 1, 3) := dk_183 0 1 (dk_at dksX30_init_0 1 rfl rfl)
theorem dX30_init_4 : decode cX30_init 4 = .ok (.aload_n 0, 1) := dk_42 (dk_at dksX30_init_0 4 rfl rfl)
theorem dX30_init_5 : decode cX30_init 5 = .ok (.iload_n 1, 1) := dk_27 (dk_at dksX30_init_0 5 rfl rfl)
theorem dX30_init_6 : decode cX30_init 6 = .ok (.putfield 7, 3) := dk_181 0 7 (dk_at dksX30_init_0 6 rfl rfl)
theorem dX30_init_9 : decode cX30_init 9 = .ok (.aload_n 0, 1) := dk_42 (dk_at dksX30_init_0 9 rfl rfl)
theorem dX30_init_10 : decode cX30_init 10 = .ok (.iload_n 2, 1) := dk_28 (dk_at dksX30_init_0 10 rfl rfl)
theorem dX30_init_11 : decode cX30_init 11 = .ok (.putfield 13, 3) := dk_181 0 13 (dk_at dksX30_init_0 11 rfl rfl)
theorem dX30_init_14 : decode cX30_init 14 = .ok (.aload_n 0, 1) := dk_42 (dk_at dksX30_init_0 14 rfl rfl)
theorem dX30_init_15 : decode cX30_init 15 = .ok (.iload_n 3, 1) := dk_29 (dk_at dksX30_init_0 15 rfl rfl)
theorem dX30_init_16 : decode cX30_init 16 = .ok (.putfield 16, 3) := dk_181 0 16 (dk_at dksX30_init_0 16 rfl rfl)
theorem dX30_init_19 : decode cX30_init 19 = .ok (.return_, 1) := dk_177 (dk_at dksX30_init_0 19 rfl rfl)
abbrev cX21_with : ByteArray := prog_18_method_2_code
abbrev yX21_with : MethodName := { cls := "WornSkin$Plus", name := "with", desc := "(II)I" }
def dkwX21_with_0 : List UInt8 := [27, 28, 96, 172]
abbrev dktX21_with_0 : List UInt8 := dkwX21_with_0 ++ []
theorem dksX21_with_0 : cX21_with.data.toList.drop 0 = dktX21_with_0 := by decide +kernel
theorem dX21_with_0 : decode cX21_with 0 = .ok (.iload_n 1, 1) := dk_27 (dk_at dksX21_with_0 0 rfl rfl)
theorem dX21_with_1 : decode cX21_with 1 = .ok (.iload_n 2, 1) := dk_28 (dk_at dksX21_with_0 1 rfl rfl)
theorem dX21_with_2 : decode cX21_with 2 = .ok (.iadd, 1) := dk_96 (dk_at dksX21_with_0 2 rfl rfl)
theorem dX21_with_3 : decode cX21_with 3 = .ok (.ireturn, 1) := dk_172 (dk_at dksX21_with_0 3 rfl rfl)
abbrev cX22_with : ByteArray := prog_13_method_2_code
abbrev yX22_with : MethodName := { cls := "WornSkin$Minus", name := "with", desc := "(II)I" }
def dkwX22_with_0 : List UInt8 := [27, 28, 100, 172]
abbrev dktX22_with_0 : List UInt8 := dkwX22_with_0 ++ []
theorem dksX22_with_0 : cX22_with.data.toList.drop 0 = dktX22_with_0 := by decide +kernel
theorem dX22_with_0 : decode cX22_with 0 = .ok (.iload_n 1, 1) := dk_27 (dk_at dksX22_with_0 0 rfl rfl)
theorem dX22_with_1 : decode cX22_with 1 = .ok (.iload_n 2, 1) := dk_28 (dk_at dksX22_with_0 1 rfl rfl)
theorem dX22_with_2 : decode cX22_with 2 = .ok (.isub, 1) := dk_100 (dk_at dksX22_with_0 2 rfl rfl)
theorem dX22_with_3 : decode cX22_with 3 = .ok (.ireturn, 1) := dk_172 (dk_at dksX22_with_0 3 rfl rfl)
abbrev cX20_with : ByteArray := prog_27_method_2_code
abbrev yX20_with : MethodName := { cls := "WornSkin$Times", name := "with", desc := "(II)I" }
def dkwX20_with_0 : List UInt8 := [27, 28, 104, 172]
abbrev dktX20_with_0 : List UInt8 := dkwX20_with_0 ++ []
theorem dksX20_with_0 : cX20_with.data.toList.drop 0 = dktX20_with_0 := by decide +kernel
theorem dX20_with_0 : decode cX20_with 0 = .ok (.iload_n 1, 1) := dk_27 (dk_at dksX20_with_0 0 rfl rfl)
theorem dX20_with_1 : decode cX20_with 1 = .ok (.iload_n 2, 1) := dk_28 (dk_at dksX20_with_0 1 rfl rfl)
theorem dX20_with_2 : decode cX20_with 2 = .ok (.imul, 1) := dk_104 (dk_at dksX20_with_0 2 rfl rfl)
theorem dX20_with_3 : decode cX20_with 3 = .ok (.ireturn, 1) := dk_172 (dk_at dksX20_with_0 3 rfl rfl)
abbrev cX25_with : ByteArray := prog_2_method_2_code
abbrev yX25_with : MethodName := { cls := "WornSkin$And", name := "with", desc := "(II)I" }
def dkwX25_with_0 : List UInt8 := [27, 153, 0, 11, 28, 153, 0, 7, 4, 167, 0, 4, 3, 172]
abbrev dktX25_with_0 : List UInt8 := dkwX25_with_0 ++ []
theorem dksX25_with_0 : cX25_with.data.toList.drop 0 = dktX25_with_0 := by decide +kernel
theorem dX25_with_0 : decode cX25_with 0 = .ok (.iload_n 1, 1) := dk_27 (dk_at dksX25_with_0 0 rfl rfl)
theorem dX25_with_1 : decode cX25_with 1 = .ok (.ifCond .eq 11, 3) := dk_153 0 11 (dk_at dksX25_with_0 1 rfl rfl)
theorem dX25_with_4 : decode cX25_with 4 = .ok (.iload_n 2, 1) := dk_28 (dk_at dksX25_with_0 4 rfl rfl)
theorem dX25_with_5 : decode cX25_with 5 = .ok (.ifCond .eq 7, 3) := dk_153 0 7 (dk_at dksX25_with_0 5 rfl rfl)
theorem dX25_with_8 : decode cX25_with 8 = .ok (.iconst 1, 1) := dk_4 (dk_at dksX25_with_0 8 rfl rfl)
theorem dX25_with_9 : decode cX25_with 9 = .ok (.goto 4, 3) := dk_167 0 4 (dk_at dksX25_with_0 9 rfl rfl)
theorem dX25_with_12 : decode cX25_with 12 = .ok (.iconst 0, 1) := dk_3 (dk_at dksX25_with_0 12 rfl rfl)
theorem dX25_with_13 : decode cX25_with 13 = .ok (.ireturn, 1) := dk_172 (dk_at dksX25_with_0 13 rfl rfl)
abbrev cX26_with : ByteArray := prog_16_method_2_code
abbrev yX26_with : MethodName := { cls := "WornSkin$Or", name := "with", desc := "(II)I" }
def dkwX26_with_0 : List UInt8 := [27, 154, 0, 7, 28, 153, 0, 7, 4, 167, 0, 4, 3, 172]
abbrev dktX26_with_0 : List UInt8 := dkwX26_with_0 ++ []
theorem dksX26_with_0 : cX26_with.data.toList.drop 0 = dktX26_with_0 := by decide +kernel
theorem dX26_with_0 : decode cX26_with 0 = .ok (.iload_n 1, 1) := dk_27 (dk_at dksX26_with_0 0 rfl rfl)
theorem dX26_with_1 : decode cX26_with 1 = .ok (.ifCond .ne 7, 3) := dk_154 0 7 (dk_at dksX26_with_0 1 rfl rfl)
theorem dX26_with_4 : decode cX26_with 4 = .ok (.iload_n 2, 1) := dk_28 (dk_at dksX26_with_0 4 rfl rfl)
theorem dX26_with_5 : decode cX26_with 5 = .ok (.ifCond .eq 7, 3) := dk_153 0 7 (dk_at dksX26_with_0 5 rfl rfl)
theorem dX26_with_8 : decode cX26_with 8 = .ok (.iconst 1, 1) := dk_4 (dk_at dksX26_with_0 8 rfl rfl)
theorem dX26_with_9 : decode cX26_with 9 = .ok (.goto 4, 3) := dk_167 0 4 (dk_at dksX26_with_0 9 rfl rfl)
theorem dX26_with_12 : decode cX26_with 12 = .ok (.iconst 0, 1) := dk_3 (dk_at dksX26_with_0 12 rfl rfl)
theorem dX26_with_13 : decode cX26_with 13 = .ok (.ireturn, 1) := dk_172 (dk_at dksX26_with_0 13 rfl rfl)
abbrev cX23_with : ByteArray := prog_8_method_2_code
abbrev yX23_with : MethodName := { cls := "WornSkin$Less", name := "with", desc := "(II)I" }
def dkwX23_with_0 : List UInt8 := [27, 28, 162, 0, 7, 4, 167, 0, 4, 3, 172]
abbrev dktX23_with_0 : List UInt8 := dkwX23_with_0 ++ []
theorem dksX23_with_0 : cX23_with.data.toList.drop 0 = dktX23_with_0 := by decide +kernel
theorem dX23_with_0 : decode cX23_with 0 = .ok (.iload_n 1, 1) := dk_27 (dk_at dksX23_with_0 0 rfl rfl)
theorem dX23_with_1 : decode cX23_with 1 = .ok (.iload_n 2, 1) := dk_28 (dk_at dksX23_with_0 1 rfl rfl)
theorem dX23_with_2 : decode cX23_with 2 = .ok (.if_icmp .ge 7, 3) := dk_162 0 7 (dk_at dksX23_with_0 2 rfl rfl)
theorem dX23_with_5 : decode cX23_with 5 = .ok (.iconst 1, 1) := dk_4 (dk_at dksX23_with_0 5 rfl rfl)
theorem dX23_with_6 : decode cX23_with 6 = .ok (.goto 4, 3) := dk_167 0 4 (dk_at dksX23_with_0 6 rfl rfl)
theorem dX23_with_9 : decode cX23_with 9 = .ok (.iconst 0, 1) := dk_3 (dk_at dksX23_with_0 9 rfl rfl)
theorem dX23_with_10 : decode cX23_with 10 = .ok (.ireturn, 1) := dk_172 (dk_at dksX23_with_0 10 rfl rfl)
abbrev cX24_with : ByteArray := prog_22_method_2_code
abbrev yX24_with : MethodName := { cls := "WornSkin$Same", name := "with", desc := "(II)I" }
def dkwX24_with_0 : List UInt8 := [27, 28, 160, 0, 7, 4, 167, 0, 4, 3, 172]
abbrev dktX24_with_0 : List UInt8 := dkwX24_with_0 ++ []
theorem dksX24_with_0 : cX24_with.data.toList.drop 0 = dktX24_with_0 := by decide +kernel
theorem dX24_with_0 : decode cX24_with 0 = .ok (.iload_n 1, 1) := dk_27 (dk_at dksX24_with_0 0 rfl rfl)
theorem dX24_with_1 : decode cX24_with 1 = .ok (.iload_n 2, 1) := dk_28 (dk_at dksX24_with_0 1 rfl rfl)
theorem dX24_with_2 : decode cX24_with 2 = .ok (.if_icmp .ne 7, 3) := dk_160 0 7 (dk_at dksX24_with_0 2 rfl rfl)
theorem dX24_with_5 : decode cX24_with 5 = .ok (.iconst 1, 1) := dk_4 (dk_at dksX24_with_0 5 rfl rfl)
theorem dX24_with_6 : decode cX24_with 6 = .ok (.goto 4, 3) := dk_167 0 4 (dk_at dksX24_with_0 6 rfl rfl)
theorem dX24_with_9 : decode cX24_with 9 = .ok (.iconst 0, 1) := dk_3 (dk_at dksX24_with_0 9 rfl rfl)
theorem dX24_with_10 : decode cX24_with 10 = .ok (.ireturn, 1) := dk_172 (dk_at dksX24_with_0 10 rfl rfl)
abbrev cX19_on : ByteArray := prog_11_method_3_code
abbrev yX19_on : MethodName := { cls := "WornSkin$Link", name := "on", desc := "(ILWornSkin$Facts;)I" }
def dkwX19_on_0 : List UInt8 := [42, 27, 42, 180, 0, 7, 44, 182, 0, 13, 182, 0, 19, 172]
abbrev dktX19_on_0 : List UInt8 := dkwX19_on_0 ++ []
theorem dksX19_on_0 : cX19_on.data.toList.drop 0 = dktX19_on_0 := by decide +kernel
theorem dX19_on_0 : decode cX19_on 0 = .ok (.aload_n 0, 1) := dk_42 (dk_at dksX19_on_0 0 rfl rfl)
theorem dX19_on_1 : decode cX19_on 1 = .ok (.iload_n 1, 1) := dk_27 (dk_at dksX19_on_0 1 rfl rfl)
theorem dX19_on_2 : decode cX19_on 2 = .ok (.aload_n 0, 1) := dk_42 (dk_at dksX19_on_0 2 rfl rfl)
theorem dX19_on_3 : decode cX19_on 3 = .ok (.getfield 7, 3) := dk_180 0 7 (dk_at dksX19_on_0 3 rfl rfl)
theorem dX19_on_6 : decode cX19_on 6 = .ok (.aload_n 2, 1) := dk_44 (dk_at dksX19_on_0 6 rfl rfl)
theorem dX19_on_7 : decode cX19_on 7 = .ok (.invokevirtual 13, 3) := dk_182 0 13 (dk_at dksX19_on_0 7 rfl rfl)
theorem dX19_on_10 : decode cX19_on 10 = .ok (.invokevirtual 19, 3) := dk_182 0 19 (dk_at dksX19_on_0 10 rfl rfl)
theorem dX19_on_13 : decode cX19_on 13 = .ok (.ireturn, 1) := dk_172 (dk_at dksX19_on_0 13 rfl rfl)
abbrev cX15_of : ByteArray := prog_5_method_2_code
abbrev yX15_of : MethodName := { cls := "WornSkin$Fact", name := "of", desc := "(LWornSkin$Facts;)I" }
def dkwX15_of_0 : List UInt8 := [43, 180, 0, 13, 42, 180, 0, 7, 46, 172]
abbrev dktX15_of_0 : List UInt8 := dkwX15_of_0 ++ []
theorem dksX15_of_0 : cX15_of.data.toList.drop 0 = dktX15_of_0 := by decide +kernel
theorem dX15_of_0 : decode cX15_of 0 = .ok (.aload_n 1, 1) := dk_43 (dk_at dksX15_of_0 0 rfl rfl)
theorem dX15_of_1 : decode cX15_of 1 = .ok (.getfield 13, 3) := dk_180 0 13 (dk_at dksX15_of_0 1 rfl rfl)
theorem dX15_of_4 : decode cX15_of 4 = .ok (.aload_n 0, 1) := dk_42 (dk_at dksX15_of_0 4 rfl rfl)
theorem dX15_of_5 : decode cX15_of 5 = .ok (.getfield 7, 3) := dk_180 0 7 (dk_at dksX15_of_0 5 rfl rfl)
theorem dX15_of_8 : decode cX15_of 8 = .ok (.iaload, 1) := dk_46 (dk_at dksX15_of_0 8 rfl rfl)
theorem dX15_of_9 : decode cX15_of 9 = .ok (.ireturn, 1) := dk_172 (dk_at dksX15_of_0 9 rfl rfl)
abbrev cX16_of : ByteArray := prog_17_method_2_code
abbrev yX16_of : MethodName := { cls := "WornSkin$Plain", name := "of", desc := "(LWornSkin$Facts;)I" }
theorem dX16_of_0 : decode cX16_of 0 = .ok (.aload_n 0, 1) := by decide +kernel
theorem dX16_of_1 : decode cX16_of 1 = .ok (.getfield 7, 3) := by decide +kernel
theorem dX16_of_4 : decode cX16_of 4 = .ok (.ireturn, 1) := by decide +kernel
abbrev cX17_of : ByteArray := prog_14_method_2_code
abbrev yX17_of : MethodName := { cls := "WornSkin$Not", name := "of", desc := "(LWornSkin$Facts;)I" }
def dkwX17_of_0 : List UInt8 := [42, 180, 0, 7, 43, 182, 0, 13, 154, 0, 7, 4, 167, 0, 4, 3, 172]
abbrev dktX17_of_0 : List UInt8 := dkwX17_of_0 ++ []
theorem dksX17_of_0 : cX17_of.data.toList.drop 0 = dktX17_of_0 := by decide +kernel
theorem dX17_of_0 : decode cX17_of 0 = .ok (.aload_n 0, 1) := dk_42 (dk_at dksX17_of_0 0 rfl rfl)
theorem dX17_of_1 : decode cX17_of 1 = .ok (.getfield 7, 3) := dk_180 0 7 (dk_at dksX17_of_0 1 rfl rfl)
theorem dX17_of_4 : decode cX17_of 4 = .ok (.aload_n 1, 1) := dk_43 (dk_at dksX17_of_0 4 rfl rfl)
theorem dX17_of_5 : decode cX17_of 5 = .ok (.invokevirtual 13, 3) := dk_182 0 13 (dk_at dksX17_of_0 5 rfl rfl)
theorem dX17_of_8 : decode cX17_of 8 = .ok (.ifCond .ne 7, 3) := dk_154 0 7 (dk_at dksX17_of_0 8 rfl rfl)
theorem dX17_of_11 : decode cX17_of 11 = .ok (.iconst 1, 1) := dk_4 (dk_at dksX17_of_0 11 rfl rfl)
theorem dX17_of_12 : decode cX17_of 12 = .ok (.goto 4, 3) := dk_167 0 4 (dk_at dksX17_of_0 12 rfl rfl)
theorem dX17_of_15 : decode cX17_of 15 = .ok (.iconst 0, 1) := dk_3 (dk_at dksX17_of_0 15 rfl rfl)
theorem dX17_of_16 : decode cX17_of 16 = .ok (.ireturn, 1) := dk_172 (dk_at dksX17_of_0 16 rfl rfl)
abbrev cX18_of : ByteArray := prog_3_method_2_code
abbrev yX18_of : MethodName := { cls := "WornSkin$Chain", name := "of", desc := "(LWornSkin$Facts;)I" }
def dkwX18_of_1 : List UInt8 := [180, 0, 12, 29, 182, 0, 30, 192, 0, 34, 28, 43, 182, 0, 36, 61, 132, 3, 1, 167, 255, 225, 28, 172]
abbrev dktX18_of_1 : List UInt8 := dkwX18_of_1 ++ []
def dkwX18_of_0 : List UInt8 := [42, 180, 0, 18, 43, 182, 0, 22, 61, 3, 62, 29, 42, 180, 0, 12, 182, 0, 26, 162, 0, 26, 42]
abbrev dktX18_of_0 : List UInt8 := dkwX18_of_0 ++ dktX18_of_1
theorem dksX18_of_0 : cX18_of.data.toList.drop 0 = dktX18_of_0 := by decide +kernel
theorem dksX18_of_1 : cX18_of.data.toList.drop 23 = dktX18_of_1 := dk_seg dksX18_of_0 23 rfl rfl
theorem dX18_of_0 : decode cX18_of 0 = .ok (.aload_n 0, 1) := dk_42 (dk_at dksX18_of_0 0 rfl rfl)
theorem dX18_of_1 : decode cX18_of 1 = .ok (.getfield 18, 3) := dk_180 0 18 (dk_at dksX18_of_0 1 rfl rfl)
theorem dX18_of_4 : decode cX18_of 4 = .ok (.aload_n 1, 1) := dk_43 (dk_at dksX18_of_0 4 rfl rfl)
theorem dX18_of_5 : decode cX18_of 5 = .ok (.invokevirtual 22, 3) := dk_182 0 22 (dk_at dksX18_of_0 5 rfl rfl)
theorem dX18_of_8 : decode cX18_of 8 = .ok (.istore_n 2, 1) := dk_61 (dk_at dksX18_of_0 8 rfl rfl)
theorem dX18_of_9 : decode cX18_of 9 = .ok (.iconst 0, 1) := dk_3 (dk_at dksX18_of_0 9 rfl rfl)
theorem dX18_of_10 : decode cX18_of 10 = .ok (.istore_n 3, 1) := dk_62 (dk_at dksX18_of_0 10 rfl rfl)
theorem dX18_of_11 : decode cX18_of 11 = .ok (.iload_n 3, 1) := dk_29 (dk_at dksX18_of_0 11 rfl rfl)
theorem dX18_of_12 : decode cX18_of 12 = .ok (.aload_n 0, 1) := dk_42 (dk_at dksX18_of_0 12 rfl rfl)
theorem dX18_of_13 : decode cX18_of 13 = .ok (.getfield 12, 3) := dk_180 0 12 (dk_at dksX18_of_0 13 rfl rfl)
theorem dX18_of_16 : decode cX18_of 16 = .ok (.invokevirtual 26, 3) := dk_182 0 26 (dk_at dksX18_of_0 16 rfl rfl)
theorem dX18_of_19 : decode cX18_of 19 = .ok (.if_icmp .ge 26, 3) := dk_162 0 26 (dk_at dksX18_of_0 19 rfl rfl)
theorem dX18_of_22 : decode cX18_of 22 = .ok (.aload_n 0, 1) := dk_42 (dk_at dksX18_of_0 22 rfl rfl)
theorem dX18_of_23 : decode cX18_of 23 = .ok (.getfield 12, 3) := dk_180 0 12 (dk_at dksX18_of_1 0 rfl rfl)
theorem dX18_of_26 : decode cX18_of 26 = .ok (.iload_n 3, 1) := dk_29 (dk_at dksX18_of_1 3 rfl rfl)
theorem dX18_of_27 : decode cX18_of 27 = .ok (.invokevirtual 30, 3) := dk_182 0 30 (dk_at dksX18_of_1 4 rfl rfl)
theorem dX18_of_30 : decode cX18_of 30 = .ok (.checkcast 34, 3) := dk_192 0 34 (dk_at dksX18_of_1 7 rfl rfl)
theorem dX18_of_33 : decode cX18_of 33 = .ok (.iload_n 2, 1) := dk_28 (dk_at dksX18_of_1 10 rfl rfl)
theorem dX18_of_34 : decode cX18_of 34 = .ok (.aload_n 1, 1) := dk_43 (dk_at dksX18_of_1 11 rfl rfl)
theorem dX18_of_35 : decode cX18_of 35 = .ok (.invokevirtual 36, 3) := dk_182 0 36 (dk_at dksX18_of_1 12 rfl rfl)
theorem dX18_of_38 : decode cX18_of 38 = .ok (.istore_n 2, 1) := dk_61 (dk_at dksX18_of_1 15 rfl rfl)
theorem dX18_of_39 : decode cX18_of 39 = .ok (.iinc 3 1, 3) := dk_132 3 1 (dk_at dksX18_of_1 16 rfl rfl)
theorem dX18_of_42 : decode cX18_of 42 = .ok (.goto (-31), 3) := dk_167 255 225 (dk_at dksX18_of_1 19 rfl rfl)
theorem dX18_of_45 : decode cX18_of 45 = .ok (.iload_n 2, 1) := dk_28 (dk_at dksX18_of_1 22 rfl rfl)
theorem dX18_of_46 : decode cX18_of 46 = .ok (.ireturn, 1) := dk_172 (dk_at dksX18_of_1 23 rfl rfl)
abbrev cX10_wet : ByteArray := prog_26_method_3_code
abbrev yX10_wet : MethodName := { cls := "WornSkin$Text", name := "wet", desc := "(I)I" }
theorem dX10_wet_0 : decode cX10_wet 0 = .ok (.iload_n 1, 1) := by decide +kernel
theorem dX10_wet_1 : decode cX10_wet 1 = .ok (.ireturn, 1) := by decide +kernel
abbrev cX10_deep : ByteArray := prog_26_method_4_code
abbrev yX10_deep : MethodName := { cls := "WornSkin$Text", name := "deep", desc := "(I)I" }
theorem dX10_deep_0 : decode cX10_deep 0 = .ok (.iload_n 1, 1) := by decide +kernel
theorem dX10_deep_1 : decode cX10_deep 1 = .ok (.ireturn, 1) := by decide +kernel
abbrev cX10_kind : ByteArray := prog_26_method_2_code
abbrev yX10_kind : MethodName := { cls := "WornSkin$Text", name := "kind", desc := "()I" }
theorem dX10_kind_0 : decode cX10_kind 0 = .ok (.iconst 0, 1) := by decide +kernel
theorem dX10_kind_1 : decode cX10_kind 1 = .ok (.ireturn, 1) := by decide +kernel
abbrev cX10_isOath : ByteArray := prog_26_method_5_code
abbrev yX10_isOath : MethodName := { cls := "WornSkin$Text", name := "isOath", desc := "()Z" }
theorem dX10_isOath_0 : decode cX10_isOath 0 = .ok (.iconst 0, 1) := by decide +kernel
theorem dX10_isOath_1 : decode cX10_isOath 1 = .ok (.ireturn, 1) := by decide +kernel
abbrev cX11_wet : ByteArray := prog_19_method_3_code
abbrev yX11_wet : MethodName := { cls := "WornSkin$Psalm", name := "wet", desc := "(I)I" }
def dkwX11_wet_0 : List UInt8 := [27, 4, 96, 172]
abbrev dktX11_wet_0 : List UInt8 := dkwX11_wet_0 ++ []
theorem dksX11_wet_0 : cX11_wet.data.toList.drop 0 = dktX11_wet_0 := by decide +kernel
theorem dX11_wet_0 : decode cX11_wet 0 = .ok (.iload_n 1, 1) := dk_27 (dk_at dksX11_wet_0 0 rfl rfl)
theorem dX11_wet_1 : decode cX11_wet 1 = .ok (.iconst 1, 1) := dk_4 (dk_at dksX11_wet_0 1 rfl rfl)
theorem dX11_wet_2 : decode cX11_wet 2 = .ok (.iadd, 1) := dk_96 (dk_at dksX11_wet_0 2 rfl rfl)
theorem dX11_wet_3 : decode cX11_wet 3 = .ok (.ireturn, 1) := dk_172 (dk_at dksX11_wet_0 3 rfl rfl)
abbrev cX11_kind : ByteArray := prog_19_method_2_code
abbrev yX11_kind : MethodName := { cls := "WornSkin$Psalm", name := "kind", desc := "()I" }
theorem dX11_kind_0 : decode cX11_kind 0 = .ok (.iconst 1, 1) := by decide +kernel
theorem dX11_kind_1 : decode cX11_kind 1 = .ok (.ireturn, 1) := by decide +kernel
abbrev cX12_deep : ByteArray := prog_21_method_3_code
abbrev yX12_deep : MethodName := { cls := "WornSkin$Recipe", name := "deep", desc := "(I)I" }
def dkwX12_deep_0 : List UInt8 := [27, 4, 100, 172]
abbrev dktX12_deep_0 : List UInt8 := dkwX12_deep_0 ++ []
theorem dksX12_deep_0 : cX12_deep.data.toList.drop 0 = dktX12_deep_0 := by decide +kernel
theorem dX12_deep_0 : decode cX12_deep 0 = .ok (.iload_n 1, 1) := dk_27 (dk_at dksX12_deep_0 0 rfl rfl)
theorem dX12_deep_1 : decode cX12_deep 1 = .ok (.iconst 1, 1) := dk_4 (dk_at dksX12_deep_0 1 rfl rfl)
theorem dX12_deep_2 : decode cX12_deep 2 = .ok (.isub, 1) := dk_100 (dk_at dksX12_deep_0 2 rfl rfl)
theorem dX12_deep_3 : decode cX12_deep 3 = .ok (.ireturn, 1) := dk_172 (dk_at dksX12_deep_0 3 rfl rfl)
abbrev cX12_kind : ByteArray := prog_21_method_2_code
abbrev yX12_kind : MethodName := { cls := "WornSkin$Recipe", name := "kind", desc := "()I" }
theorem dX12_kind_0 : decode cX12_kind 0 = .ok (.iconst 2, 1) := by decide +kernel
theorem dX12_kind_1 : decode cX12_kind 1 = .ok (.ireturn, 1) := by decide +kernel
abbrev cX13_kind : ByteArray := prog_15_method_2_code
abbrev yX13_kind : MethodName := { cls := "WornSkin$Oath", name := "kind", desc := "()I" }
theorem dX13_kind_0 : decode cX13_kind 0 = .ok (.iconst 3, 1) := by decide +kernel
theorem dX13_kind_1 : decode cX13_kind 1 = .ok (.ireturn, 1) := by decide +kernel
abbrev cX13_isOath : ByteArray := prog_15_method_3_code
abbrev yX13_isOath : MethodName := { cls := "WornSkin$Oath", name := "isOath", desc := "()Z" }
theorem dX13_isOath_0 : decode cX13_isOath 0 = .ok (.iconst 1, 1) := by decide +kernel
theorem dX13_isOath_1 : decode cX13_isOath 1 = .ok (.ireturn, 1) := by decide +kernel
abbrev cX4_find : ByteArray := prog_9_method_2_code
abbrev yX4_find : MethodName := { cls := "WornSkin$Library", name := "find", desc := "(J)I" }
def dkwX4_find_2 : List UInt8 := [132, 3, 1, 167, 255, 208, 2, 172]
abbrev dktX4_find_2 : List UInt8 := dkwX4_find_2 ++ []
def dkwX4_find_1 : List UInt8 := [182, 0, 50, 31, 148, 154, 0, 18, 42, 180, 0, 20, 29, 182, 0, 44, 192, 0, 54, 182, 0, 56, 172]
abbrev dktX4_find_1 : List UInt8 := dkwX4_find_1 ++ dktX4_find_2
def dkwX4_find_0 : List UInt8 := [3, 62, 29, 42, 180, 0, 14, 182, 0, 40, 162, 0, 43, 42, 180, 0, 14, 29, 182, 0, 44, 192, 0, 48]
abbrev dktX4_find_0 : List UInt8 := dkwX4_find_0 ++ dktX4_find_1
theorem dksX4_find_0 : cX4_find.data.toList.drop 0 = dktX4_find_0 := by decide +kernel
theorem dksX4_find_1 : cX4_find.data.toList.drop 24 = dktX4_find_1 := dk_seg dksX4_find_0 24 rfl rfl
theorem dksX4_find_2 : cX4_find.data.toList.drop 47 = dktX4_find_2 := dk_seg dksX4_find_1 23 rfl rfl
theorem dX4_find_0 : decode cX4_find 0 = .ok (.iconst 0, 1) := dk_3 (dk_at dksX4_find_0 0 rfl rfl)
theorem dX4_find_1 : decode cX4_find 1 = .ok (.istore_n 3, 1) := dk_62 (dk_at dksX4_find_0 1 rfl rfl)
theorem dX4_find_2 : decode cX4_find 2 = .ok (.iload_n 3, 1) := dk_29 (dk_at dksX4_find_0 2 rfl rfl)
theorem dX4_find_3 : decode cX4_find 3 = .ok (.aload_n 0, 1) := dk_42 (dk_at dksX4_find_0 3 rfl rfl)
theorem dX4_find_4 : decode cX4_find 4 = .ok (.getfield 14, 3) := dk_180 0 14 (dk_at dksX4_find_0 4 rfl rfl)
theorem dX4_find_7 : decode cX4_find 7 = .ok (.invokevirtual 40, 3) := dk_182 0 40 (dk_at dksX4_find_0 7 rfl rfl)
theorem dX4_find_10 : decode cX4_find 10 = .ok (.if_icmp .ge 43, 3) := dk_162 0 43 (dk_at dksX4_find_0 10 rfl rfl)
theorem dX4_find_13 : decode cX4_find 13 = .ok (.aload_n 0, 1) := dk_42 (dk_at dksX4_find_0 13 rfl rfl)
theorem dX4_find_14 : decode cX4_find 14 = .ok (.getfield 14, 3) := dk_180 0 14 (dk_at dksX4_find_0 14 rfl rfl)
theorem dX4_find_17 : decode cX4_find 17 = .ok (.iload_n 3, 1) := dk_29 (dk_at dksX4_find_0 17 rfl rfl)
theorem dX4_find_18 : decode cX4_find 18 = .ok (.invokevirtual 44, 3) := dk_182 0 44 (dk_at dksX4_find_0 18 rfl rfl)
theorem dX4_find_21 : decode cX4_find 21 = .ok (.checkcast 48, 3) := dk_192 0 48 (dk_at dksX4_find_0 21 rfl rfl)
theorem dX4_find_24 : decode cX4_find 24 = .ok (.invokevirtual 50, 3) := dk_182 0 50 (dk_at dksX4_find_1 0 rfl rfl)
theorem dX4_find_27 : decode cX4_find 27 = .ok (.lload_n 1, 1) := dk_31 (dk_at dksX4_find_1 3 rfl rfl)
theorem dX4_find_28 : decode cX4_find 28 = .ok (.lcmp, 1) := dk_148 (dk_at dksX4_find_1 4 rfl rfl)
theorem dX4_find_29 : decode cX4_find 29 = .ok (.ifCond .ne 18, 3) := dk_154 0 18 (dk_at dksX4_find_1 5 rfl rfl)
theorem dX4_find_32 : decode cX4_find 32 = .ok (.aload_n 0, 1) := dk_42 (dk_at dksX4_find_1 8 rfl rfl)
theorem dX4_find_33 : decode cX4_find 33 = .ok (.getfield 20, 3) := dk_180 0 20 (dk_at dksX4_find_1 9 rfl rfl)
theorem dX4_find_36 : decode cX4_find 36 = .ok (.iload_n 3, 1) := dk_29 (dk_at dksX4_find_1 12 rfl rfl)
theorem dX4_find_37 : decode cX4_find 37 = .ok (.invokevirtual 44, 3) := dk_182 0 44 (dk_at dksX4_find_1 13 rfl rfl)
theorem dX4_find_40 : decode cX4_find 40 = .ok (.checkcast 54, 3) := dk_192 0 54 (dk_at dksX4_find_1 16 rfl rfl)
theorem dX4_find_43 : decode cX4_find 43 = .ok (.invokevirtual 56, 3) := dk_182 0 56 (dk_at dksX4_find_1 19 rfl rfl)
theorem dX4_find_46 : decode cX4_find 46 = .ok (.ireturn, 1) := dk_172 (dk_at dksX4_find_1 22 rfl rfl)
theorem dX4_find_47 : decode cX4_find 47 = .ok (.iinc 3 1, 3) := dk_132 3 1 (dk_at dksX4_find_2 0 rfl rfl)
theorem dX4_find_50 : decode cX4_find 50 = .ok (.goto (-48), 3) := dk_167 255 208 (dk_at dksX4_find_2 3 rfl rfl)
theorem dX4_find_53 : decode cX4_find 53 = .ok (.iconst (-1), 1) := dk_2 (dk_at dksX4_find_2 6 rfl rfl)
theorem dX4_find_54 : decode cX4_find 54 = .ok (.ireturn, 1) := dk_172 (dk_at dksX4_find_2 7 rfl rfl)
abbrev cX4_wets : ByteArray := prog_9_method_3_code
abbrev yX4_wets : MethodName := { cls := "WornSkin$Library", name := "wets", desc := "(I)V" }
def dkwX4_wets_0 : List UInt8 := [42, 180, 0, 29, 42, 180, 0, 59, 27, 79, 42, 89, 180, 0, 59, 4, 96, 181, 0, 59, 177]
abbrev dktX4_wets_0 : List UInt8 := dkwX4_wets_0 ++ []
theorem dksX4_wets_0 : cX4_wets.data.toList.drop 0 = dktX4_wets_0 := by decide +kernel
theorem dX4_wets_0 : decode cX4_wets 0 = .ok (.aload_n 0, 1) := dk_42 (dk_at dksX4_wets_0 0 rfl rfl)
theorem dX4_wets_1 : decode cX4_wets 1 = .ok (.getfield 29, 3) := dk_180 0 29 (dk_at dksX4_wets_0 1 rfl rfl)
theorem dX4_wets_4 : decode cX4_wets 4 = .ok (.aload_n 0, 1) := dk_42 (dk_at dksX4_wets_0 4 rfl rfl)
theorem dX4_wets_5 : decode cX4_wets 5 = .ok (.getfield 59, 3) := dk_180 0 59 (dk_at dksX4_wets_0 5 rfl rfl)
theorem dX4_wets_8 : decode cX4_wets 8 = .ok (.iload_n 1, 1) := dk_27 (dk_at dksX4_wets_0 8 rfl rfl)
theorem dX4_wets_9 : decode cX4_wets 9 = .ok (.iastore, 1) := dk_79 (dk_at dksX4_wets_0 9 rfl rfl)
theorem dX4_wets_10 : decode cX4_wets 10 = .ok (.aload_n 0, 1) := dk_42 (dk_at dksX4_wets_0 10 rfl rfl)
theorem dX4_wets_11 : decode cX4_wets 11 = .ok (.dup, 1) := dk_89 (dk_at dksX4_wets_0 11 rfl rfl)
theorem dX4_wets_12 : decode cX4_wets 12 = .ok (.getfield 59, 3) := dk_180 0 59 (dk_at dksX4_wets_0 12 rfl rfl)
theorem dX4_wets_15 : decode cX4_wets 15 = .ok (.iconst 1, 1) := dk_4 (dk_at dksX4_wets_0 15 rfl rfl)
theorem dX4_wets_16 : decode cX4_wets 16 = .ok (.iadd, 1) := dk_96 (dk_at dksX4_wets_0 16 rfl rfl)
theorem dX4_wets_17 : decode cX4_wets 17 = .ok (.putfield 59, 3) := dk_181 0 59 (dk_at dksX4_wets_0 17 rfl rfl)
theorem dX4_wets_20 : decode cX4_wets 20 = .ok (.return_, 1) := dk_177 (dk_at dksX4_wets_0 20 rfl rfl)
abbrev cX4_damp : ByteArray := prog_9_method_4_code
abbrev yX4_damp : MethodName := { cls := "WornSkin$Library", name := "damp", desc := "(I)I" }
def dkwX4_damp_0 : List UInt8 := [42, 180, 0, 59, 154, 0, 7, 3, 167, 0, 14, 42, 180, 0, 29, 27, 42, 180, 0, 59, 112, 46, 172]
abbrev dktX4_damp_0 : List UInt8 := dkwX4_damp_0 ++ []
theorem dksX4_damp_0 : cX4_damp.data.toList.drop 0 = dktX4_damp_0 := by decide +kernel
theorem dX4_damp_0 : decode cX4_damp 0 = .ok (.aload_n 0, 1) := dk_42 (dk_at dksX4_damp_0 0 rfl rfl)
theorem dX4_damp_1 : decode cX4_damp 1 = .ok (.getfield 59, 3) := dk_180 0 59 (dk_at dksX4_damp_0 1 rfl rfl)
theorem dX4_damp_4 : decode cX4_damp 4 = .ok (.ifCond .ne 7, 3) := dk_154 0 7 (dk_at dksX4_damp_0 4 rfl rfl)
theorem dX4_damp_7 : decode cX4_damp 7 = .ok (.iconst 0, 1) := dk_3 (dk_at dksX4_damp_0 7 rfl rfl)
theorem dX4_damp_8 : decode cX4_damp 8 = .ok (.goto 14, 3) := dk_167 0 14 (dk_at dksX4_damp_0 8 rfl rfl)
theorem dX4_damp_11 : decode cX4_damp 11 = .ok (.aload_n 0, 1) := dk_42 (dk_at dksX4_damp_0 11 rfl rfl)
theorem dX4_damp_12 : decode cX4_damp 12 = .ok (.getfield 29, 3) := dk_180 0 29 (dk_at dksX4_damp_0 12 rfl rfl)
theorem dX4_damp_15 : decode cX4_damp 15 = .ok (.iload_n 1, 1) := dk_27 (dk_at dksX4_damp_0 15 rfl rfl)
theorem dX4_damp_16 : decode cX4_damp 16 = .ok (.aload_n 0, 1) := dk_42 (dk_at dksX4_damp_0 16 rfl rfl)
theorem dX4_damp_17 : decode cX4_damp 17 = .ok (.getfield 59, 3) := dk_180 0 59 (dk_at dksX4_damp_0 17 rfl rfl)
theorem dX4_damp_20 : decode cX4_damp 20 = .ok (.irem, 1) := dk_112 (dk_at dksX4_damp_0 20 rfl rfl)
theorem dX4_damp_21 : decode cX4_damp 21 = .ok (.iaload, 1) := dk_46 (dk_at dksX4_damp_0 21 rfl rfl)
theorem dX4_damp_22 : decode cX4_damp 22 = .ok (.ireturn, 1) := dk_172 (dk_at dksX4_damp_0 22 rfl rfl)
abbrev cX4_shows : ByteArray := prog_9_method_5_code
abbrev yX4_shows : MethodName := { cls := "WornSkin$Library", name := "shows", desc := "(LWornSkin$Text;III)Z" }
def dkwX4_shows_5 : List UInt8 := [167, 0, 4, 3, 172]
abbrev dktX4_shows_5 : List UInt8 := dkwX4_shows_5 ++ []
def dkwX4_shows_4 : List UInt8 := [180, 0, 80, 6, 21, 4, 79, 42, 180, 0, 76, 42, 180, 0, 36, 182, 0, 83, 153, 0, 7, 4]
abbrev dktX4_shows_4 : List UInt8 := dkwX4_shows_4 ++ dktX4_shows_5
def dkwX4_shows_3 : List UInt8 := [180, 0, 80, 4, 21, 6, 79, 42, 180, 0, 36, 180, 0, 80, 5, 21, 7, 79, 42, 180, 0, 36]
abbrev dktX4_shows_3 : List UInt8 := dkwX4_shows_3 ++ dktX4_shows_4
def dkwX4_shows_2 : List UInt8 := [162, 0, 7, 4, 167, 0, 4, 3, 172, 42, 180, 0, 36, 180, 0, 80, 3, 21, 5, 79, 42, 180, 0, 36]
abbrev dktX4_shows_2 : List UInt8 := dkwX4_shows_2 ++ dktX4_shows_3
def dkwX4_shows_1 : List UInt8 := [167, 0, 4, 3, 54, 7, 42, 180, 0, 76, 199, 0, 21, 21, 6, 5, 104, 21, 7, 100, 21, 5]
abbrev dktX4_shows_1 : List UInt8 := dkwX4_shows_1 ++ dktX4_shows_2
def dkwX4_shows_0 : List UInt8 := [43, 29, 182, 0, 63, 54, 5, 43, 28, 182, 0, 69, 54, 6, 43, 180, 0, 72, 153, 0, 7, 4]
abbrev dktX4_shows_0 : List UInt8 := dkwX4_shows_0 ++ dktX4_shows_1
theorem dksX4_shows_0 : cX4_shows.data.toList.drop 0 = dktX4_shows_0 := by decide +kernel
theorem dksX4_shows_1 : cX4_shows.data.toList.drop 22 = dktX4_shows_1 := dk_seg dksX4_shows_0 22 rfl rfl
theorem dksX4_shows_2 : cX4_shows.data.toList.drop 44 = dktX4_shows_2 := dk_seg dksX4_shows_1 22 rfl rfl
theorem dksX4_shows_3 : cX4_shows.data.toList.drop 68 = dktX4_shows_3 := dk_seg dksX4_shows_2 24 rfl rfl
theorem dksX4_shows_4 : cX4_shows.data.toList.drop 90 = dktX4_shows_4 := dk_seg dksX4_shows_3 22 rfl rfl
theorem dksX4_shows_5 : cX4_shows.data.toList.drop 112 = dktX4_shows_5 := dk_seg dksX4_shows_4 22 rfl rfl
theorem dX4_shows_0 : decode cX4_shows 0 = .ok (.aload_n 1, 1) := dk_43 (dk_at dksX4_shows_0 0 rfl rfl)
theorem dX4_shows_1 : decode cX4_shows 1 = .ok (.iload_n 3, 1) := dk_29 (dk_at dksX4_shows_0 1 rfl rfl)
theorem dX4_shows_2 : decode cX4_shows 2 = .ok (.invokevirtual 63, 3) := dk_182 0 63 (dk_at dksX4_shows_0 2 rfl rfl)
theorem dX4_shows_5 : decode cX4_shows 5 = .ok (.istore 5, 2) := dk_54 5 (dk_at dksX4_shows_0 5 rfl rfl)
theorem dX4_shows_7 : decode cX4_shows 7 = .ok (.aload_n 1, 1) := dk_43 (dk_at dksX4_shows_0 7 rfl rfl)
theorem dX4_shows_8 : decode cX4_shows 8 = .ok (.iload_n 2, 1) := dk_28 (dk_at dksX4_shows_0 8 rfl rfl)
theorem dX4_shows_9 : decode cX4_shows 9 = .ok (.invokevirtual 69, 3) := dk_182 0 69 (dk_at dksX4_shows_0 9 rfl rfl)
theorem dX4_shows_12 : decode cX4_shows 12 = .ok (.istore 6, 2) := dk_54 6 (dk_at dksX4_shows_0 12 rfl rfl)
theorem dX4_shows_14 : decode cX4_shows 14 = .ok (.aload_n 1, 1) := dk_43 (dk_at dksX4_shows_0 14 rfl rfl)
theorem dX4_shows_15 : decode cX4_shows 15 = .ok (.getfield 72, 3) := dk_180 0 72 (dk_at dksX4_shows_0 15 rfl rfl)
theorem dX4_shows_18 : decode cX4_shows 18 = .ok (.ifCond .eq 7, 3) := dk_153 0 7 (dk_at dksX4_shows_0 18 rfl rfl)
theorem dX4_shows_21 : decode cX4_shows 21 = .ok (.iconst 1, 1) := dk_4 (dk_at dksX4_shows_0 21 rfl rfl)
theorem dX4_shows_22 : decode cX4_shows 22 = .ok (.goto 4, 3) := dk_167 0 4 (dk_at dksX4_shows_1 0 rfl rfl)
theorem dX4_shows_25 : decode cX4_shows 25 = .ok (.iconst 0, 1) := dk_3 (dk_at dksX4_shows_1 3 rfl rfl)
theorem dX4_shows_26 : decode cX4_shows 26 = .ok (.istore 7, 2) := dk_54 7 (dk_at dksX4_shows_1 4 rfl rfl)
theorem dX4_shows_28 : decode cX4_shows 28 = .ok (.aload_n 0, 1) := dk_42 (dk_at dksX4_shows_1 6 rfl rfl)
theorem dX4_shows_29 : decode cX4_shows 29 = .ok (.getfield 76, 3) := dk_180 0 76 (dk_at dksX4_shows_1 7 rfl rfl)
theorem dX4_shows_32 : decode cX4_shows 32 = .ok (.ifnonnull 21, 3) := dk_199 0 21 (dk_at dksX4_shows_1 10 rfl rfl)
theorem dX4_shows_35 : decode cX4_shows 35 = .ok (.iload 6, 2) := dk_21 6 (dk_at dksX4_shows_1 13 rfl rfl)
theorem dX4_shows_37 : decode cX4_shows 37 = .ok (.iconst 2, 1) := dk_5 (dk_at dksX4_shows_1 15 rfl rfl)
theorem dX4_shows_38 : decode cX4_shows 38 = .ok (.imul, 1) := dk_104 (dk_at dksX4_shows_1 16 rfl rfl)
theorem dX4_shows_39 : decode cX4_shows 39 = .ok (.iload 7, 2) := dk_21 7 (dk_at dksX4_shows_1 17 rfl rfl)
theorem dX4_shows_41 : decode cX4_shows 41 = .ok (.isub, 1) := dk_100 (dk_at dksX4_shows_1 19 rfl rfl)
theorem dX4_shows_42 : decode cX4_shows 42 = .ok (.iload 5, 2) := dk_21 5 (dk_at dksX4_shows_1 20 rfl rfl)
theorem dX4_shows_44 : decode cX4_shows 44 = .ok (.if_icmp .ge 7, 3) := dk_162 0 7 (dk_at dksX4_shows_2 0 rfl rfl)
theorem dX4_shows_47 : decode cX4_shows 47 = .ok (.iconst 1, 1) := dk_4 (dk_at dksX4_shows_2 3 rfl rfl)
theorem dX4_shows_48 : decode cX4_shows 48 = .ok (.goto 4, 3) := dk_167 0 4 (dk_at dksX4_shows_2 4 rfl rfl)
theorem dX4_shows_51 : decode cX4_shows 51 = .ok (.iconst 0, 1) := dk_3 (dk_at dksX4_shows_2 7 rfl rfl)
theorem dX4_shows_52 : decode cX4_shows 52 = .ok (.ireturn, 1) := dk_172 (dk_at dksX4_shows_2 8 rfl rfl)
theorem dX4_shows_53 : decode cX4_shows 53 = .ok (.aload_n 0, 1) := dk_42 (dk_at dksX4_shows_2 9 rfl rfl)
theorem dX4_shows_54 : decode cX4_shows 54 = .ok (.getfield 36, 3) := dk_180 0 36 (dk_at dksX4_shows_2 10 rfl rfl)
theorem dX4_shows_57 : decode cX4_shows 57 = .ok (.getfield 80, 3) := dk_180 0 80 (dk_at dksX4_shows_2 13 rfl rfl)
theorem dX4_shows_60 : decode cX4_shows 60 = .ok (.iconst 0, 1) := dk_3 (dk_at dksX4_shows_2 16 rfl rfl)
theorem dX4_shows_61 : decode cX4_shows 61 = .ok (.iload 5, 2) := dk_21 5 (dk_at dksX4_shows_2 17 rfl rfl)
theorem dX4_shows_63 : decode cX4_shows 63 = .ok (.iastore, 1) := dk_79 (dk_at dksX4_shows_2 19 rfl rfl)
theorem dX4_shows_64 : decode cX4_shows 64 = .ok (.aload_n 0, 1) := dk_42 (dk_at dksX4_shows_2 20 rfl rfl)
theorem dX4_shows_65 : decode cX4_shows 65 = .ok (.getfield 36, 3) := dk_180 0 36 (dk_at dksX4_shows_2 21 rfl rfl)
theorem dX4_shows_68 : decode cX4_shows 68 = .ok (.getfield 80, 3) := dk_180 0 80 (dk_at dksX4_shows_3 0 rfl rfl)
theorem dX4_shows_71 : decode cX4_shows 71 = .ok (.iconst 1, 1) := dk_4 (dk_at dksX4_shows_3 3 rfl rfl)
theorem dX4_shows_72 : decode cX4_shows 72 = .ok (.iload 6, 2) := dk_21 6 (dk_at dksX4_shows_3 4 rfl rfl)
theorem dX4_shows_74 : decode cX4_shows 74 = .ok (.iastore, 1) := dk_79 (dk_at dksX4_shows_3 6 rfl rfl)
theorem dX4_shows_75 : decode cX4_shows 75 = .ok (.aload_n 0, 1) := dk_42 (dk_at dksX4_shows_3 7 rfl rfl)
theorem dX4_shows_76 : decode cX4_shows 76 = .ok (.getfield 36, 3) := dk_180 0 36 (dk_at dksX4_shows_3 8 rfl rfl)
theorem dX4_shows_79 : decode cX4_shows 79 = .ok (.getfield 80, 3) := dk_180 0 80 (dk_at dksX4_shows_3 11 rfl rfl)
theorem dX4_shows_82 : decode cX4_shows 82 = .ok (.iconst 2, 1) := dk_5 (dk_at dksX4_shows_3 14 rfl rfl)
theorem dX4_shows_83 : decode cX4_shows 83 = .ok (.iload 7, 2) := dk_21 7 (dk_at dksX4_shows_3 15 rfl rfl)
theorem dX4_shows_85 : decode cX4_shows 85 = .ok (.iastore, 1) := dk_79 (dk_at dksX4_shows_3 17 rfl rfl)
theorem dX4_shows_86 : decode cX4_shows 86 = .ok (.aload_n 0, 1) := dk_42 (dk_at dksX4_shows_3 18 rfl rfl)
theorem dX4_shows_87 : decode cX4_shows 87 = .ok (.getfield 36, 3) := dk_180 0 36 (dk_at dksX4_shows_3 19 rfl rfl)
theorem dX4_shows_90 : decode cX4_shows 90 = .ok (.getfield 80, 3) := dk_180 0 80 (dk_at dksX4_shows_4 0 rfl rfl)
theorem dX4_shows_93 : decode cX4_shows 93 = .ok (.iconst 3, 1) := dk_6 (dk_at dksX4_shows_4 3 rfl rfl)
theorem dX4_shows_94 : decode cX4_shows 94 = .ok (.iload 4, 2) := dk_21 4 (dk_at dksX4_shows_4 4 rfl rfl)
theorem dX4_shows_96 : decode cX4_shows 96 = .ok (.iastore, 1) := dk_79 (dk_at dksX4_shows_4 6 rfl rfl)
theorem dX4_shows_97 : decode cX4_shows 97 = .ok (.aload_n 0, 1) := dk_42 (dk_at dksX4_shows_4 7 rfl rfl)
theorem dX4_shows_98 : decode cX4_shows 98 = .ok (.getfield 76, 3) := dk_180 0 76 (dk_at dksX4_shows_4 8 rfl rfl)
theorem dX4_shows_101 : decode cX4_shows 101 = .ok (.aload_n 0, 1) := dk_42 (dk_at dksX4_shows_4 11 rfl rfl)
theorem dX4_shows_102 : decode cX4_shows 102 = .ok (.getfield 36, 3) := dk_180 0 36 (dk_at dksX4_shows_4 12 rfl rfl)
theorem dX4_shows_105 : decode cX4_shows 105 = .ok (.invokevirtual 83, 3) := dk_182 0 83 (dk_at dksX4_shows_4 15 rfl rfl)
theorem dX4_shows_108 : decode cX4_shows 108 = .ok (.ifCond .eq 7, 3) := dk_153 0 7 (dk_at dksX4_shows_4 18 rfl rfl)
theorem dX4_shows_111 : decode cX4_shows 111 = .ok (.iconst 1, 1) := dk_4 (dk_at dksX4_shows_4 21 rfl rfl)
theorem dX4_shows_112 : decode cX4_shows 112 = .ok (.goto 4, 3) := dk_167 0 4 (dk_at dksX4_shows_5 0 rfl rfl)
theorem dX4_shows_115 : decode cX4_shows 115 = .ok (.iconst 0, 1) := dk_3 (dk_at dksX4_shows_5 3 rfl rfl)
theorem dX4_shows_116 : decode cX4_shows 116 = .ok (.ireturn, 1) := dk_172 (dk_at dksX4_shows_5 4 rfl rfl)
abbrev cX3_init : ByteArray := prog_24_method_1_code
abbrev yX3_init : MethodName := { cls := "WornSkin$Shelf", name := "<init>", desc := "()V" }
def dkwX3_init_1 : List UInt8 := [181, 0, 18, 177]
abbrev dktX3_init_1 : List UInt8 := dkwX3_init_1 ++ []
def dkwX3_init_0 : List UInt8 := [42, 183, 0, 3, 42, 6, 188, 10, 181, 0, 9, 42, 16, 18, 188, 10, 181, 0, 15, 42, 16, 18, 188, 10]
abbrev dktX3_init_0 : List UInt8 := dkwX3_init_0 ++ dktX3_init_1
theorem dksX3_init_0 : cX3_init.data.toList.drop 0 = dktX3_init_0 := by decide +kernel
theorem dksX3_init_1 : cX3_init.data.toList.drop 24 = dktX3_init_1 := dk_seg dksX3_init_0 24 rfl rfl
theorem dX3_init_0 : decode cX3_init 0 = .ok (.aload_n 0, 1) := dk_42 (dk_at dksX3_init_0 0 rfl rfl)
theorem dX3_init_1 : decode cX3_init 1 = .ok (.invokespecial 3, 3) := dk_183 0 3 (dk_at dksX3_init_0 1 rfl rfl)
theorem dX3_init_4 : decode cX3_init 4 = .ok (.aload_n 0, 1) := dk_42 (dk_at dksX3_init_0 4 rfl rfl)
theorem dX3_init_5 : decode cX3_init 5 = .ok (.iconst 3, 1) := dk_6 (dk_at dksX3_init_0 5 rfl rfl)
theorem dX3_init_6 : decode cX3_init 6 = .ok (.newarray .int, 2) := dk_188_10 (dk_at dksX3_init_0 6 rfl rfl)
theorem dX3_init_8 : decode cX3_init 8 = .ok (.putfield 9, 3) := dk_181 0 9 (dk_at dksX3_init_0 8 rfl rfl)
theorem dX3_init_11 : decode cX3_init 11 = .ok (.aload_n 0, 1) := dk_42 (dk_at dksX3_init_0 11 rfl rfl)
theorem dX3_init_12 : decode cX3_init 12 = .ok (.bipush 18, 2) := dk_16 18 (dk_at dksX3_init_0 12 rfl rfl)
theorem dX3_init_14 : decode cX3_init 14 = .ok (.newarray .int, 2) := dk_188_10 (dk_at dksX3_init_0 14 rfl rfl)
theorem dX3_init_16 : decode cX3_init 16 = .ok (.putfield 15, 3) := dk_181 0 15 (dk_at dksX3_init_0 16 rfl rfl)
theorem dX3_init_19 : decode cX3_init 19 = .ok (.aload_n 0, 1) := dk_42 (dk_at dksX3_init_0 19 rfl rfl)
theorem dX3_init_20 : decode cX3_init 20 = .ok (.bipush 18, 2) := dk_16 18 (dk_at dksX3_init_0 20 rfl rfl)
theorem dX3_init_22 : decode cX3_init 22 = .ok (.newarray .int, 2) := dk_188_10 (dk_at dksX3_init_0 22 rfl rfl)
theorem dX3_init_24 : decode cX3_init 24 = .ok (.putfield 18, 3) := dk_181 0 18 (dk_at dksX3_init_1 0 rfl rfl)
theorem dX3_init_27 : decode cX3_init 27 = .ok (.return_, 1) := dk_177 (dk_at dksX3_init_1 3 rfl rfl)
abbrev cX3_clears : ByteArray := prog_24_method_11_code
abbrev yX3_clears : MethodName := { cls := "WornSkin$Shelf", name := "clears", desc := "(I)V" }
def dkwX3_clears_1 : List UInt8 := [126, 181, 0, 29, 177]
abbrev dktX3_clears_1 : List UInt8 := dkwX3_clears_1 ++ []
def dkwX3_clears_0 : List UInt8 := [42, 180, 0, 15, 27, 3, 79, 42, 180, 0, 18, 27, 3, 79, 42, 89, 180, 0, 29, 4, 27, 120, 2, 130]
abbrev dktX3_clears_0 : List UInt8 := dkwX3_clears_0 ++ dktX3_clears_1
theorem dksX3_clears_0 : cX3_clears.data.toList.drop 0 = dktX3_clears_0 := by decide +kernel
theorem dksX3_clears_1 : cX3_clears.data.toList.drop 24 = dktX3_clears_1 := dk_seg dksX3_clears_0 24 rfl rfl
theorem dX3_clears_0 : decode cX3_clears 0 = .ok (.aload_n 0, 1) := dk_42 (dk_at dksX3_clears_0 0 rfl rfl)
theorem dX3_clears_1 : decode cX3_clears 1 = .ok (.getfield 15, 3) := dk_180 0 15 (dk_at dksX3_clears_0 1 rfl rfl)
theorem dX3_clears_4 : decode cX3_clears 4 = .ok (.iload_n 1, 1) := dk_27 (dk_at dksX3_clears_0 4 rfl rfl)
theorem dX3_clears_5 : decode cX3_clears 5 = .ok (.iconst 0, 1) := dk_3 (dk_at dksX3_clears_0 5 rfl rfl)
theorem dX3_clears_6 : decode cX3_clears 6 = .ok (.iastore, 1) := dk_79 (dk_at dksX3_clears_0 6 rfl rfl)
theorem dX3_clears_7 : decode cX3_clears 7 = .ok (.aload_n 0, 1) := dk_42 (dk_at dksX3_clears_0 7 rfl rfl)
theorem dX3_clears_8 : decode cX3_clears 8 = .ok (.getfield 18, 3) := dk_180 0 18 (dk_at dksX3_clears_0 8 rfl rfl)
theorem dX3_clears_11 : decode cX3_clears 11 = .ok (.iload_n 1, 1) := dk_27 (dk_at dksX3_clears_0 11 rfl rfl)
theorem dX3_clears_12 : decode cX3_clears 12 = .ok (.iconst 0, 1) := dk_3 (dk_at dksX3_clears_0 12 rfl rfl)
theorem dX3_clears_13 : decode cX3_clears 13 = .ok (.iastore, 1) := dk_79 (dk_at dksX3_clears_0 13 rfl rfl)
theorem dX3_clears_14 : decode cX3_clears 14 = .ok (.aload_n 0, 1) := dk_42 (dk_at dksX3_clears_0 14 rfl rfl)
theorem dX3_clears_15 : decode cX3_clears 15 = .ok (.dup, 1) := dk_89 (dk_at dksX3_clears_0 15 rfl rfl)
theorem dX3_clears_16 : decode cX3_clears 16 = .ok (.getfield 29, 3) := dk_180 0 29 (dk_at dksX3_clears_0 16 rfl rfl)
theorem dX3_clears_19 : decode cX3_clears 19 = .ok (.iconst 1, 1) := dk_4 (dk_at dksX3_clears_0 19 rfl rfl)
theorem dX3_clears_20 : decode cX3_clears 20 = .ok (.iload_n 1, 1) := dk_27 (dk_at dksX3_clears_0 20 rfl rfl)
theorem dX3_clears_21 : decode cX3_clears 21 = .ok (.ishl, 1) := dk_120 (dk_at dksX3_clears_0 21 rfl rfl)
theorem dX3_clears_22 : decode cX3_clears 22 = .ok (.iconst (-1), 1) := dk_2 (dk_at dksX3_clears_0 22 rfl rfl)
theorem dX3_clears_23 : decode cX3_clears 23 = .ok (.ixor, 1) := dk_130 (dk_at dksX3_clears_0 23 rfl rfl)
theorem dX3_clears_24 : decode cX3_clears 24 = .ok (.iand, 1) := dk_126 (dk_at dksX3_clears_1 0 rfl rfl)
theorem dX3_clears_25 : decode cX3_clears 25 = .ok (.putfield 29, 3) := dk_181 0 29 (dk_at dksX3_clears_1 1 rfl rfl)
theorem dX3_clears_28 : decode cX3_clears 28 = .ok (.return_, 1) := dk_177 (dk_at dksX3_clears_1 4 rfl rfl)
abbrev cX3_skins : ByteArray := prog_24_method_5_code
abbrev yX3_skins : MethodName := { cls := "WornSkin$Shelf", name := "skins", desc := "()I" }
def dkwX3_skins_0 : List UInt8 := [42, 180, 0, 21, 180, 0, 59, 182, 0, 64, 172]
abbrev dktX3_skins_0 : List UInt8 := dkwX3_skins_0 ++ []
theorem dksX3_skins_0 : cX3_skins.data.toList.drop 0 = dktX3_skins_0 := by decide +kernel
theorem dX3_skins_0 : decode cX3_skins 0 = .ok (.aload_n 0, 1) := dk_42 (dk_at dksX3_skins_0 0 rfl rfl)
theorem dX3_skins_1 : decode cX3_skins 1 = .ok (.getfield 21, 3) := dk_180 0 21 (dk_at dksX3_skins_0 1 rfl rfl)
theorem dX3_skins_4 : decode cX3_skins 4 = .ok (.getfield 59, 3) := dk_180 0 59 (dk_at dksX3_skins_0 4 rfl rfl)
theorem dX3_skins_7 : decode cX3_skins 7 = .ok (.invokevirtual 64, 3) := dk_182 0 64 (dk_at dksX3_skins_0 7 rfl rfl)
theorem dX3_skins_10 : decode cX3_skins 10 = .ok (.ireturn, 1) := dk_172 (dk_at dksX3_skins_0 10 rfl rfl)
abbrev cX3_skin : ByteArray := prog_24_method_7_code
abbrev yX3_skin : MethodName := { cls := "WornSkin$Shelf", name := "skin", desc := "(I)LWornSkin$Skin;" }
def dkwX3_skin_0 : List UInt8 := [42, 180, 0, 21, 180, 0, 59, 27, 182, 0, 72, 192, 0, 45, 176]
abbrev dktX3_skin_0 : List UInt8 := dkwX3_skin_0 ++ []
theorem dksX3_skin_0 : cX3_skin.data.toList.drop 0 = dktX3_skin_0 := by decide +kernel
theorem dX3_skin_0 : decode cX3_skin 0 = .ok (.aload_n 0, 1) := dk_42 (dk_at dksX3_skin_0 0 rfl rfl)
theorem dX3_skin_1 : decode cX3_skin 1 = .ok (.getfield 21, 3) := dk_180 0 21 (dk_at dksX3_skin_0 1 rfl rfl)
theorem dX3_skin_4 : decode cX3_skin 4 = .ok (.getfield 59, 3) := dk_180 0 59 (dk_at dksX3_skin_0 4 rfl rfl)
theorem dX3_skin_7 : decode cX3_skin 7 = .ok (.iload_n 1, 1) := dk_27 (dk_at dksX3_skin_0 7 rfl rfl)
theorem dX3_skin_8 : decode cX3_skin 8 = .ok (.invokevirtual 72, 3) := dk_182 0 72 (dk_at dksX3_skin_0 8 rfl rfl)
theorem dX3_skin_11 : decode cX3_skin 11 = .ok (.checkcast 45, 3) := dk_192 0 45 (dk_at dksX3_skin_0 11 rfl rfl)
theorem dX3_skin_14 : decode cX3_skin 14 = .ok (.areturn, 1) := dk_176 (dk_at dksX3_skin_0 14 rfl rfl)
abbrev cX3_begins : ByteArray := prog_24_method_2_code
abbrev yX3_begins : MethodName := { cls := "WornSkin$Shelf", name := "begins", desc := "(LWornSkin$Library;)LWornSkin$Shelf;" }
def dkwX3_begins_2 : List UInt8 := [28, 42, 28, 182, 0, 40, 180, 0, 44, 79, 132, 2, 1, 167, 255, 231, 42, 176]
abbrev dktX3_begins_2 : List UInt8 := dkwX3_begins_2 ++ []
def dkwX3_begins_1 : List UInt8 := [28, 182, 0, 32, 132, 2, 1, 167, 255, 242, 3, 61, 28, 42, 182, 0, 36, 162, 0, 23, 42, 180, 0, 9]
abbrev dktX3_begins_1 : List UInt8 := dkwX3_begins_1 ++ dktX3_begins_2
def dkwX3_begins_0 : List UInt8 := [42, 43, 181, 0, 21, 42, 3, 181, 0, 25, 42, 3, 181, 0, 29, 3, 61, 28, 16, 18, 162, 0, 14, 42]
abbrev dktX3_begins_0 : List UInt8 := dkwX3_begins_0 ++ dktX3_begins_1
theorem dksX3_begins_0 : cX3_begins.data.toList.drop 0 = dktX3_begins_0 := by decide +kernel
theorem dksX3_begins_1 : cX3_begins.data.toList.drop 24 = dktX3_begins_1 := dk_seg dksX3_begins_0 24 rfl rfl
theorem dksX3_begins_2 : cX3_begins.data.toList.drop 48 = dktX3_begins_2 := dk_seg dksX3_begins_1 24 rfl rfl
theorem dX3_begins_0 : decode cX3_begins 0 = .ok (.aload_n 0, 1) := dk_42 (dk_at dksX3_begins_0 0 rfl rfl)
theorem dX3_begins_1 : decode cX3_begins 1 = .ok (.aload_n 1, 1) := dk_43 (dk_at dksX3_begins_0 1 rfl rfl)
theorem dX3_begins_2 : decode cX3_begins 2 = .ok (.putfield 21, 3) := dk_181 0 21 (dk_at dksX3_begins_0 2 rfl rfl)
theorem dX3_begins_5 : decode cX3_begins 5 = .ok (.aload_n 0, 1) := dk_42 (dk_at dksX3_begins_0 5 rfl rfl)
theorem dX3_begins_6 : decode cX3_begins 6 = .ok (.iconst 0, 1) := dk_3 (dk_at dksX3_begins_0 6 rfl rfl)
theorem dX3_begins_7 : decode cX3_begins 7 = .ok (.putfield 25, 3) := dk_181 0 25 (dk_at dksX3_begins_0 7 rfl rfl)
theorem dX3_begins_10 : decode cX3_begins 10 = .ok (.aload_n 0, 1) := dk_42 (dk_at dksX3_begins_0 10 rfl rfl)
theorem dX3_begins_11 : decode cX3_begins 11 = .ok (.iconst 0, 1) := dk_3 (dk_at dksX3_begins_0 11 rfl rfl)
theorem dX3_begins_12 : decode cX3_begins 12 = .ok (.putfield 29, 3) := dk_181 0 29 (dk_at dksX3_begins_0 12 rfl rfl)
theorem dX3_begins_15 : decode cX3_begins 15 = .ok (.iconst 0, 1) := dk_3 (dk_at dksX3_begins_0 15 rfl rfl)
theorem dX3_begins_16 : decode cX3_begins 16 = .ok (.istore_n 2, 1) := dk_61 (dk_at dksX3_begins_0 16 rfl rfl)
theorem dX3_begins_17 : decode cX3_begins 17 = .ok (.iload_n 2, 1) := dk_28 (dk_at dksX3_begins_0 17 rfl rfl)
theorem dX3_begins_18 : decode cX3_begins 18 = .ok (.bipush 18, 2) := dk_16 18 (dk_at dksX3_begins_0 18 rfl rfl)
theorem dX3_begins_20 : decode cX3_begins 20 = .ok (.if_icmp .ge 14, 3) := dk_162 0 14 (dk_at dksX3_begins_0 20 rfl rfl)
theorem dX3_begins_23 : decode cX3_begins 23 = .ok (.aload_n 0, 1) := dk_42 (dk_at dksX3_begins_0 23 rfl rfl)
theorem dX3_begins_24 : decode cX3_begins 24 = .ok (.iload_n 2, 1) := dk_28 (dk_at dksX3_begins_1 0 rfl rfl)
theorem dX3_begins_25 : decode cX3_begins 25 = .ok (.invokevirtual 32, 3) := dk_182 0 32 (dk_at dksX3_begins_1 1 rfl rfl)
theorem dX3_begins_28 : decode cX3_begins 28 = .ok (.iinc 2 1, 3) := dk_132 2 1 (dk_at dksX3_begins_1 4 rfl rfl)
theorem dX3_begins_31 : decode cX3_begins 31 = .ok (.goto (-14), 3) := dk_167 255 242 (dk_at dksX3_begins_1 7 rfl rfl)
theorem dX3_begins_34 : decode cX3_begins 34 = .ok (.iconst 0, 1) := dk_3 (dk_at dksX3_begins_1 10 rfl rfl)
theorem dX3_begins_35 : decode cX3_begins 35 = .ok (.istore_n 2, 1) := dk_61 (dk_at dksX3_begins_1 11 rfl rfl)
theorem dX3_begins_36 : decode cX3_begins 36 = .ok (.iload_n 2, 1) := dk_28 (dk_at dksX3_begins_1 12 rfl rfl)
theorem dX3_begins_37 : decode cX3_begins 37 = .ok (.aload_n 0, 1) := dk_42 (dk_at dksX3_begins_1 13 rfl rfl)
theorem dX3_begins_38 : decode cX3_begins 38 = .ok (.invokevirtual 36, 3) := dk_182 0 36 (dk_at dksX3_begins_1 14 rfl rfl)
theorem dX3_begins_41 : decode cX3_begins 41 = .ok (.if_icmp .ge 23, 3) := dk_162 0 23 (dk_at dksX3_begins_1 17 rfl rfl)
theorem dX3_begins_44 : decode cX3_begins 44 = .ok (.aload_n 0, 1) := dk_42 (dk_at dksX3_begins_1 20 rfl rfl)
theorem dX3_begins_45 : decode cX3_begins 45 = .ok (.getfield 9, 3) := dk_180 0 9 (dk_at dksX3_begins_1 21 rfl rfl)
theorem dX3_begins_48 : decode cX3_begins 48 = .ok (.iload_n 2, 1) := dk_28 (dk_at dksX3_begins_2 0 rfl rfl)
theorem dX3_begins_49 : decode cX3_begins 49 = .ok (.aload_n 0, 1) := dk_42 (dk_at dksX3_begins_2 1 rfl rfl)
theorem dX3_begins_50 : decode cX3_begins 50 = .ok (.iload_n 2, 1) := dk_28 (dk_at dksX3_begins_2 2 rfl rfl)
theorem dX3_begins_51 : decode cX3_begins 51 = .ok (.invokevirtual 40, 3) := dk_182 0 40 (dk_at dksX3_begins_2 3 rfl rfl)
theorem dX3_begins_54 : decode cX3_begins 54 = .ok (.getfield 44, 3) := dk_180 0 44 (dk_at dksX3_begins_2 6 rfl rfl)
theorem dX3_begins_57 : decode cX3_begins 57 = .ok (.iastore, 1) := dk_79 (dk_at dksX3_begins_2 9 rfl rfl)
theorem dX3_begins_58 : decode cX3_begins 58 = .ok (.iinc 2 1, 3) := dk_132 2 1 (dk_at dksX3_begins_2 10 rfl rfl)
theorem dX3_begins_61 : decode cX3_begins 61 = .ok (.goto (-25), 3) := dk_167 255 231 (dk_at dksX3_begins_2 13 rfl rfl)
theorem dX3_begins_64 : decode cX3_begins 64 = .ok (.aload_n 0, 1) := dk_42 (dk_at dksX3_begins_2 16 rfl rfl)
theorem dX3_begins_65 : decode cX3_begins 65 = .ok (.areturn, 1) := dk_176 (dk_at dksX3_begins_2 17 rfl rfl)
abbrev cX3_open : ByteArray := prog_24_method_21_code
abbrev yX3_open : MethodName := { cls := "WornSkin$Shelf", name := "open", desc := "(I)I" }
def dkwX3_open_0 : List UInt8 := [42, 180, 0, 29, 16, 6, 27, 104, 122, 16, 63, 126, 172]
abbrev dktX3_open_0 : List UInt8 := dkwX3_open_0 ++ []
theorem dksX3_open_0 : cX3_open.data.toList.drop 0 = dktX3_open_0 := by decide +kernel
theorem dX3_open_0 : decode cX3_open 0 = .ok (.aload_n 0, 1) := dk_42 (dk_at dksX3_open_0 0 rfl rfl)
theorem dX3_open_1 : decode cX3_open 1 = .ok (.getfield 29, 3) := dk_180 0 29 (dk_at dksX3_open_0 1 rfl rfl)
theorem dX3_open_4 : decode cX3_open 4 = .ok (.bipush 6, 2) := dk_16 6 (dk_at dksX3_open_0 4 rfl rfl)
theorem dX3_open_6 : decode cX3_open 6 = .ok (.iload_n 1, 1) := dk_27 (dk_at dksX3_open_0 6 rfl rfl)
theorem dX3_open_7 : decode cX3_open 7 = .ok (.imul, 1) := dk_104 (dk_at dksX3_open_0 7 rfl rfl)
theorem dX3_open_8 : decode cX3_open 8 = .ok (.ishr, 1) := dk_122 (dk_at dksX3_open_0 8 rfl rfl)
theorem dX3_open_9 : decode cX3_open 9 = .ok (.bipush 63, 2) := dk_16 63 (dk_at dksX3_open_0 9 rfl rfl)
theorem dX3_open_11 : decode cX3_open 11 = .ok (.iand, 1) := dk_126 (dk_at dksX3_open_0 11 rfl rfl)
theorem dX3_open_12 : decode cX3_open 12 = .ok (.ireturn, 1) := dk_172 (dk_at dksX3_open_0 12 rfl rfl)
abbrev cX3_damp : ByteArray := prog_24_method_9_code
abbrev yX3_damp : MethodName := { cls := "WornSkin$Shelf", name := "damp", desc := "()I" }
def dkwX3_damp_0 : List UInt8 := [42, 180, 0, 21, 42, 180, 0, 25, 182, 0, 78, 172]
abbrev dktX3_damp_0 : List UInt8 := dkwX3_damp_0 ++ []
theorem dksX3_damp_0 : cX3_damp.data.toList.drop 0 = dktX3_damp_0 := by decide +kernel
theorem dX3_damp_0 : decode cX3_damp 0 = .ok (.aload_n 0, 1) := dk_42 (dk_at dksX3_damp_0 0 rfl rfl)
theorem dX3_damp_1 : decode cX3_damp 1 = .ok (.getfield 21, 3) := dk_180 0 21 (dk_at dksX3_damp_0 1 rfl rfl)
theorem dX3_damp_4 : decode cX3_damp 4 = .ok (.aload_n 0, 1) := dk_42 (dk_at dksX3_damp_0 4 rfl rfl)
theorem dX3_damp_5 : decode cX3_damp 5 = .ok (.getfield 25, 3) := dk_180 0 25 (dk_at dksX3_damp_0 5 rfl rfl)
theorem dX3_damp_8 : decode cX3_damp 8 = .ok (.invokevirtual 78, 3) := dk_182 0 78 (dk_at dksX3_damp_0 8 rfl rfl)
theorem dX3_damp_11 : decode cX3_damp 11 = .ok (.ireturn, 1) := dk_172 (dk_at dksX3_damp_0 11 rfl rfl)
abbrev cX3_isOpen : ByteArray := prog_24_method_14_code
abbrev yX3_isOpen : MethodName := { cls := "WornSkin$Shelf", name := "isOpen", desc := "(I)Z" }
def dkwX3_isOpen_0 : List UInt8 := [42, 180, 0, 29, 27, 184, 0, 86, 172]
abbrev dktX3_isOpen_0 : List UInt8 := dkwX3_isOpen_0 ++ []
theorem dksX3_isOpen_0 : cX3_isOpen.data.toList.drop 0 = dktX3_isOpen_0 := by decide +kernel
theorem dX3_isOpen_0 : decode cX3_isOpen 0 = .ok (.aload_n 0, 1) := dk_42 (dk_at dksX3_isOpen_0 0 rfl rfl)
theorem dX3_isOpen_1 : decode cX3_isOpen 1 = .ok (.getfield 29, 3) := dk_180 0 29 (dk_at dksX3_isOpen_0 1 rfl rfl)
theorem dX3_isOpen_4 : decode cX3_isOpen 4 = .ok (.iload_n 1, 1) := dk_27 (dk_at dksX3_isOpen_0 4 rfl rfl)
theorem dX3_isOpen_5 : decode cX3_isOpen 5 = .ok (.invokestatic 86, 3) := dk_184 0 86 (dk_at dksX3_isOpen_0 5 rfl rfl)
theorem dX3_isOpen_8 : decode cX3_isOpen 8 = .ok (.ireturn, 1) := dk_172 (dk_at dksX3_isOpen_0 8 rfl rfl)
abbrev cX3_layer : ByteArray := prog_24_method_12_code
abbrev yX3_layer : MethodName := { cls := "WornSkin$Shelf", name := "layer", desc := "(II)I" }
def dkwX3_layer_0 : List UInt8 := [42, 180, 0, 15, 27, 46, 6, 28, 104, 122, 16, 7, 126, 172]
abbrev dktX3_layer_0 : List UInt8 := dkwX3_layer_0 ++ []
theorem dksX3_layer_0 : cX3_layer.data.toList.drop 0 = dktX3_layer_0 := by decide +kernel
theorem dX3_layer_0 : decode cX3_layer 0 = .ok (.aload_n 0, 1) := dk_42 (dk_at dksX3_layer_0 0 rfl rfl)
theorem dX3_layer_1 : decode cX3_layer 1 = .ok (.getfield 15, 3) := dk_180 0 15 (dk_at dksX3_layer_0 1 rfl rfl)
theorem dX3_layer_4 : decode cX3_layer 4 = .ok (.iload_n 1, 1) := dk_27 (dk_at dksX3_layer_0 4 rfl rfl)
theorem dX3_layer_5 : decode cX3_layer 5 = .ok (.iaload, 1) := dk_46 (dk_at dksX3_layer_0 5 rfl rfl)
theorem dX3_layer_6 : decode cX3_layer 6 = .ok (.iconst 3, 1) := dk_6 (dk_at dksX3_layer_0 6 rfl rfl)
theorem dX3_layer_7 : decode cX3_layer 7 = .ok (.iload_n 2, 1) := dk_28 (dk_at dksX3_layer_0 7 rfl rfl)
theorem dX3_layer_8 : decode cX3_layer 8 = .ok (.imul, 1) := dk_104 (dk_at dksX3_layer_0 8 rfl rfl)
theorem dX3_layer_9 : decode cX3_layer 9 = .ok (.ishr, 1) := dk_122 (dk_at dksX3_layer_0 9 rfl rfl)
theorem dX3_layer_10 : decode cX3_layer 10 = .ok (.bipush 7, 2) := dk_16 7 (dk_at dksX3_layer_0 10 rfl rfl)
theorem dX3_layer_12 : decode cX3_layer 12 = .ok (.iand, 1) := dk_126 (dk_at dksX3_layer_0 12 rfl rfl)
theorem dX3_layer_13 : decode cX3_layer 13 = .ok (.ireturn, 1) := dk_172 (dk_at dksX3_layer_0 13 rfl rfl)
abbrev cX3_top : ByteArray := prog_24_method_13_code
abbrev yX3_top : MethodName := { cls := "WornSkin$Shelf", name := "top", desc := "(I)I" }
def dkwX3_top_0 : List UInt8 := [42, 27, 42, 180, 0, 18, 27, 46, 4, 100, 182, 0, 82, 172]
abbrev dktX3_top_0 : List UInt8 := dkwX3_top_0 ++ []
theorem dksX3_top_0 : cX3_top.data.toList.drop 0 = dktX3_top_0 := by decide +kernel
theorem dX3_top_0 : decode cX3_top 0 = .ok (.aload_n 0, 1) := dk_42 (dk_at dksX3_top_0 0 rfl rfl)
theorem dX3_top_1 : decode cX3_top 1 = .ok (.iload_n 1, 1) := dk_27 (dk_at dksX3_top_0 1 rfl rfl)
theorem dX3_top_2 : decode cX3_top 2 = .ok (.aload_n 0, 1) := dk_42 (dk_at dksX3_top_0 2 rfl rfl)
theorem dX3_top_3 : decode cX3_top 3 = .ok (.getfield 18, 3) := dk_180 0 18 (dk_at dksX3_top_0 3 rfl rfl)
theorem dX3_top_6 : decode cX3_top 6 = .ok (.iload_n 1, 1) := dk_27 (dk_at dksX3_top_0 6 rfl rfl)
theorem dX3_top_7 : decode cX3_top 7 = .ok (.iaload, 1) := dk_46 (dk_at dksX3_top_0 7 rfl rfl)
theorem dX3_top_8 : decode cX3_top 8 = .ok (.iconst 1, 1) := dk_4 (dk_at dksX3_top_0 8 rfl rfl)
theorem dX3_top_9 : decode cX3_top 9 = .ok (.isub, 1) := dk_100 (dk_at dksX3_top_0 9 rfl rfl)
theorem dX3_top_10 : decode cX3_top 10 = .ok (.invokevirtual 82, 3) := dk_182 0 82 (dk_at dksX3_top_0 10 rfl rfl)
theorem dX3_top_13 : decode cX3_top 13 = .ok (.ireturn, 1) := dk_172 (dk_at dksX3_top_0 13 rfl rfl)
abbrev cX3_text : ByteArray := prog_24_method_8_code
abbrev yX3_text : MethodName := { cls := "WornSkin$Shelf", name := "text", desc := "(I)LWornSkin$Text;" }
def dkwX3_text_0 : List UInt8 := [42, 180, 0, 21, 180, 0, 69, 27, 182, 0, 72, 192, 0, 76, 176]
abbrev dktX3_text_0 : List UInt8 := dkwX3_text_0 ++ []
theorem dksX3_text_0 : cX3_text.data.toList.drop 0 = dktX3_text_0 := by decide +kernel
theorem dX3_text_0 : decode cX3_text 0 = .ok (.aload_n 0, 1) := dk_42 (dk_at dksX3_text_0 0 rfl rfl)
theorem dX3_text_1 : decode cX3_text 1 = .ok (.getfield 21, 3) := dk_180 0 21 (dk_at dksX3_text_0 1 rfl rfl)
theorem dX3_text_4 : decode cX3_text 4 = .ok (.getfield 69, 3) := dk_180 0 69 (dk_at dksX3_text_0 4 rfl rfl)
theorem dX3_text_7 : decode cX3_text 7 = .ok (.iload_n 1, 1) := dk_27 (dk_at dksX3_text_0 7 rfl rfl)
theorem dX3_text_8 : decode cX3_text 8 = .ok (.invokevirtual 72, 3) := dk_182 0 72 (dk_at dksX3_text_0 8 rfl rfl)
theorem dX3_text_11 : decode cX3_text 11 = .ok (.checkcast 76, 3) := dk_192 0 76 (dk_at dksX3_text_0 11 rfl rfl)
theorem dX3_text_14 : decode cX3_text 14 = .ok (.areturn, 1) := dk_176 (dk_at dksX3_text_0 14 rfl rfl)
abbrev cX3_read : ByteArray := prog_24_method_25_code
abbrev yX3_read : MethodName := { cls := "WornSkin$Shelf", name := "read", desc := "(III)I" }
def dkwX3_read_3 : List UInt8 := [46, 182, 0, 137, 153, 0, 12, 42, 21, 4, 21, 5, 182, 0, 82, 172, 132, 5, 255, 167, 255, 200, 2, 172]
abbrev dktX3_read_3 : List UInt8 := dkwX3_read_3 ++ []
def dkwX3_read_2 : List UInt8 := [21, 5, 182, 0, 82, 182, 0, 103, 42, 180, 0, 18, 21, 4, 46, 21, 5, 100, 29, 42, 180, 0, 9, 27]
abbrev dktX3_read_2 : List UInt8 := dkwX3_read_2 ++ dktX3_read_3
def dkwX3_read_1 : List UInt8 := [42, 180, 0, 18, 21, 4, 46, 4, 100, 54, 5, 21, 5, 155, 0, 57, 42, 180, 0, 21, 42, 42, 21, 4]
abbrev dktX3_read_1 : List UInt8 := dkwX3_read_1 ++ dktX3_read_2
def dkwX3_read_0 : List UInt8 := [16, 6, 27, 104, 28, 96, 54, 4, 42, 21, 4, 182, 0, 96, 153, 0, 10, 42, 21, 4, 182, 0, 121, 172]
abbrev dktX3_read_0 : List UInt8 := dkwX3_read_0 ++ dktX3_read_1
theorem dksX3_read_0 : cX3_read.data.toList.drop 0 = dktX3_read_0 := by decide +kernel
theorem dksX3_read_1 : cX3_read.data.toList.drop 24 = dktX3_read_1 := dk_seg dksX3_read_0 24 rfl rfl
theorem dksX3_read_2 : cX3_read.data.toList.drop 48 = dktX3_read_2 := dk_seg dksX3_read_1 24 rfl rfl
theorem dksX3_read_3 : cX3_read.data.toList.drop 72 = dktX3_read_3 := dk_seg dksX3_read_2 24 rfl rfl
theorem dX3_read_0 : decode cX3_read 0 = .ok (.bipush 6, 2) := dk_16 6 (dk_at dksX3_read_0 0 rfl rfl)
theorem dX3_read_2 : decode cX3_read 2 = .ok (.iload_n 1, 1) := dk_27 (dk_at dksX3_read_0 2 rfl rfl)
theorem dX3_read_3 : decode cX3_read 3 = .ok (.imul, 1) := dk_104 (dk_at dksX3_read_0 3 rfl rfl)
theorem dX3_read_4 : decode cX3_read 4 = .ok (.iload_n 2, 1) := dk_28 (dk_at dksX3_read_0 4 rfl rfl)
theorem dX3_read_5 : decode cX3_read 5 = .ok (.iadd, 1) := dk_96 (dk_at dksX3_read_0 5 rfl rfl)
theorem dX3_read_6 : decode cX3_read 6 = .ok (.istore 4, 2) := dk_54 4 (dk_at dksX3_read_0 6 rfl rfl)
theorem dX3_read_8 : decode cX3_read 8 = .ok (.aload_n 0, 1) := dk_42 (dk_at dksX3_read_0 8 rfl rfl)
theorem dX3_read_9 : decode cX3_read 9 = .ok (.iload 4, 2) := dk_21 4 (dk_at dksX3_read_0 9 rfl rfl)
theorem dX3_read_11 : decode cX3_read 11 = .ok (.invokevirtual 96, 3) := dk_182 0 96 (dk_at dksX3_read_0 11 rfl rfl)
theorem dX3_read_14 : decode cX3_read 14 = .ok (.ifCond .eq 10, 3) := dk_153 0 10 (dk_at dksX3_read_0 14 rfl rfl)
theorem dX3_read_17 : decode cX3_read 17 = .ok (.aload_n 0, 1) := dk_42 (dk_at dksX3_read_0 17 rfl rfl)
theorem dX3_read_18 : decode cX3_read 18 = .ok (.iload 4, 2) := dk_21 4 (dk_at dksX3_read_0 18 rfl rfl)
theorem dX3_read_20 : decode cX3_read 20 = .ok (.invokevirtual 121, 3) := dk_182 0 121 (dk_at dksX3_read_0 20 rfl rfl)
theorem dX3_read_23 : decode cX3_read 23 = .ok (.ireturn, 1) := dk_172 (dk_at dksX3_read_0 23 rfl rfl)
theorem dX3_read_24 : decode cX3_read 24 = .ok (.aload_n 0, 1) := dk_42 (dk_at dksX3_read_1 0 rfl rfl)
theorem dX3_read_25 : decode cX3_read 25 = .ok (.getfield 18, 3) := dk_180 0 18 (dk_at dksX3_read_1 1 rfl rfl)
theorem dX3_read_28 : decode cX3_read 28 = .ok (.iload 4, 2) := dk_21 4 (dk_at dksX3_read_1 4 rfl rfl)
theorem dX3_read_30 : decode cX3_read 30 = .ok (.iaload, 1) := dk_46 (dk_at dksX3_read_1 6 rfl rfl)
theorem dX3_read_31 : decode cX3_read 31 = .ok (.iconst 1, 1) := dk_4 (dk_at dksX3_read_1 7 rfl rfl)
theorem dX3_read_32 : decode cX3_read 32 = .ok (.isub, 1) := dk_100 (dk_at dksX3_read_1 8 rfl rfl)
theorem dX3_read_33 : decode cX3_read 33 = .ok (.istore 5, 2) := dk_54 5 (dk_at dksX3_read_1 9 rfl rfl)
theorem dX3_read_35 : decode cX3_read 35 = .ok (.iload 5, 2) := dk_21 5 (dk_at dksX3_read_1 11 rfl rfl)
theorem dX3_read_37 : decode cX3_read 37 = .ok (.ifCond .lt 57, 3) := dk_155 0 57 (dk_at dksX3_read_1 13 rfl rfl)
theorem dX3_read_40 : decode cX3_read 40 = .ok (.aload_n 0, 1) := dk_42 (dk_at dksX3_read_1 16 rfl rfl)
theorem dX3_read_41 : decode cX3_read 41 = .ok (.getfield 21, 3) := dk_180 0 21 (dk_at dksX3_read_1 17 rfl rfl)
theorem dX3_read_44 : decode cX3_read 44 = .ok (.aload_n 0, 1) := dk_42 (dk_at dksX3_read_1 20 rfl rfl)
theorem dX3_read_45 : decode cX3_read 45 = .ok (.aload_n 0, 1) := dk_42 (dk_at dksX3_read_1 21 rfl rfl)
theorem dX3_read_46 : decode cX3_read 46 = .ok (.iload 4, 2) := dk_21 4 (dk_at dksX3_read_1 22 rfl rfl)
theorem dX3_read_48 : decode cX3_read 48 = .ok (.iload 5, 2) := dk_21 5 (dk_at dksX3_read_2 0 rfl rfl)
theorem dX3_read_50 : decode cX3_read 50 = .ok (.invokevirtual 82, 3) := dk_182 0 82 (dk_at dksX3_read_2 2 rfl rfl)
theorem dX3_read_53 : decode cX3_read 53 = .ok (.invokevirtual 103, 3) := dk_182 0 103 (dk_at dksX3_read_2 5 rfl rfl)
theorem dX3_read_56 : decode cX3_read 56 = .ok (.aload_n 0, 1) := dk_42 (dk_at dksX3_read_2 8 rfl rfl)
theorem dX3_read_57 : decode cX3_read 57 = .ok (.getfield 18, 3) := dk_180 0 18 (dk_at dksX3_read_2 9 rfl rfl)
theorem dX3_read_60 : decode cX3_read 60 = .ok (.iload 4, 2) := dk_21 4 (dk_at dksX3_read_2 12 rfl rfl)
theorem dX3_read_62 : decode cX3_read 62 = .ok (.iaload, 1) := dk_46 (dk_at dksX3_read_2 14 rfl rfl)
theorem dX3_read_63 : decode cX3_read 63 = .ok (.iload 5, 2) := dk_21 5 (dk_at dksX3_read_2 15 rfl rfl)
theorem dX3_read_65 : decode cX3_read 65 = .ok (.isub, 1) := dk_100 (dk_at dksX3_read_2 17 rfl rfl)
theorem dX3_read_66 : decode cX3_read 66 = .ok (.iload_n 3, 1) := dk_29 (dk_at dksX3_read_2 18 rfl rfl)
theorem dX3_read_67 : decode cX3_read 67 = .ok (.aload_n 0, 1) := dk_42 (dk_at dksX3_read_2 19 rfl rfl)
theorem dX3_read_68 : decode cX3_read 68 = .ok (.getfield 9, 3) := dk_180 0 9 (dk_at dksX3_read_2 20 rfl rfl)
theorem dX3_read_71 : decode cX3_read 71 = .ok (.iload_n 1, 1) := dk_27 (dk_at dksX3_read_2 23 rfl rfl)
theorem dX3_read_72 : decode cX3_read 72 = .ok (.iaload, 1) := dk_46 (dk_at dksX3_read_3 0 rfl rfl)
theorem dX3_read_73 : decode cX3_read 73 = .ok (.invokevirtual 137, 3) := dk_182 0 137 (dk_at dksX3_read_3 1 rfl rfl)
theorem dX3_read_76 : decode cX3_read 76 = .ok (.ifCond .eq 12, 3) := dk_153 0 12 (dk_at dksX3_read_3 4 rfl rfl)
theorem dX3_read_79 : decode cX3_read 79 = .ok (.aload_n 0, 1) := dk_42 (dk_at dksX3_read_3 7 rfl rfl)
theorem dX3_read_80 : decode cX3_read 80 = .ok (.iload 4, 2) := dk_21 4 (dk_at dksX3_read_3 8 rfl rfl)
theorem dX3_read_82 : decode cX3_read 82 = .ok (.iload 5, 2) := dk_21 5 (dk_at dksX3_read_3 10 rfl rfl)
theorem dX3_read_84 : decode cX3_read 84 = .ok (.invokevirtual 82, 3) := dk_182 0 82 (dk_at dksX3_read_3 12 rfl rfl)
theorem dX3_read_87 : decode cX3_read 87 = .ok (.ireturn, 1) := dk_172 (dk_at dksX3_read_3 15 rfl rfl)
theorem dX3_read_88 : decode cX3_read 88 = .ok (.iinc 5 (-1), 3) := dk_132 5 255 (dk_at dksX3_read_3 16 rfl rfl)
theorem dX3_read_91 : decode cX3_read 91 = .ok (.goto (-56), 3) := dk_167 255 200 (dk_at dksX3_read_3 19 rfl rfl)
theorem dX3_read_94 : decode cX3_read 94 = .ok (.iconst (-1), 1) := dk_2 (dk_at dksX3_read_3 22 rfl rfl)
theorem dX3_read_95 : decode cX3_read 95 = .ok (.ireturn, 1) := dk_172 (dk_at dksX3_read_3 23 rfl rfl)
abbrev cX3_isWhole : ByteArray := prog_24_method_26_code
abbrev yX3_isWhole : MethodName := { cls := "WornSkin$Shelf", name := "isWhole", desc := "(II)Z" }
def dkwX3_isWhole_3 : List UInt8 := [3, 172]
abbrev dktX3_isWhole_3 : List UInt8 := dkwX3_isWhole_3 ++ []
def dkwX3_isWhole_2 : List UInt8 := [27, 182, 0, 103, 180, 0, 107, 160, 0, 5, 4, 172, 132, 5, 1, 167, 255, 209, 132, 3, 1, 167, 255, 189]
abbrev dktX3_isWhole_2 : List UInt8 := dkwX3_isWhole_2 ++ dktX3_isWhole_3
def dkwX3_isWhole_1 : List UInt8 := [29, 21, 5, 28, 182, 0, 141, 27, 160, 0, 10, 21, 4, 4, 96, 167, 0, 4, 3, 54, 4, 21, 4, 42]
abbrev dktX3_isWhole_1 : List UInt8 := dkwX3_isWhole_1 ++ dktX3_isWhole_2
def dkwX3_isWhole_0 : List UInt8 := [3, 62, 29, 42, 182, 0, 36, 162, 0, 65, 3, 54, 4, 3, 54, 5, 21, 5, 16, 6, 162, 0, 46, 42]
abbrev dktX3_isWhole_0 : List UInt8 := dkwX3_isWhole_0 ++ dktX3_isWhole_1
theorem dksX3_isWhole_0 : cX3_isWhole.data.toList.drop 0 = dktX3_isWhole_0 := by decide +kernel
theorem dksX3_isWhole_1 : cX3_isWhole.data.toList.drop 24 = dktX3_isWhole_1 := dk_seg dksX3_isWhole_0 24 rfl rfl
theorem dksX3_isWhole_2 : cX3_isWhole.data.toList.drop 48 = dktX3_isWhole_2 := dk_seg dksX3_isWhole_1 24 rfl rfl
theorem dksX3_isWhole_3 : cX3_isWhole.data.toList.drop 72 = dktX3_isWhole_3 := dk_seg dksX3_isWhole_2 24 rfl rfl
theorem dX3_isWhole_0 : decode cX3_isWhole 0 = .ok (.iconst 0, 1) := dk_3 (dk_at dksX3_isWhole_0 0 rfl rfl)
theorem dX3_isWhole_1 : decode cX3_isWhole 1 = .ok (.istore_n 3, 1) := dk_62 (dk_at dksX3_isWhole_0 1 rfl rfl)
theorem dX3_isWhole_2 : decode cX3_isWhole 2 = .ok (.iload_n 3, 1) := dk_29 (dk_at dksX3_isWhole_0 2 rfl rfl)
theorem dX3_isWhole_3 : decode cX3_isWhole 3 = .ok (.aload_n 0, 1) := dk_42 (dk_at dksX3_isWhole_0 3 rfl rfl)
theorem dX3_isWhole_4 : decode cX3_isWhole 4 = .ok (.invokevirtual 36, 3) := dk_182 0 36 (dk_at dksX3_isWhole_0 4 rfl rfl)
theorem dX3_isWhole_7 : decode cX3_isWhole 7 = .ok (.if_icmp .ge 65, 3) := dk_162 0 65 (dk_at dksX3_isWhole_0 7 rfl rfl)
theorem dX3_isWhole_10 : decode cX3_isWhole 10 = .ok (.iconst 0, 1) := dk_3 (dk_at dksX3_isWhole_0 10 rfl rfl)
theorem dX3_isWhole_11 : decode cX3_isWhole 11 = .ok (.istore 4, 2) := dk_54 4 (dk_at dksX3_isWhole_0 11 rfl rfl)
theorem dX3_isWhole_13 : decode cX3_isWhole 13 = .ok (.iconst 0, 1) := dk_3 (dk_at dksX3_isWhole_0 13 rfl rfl)
theorem dX3_isWhole_14 : decode cX3_isWhole 14 = .ok (.istore 5, 2) := dk_54 5 (dk_at dksX3_isWhole_0 14 rfl rfl)
theorem dX3_isWhole_16 : decode cX3_isWhole 16 = .ok (.iload 5, 2) := dk_21 5 (dk_at dksX3_isWhole_0 16 rfl rfl)
theorem dX3_isWhole_18 : decode cX3_isWhole 18 = .ok (.bipush 6, 2) := dk_16 6 (dk_at dksX3_isWhole_0 18 rfl rfl)
theorem dX3_isWhole_20 : decode cX3_isWhole 20 = .ok (.if_icmp .ge 46, 3) := dk_162 0 46 (dk_at dksX3_isWhole_0 20 rfl rfl)
theorem dX3_isWhole_23 : decode cX3_isWhole 23 = .ok (.aload_n 0, 1) := dk_42 (dk_at dksX3_isWhole_0 23 rfl rfl)
theorem dX3_isWhole_24 : decode cX3_isWhole 24 = .ok (.iload_n 3, 1) := dk_29 (dk_at dksX3_isWhole_1 0 rfl rfl)
theorem dX3_isWhole_25 : decode cX3_isWhole 25 = .ok (.iload 5, 2) := dk_21 5 (dk_at dksX3_isWhole_1 1 rfl rfl)
theorem dX3_isWhole_27 : decode cX3_isWhole 27 = .ok (.iload_n 2, 1) := dk_28 (dk_at dksX3_isWhole_1 3 rfl rfl)
theorem dX3_isWhole_28 : decode cX3_isWhole 28 = .ok (.invokevirtual 141, 3) := dk_182 0 141 (dk_at dksX3_isWhole_1 4 rfl rfl)
theorem dX3_isWhole_31 : decode cX3_isWhole 31 = .ok (.iload_n 1, 1) := dk_27 (dk_at dksX3_isWhole_1 7 rfl rfl)
theorem dX3_isWhole_32 : decode cX3_isWhole 32 = .ok (.if_icmp .ne 10, 3) := dk_160 0 10 (dk_at dksX3_isWhole_1 8 rfl rfl)
theorem dX3_isWhole_35 : decode cX3_isWhole 35 = .ok (.iload 4, 2) := dk_21 4 (dk_at dksX3_isWhole_1 11 rfl rfl)
theorem dX3_isWhole_37 : decode cX3_isWhole 37 = .ok (.iconst 1, 1) := dk_4 (dk_at dksX3_isWhole_1 13 rfl rfl)
theorem dX3_isWhole_38 : decode cX3_isWhole 38 = .ok (.iadd, 1) := dk_96 (dk_at dksX3_isWhole_1 14 rfl rfl)
theorem dX3_isWhole_39 : decode cX3_isWhole 39 = .ok (.goto 4, 3) := dk_167 0 4 (dk_at dksX3_isWhole_1 15 rfl rfl)
theorem dX3_isWhole_42 : decode cX3_isWhole 42 = .ok (.iconst 0, 1) := dk_3 (dk_at dksX3_isWhole_1 18 rfl rfl)
theorem dX3_isWhole_43 : decode cX3_isWhole 43 = .ok (.istore 4, 2) := dk_54 4 (dk_at dksX3_isWhole_1 19 rfl rfl)
theorem dX3_isWhole_45 : decode cX3_isWhole 45 = .ok (.iload 4, 2) := dk_21 4 (dk_at dksX3_isWhole_1 21 rfl rfl)
theorem dX3_isWhole_47 : decode cX3_isWhole 47 = .ok (.aload_n 0, 1) := dk_42 (dk_at dksX3_isWhole_1 23 rfl rfl)
theorem dX3_isWhole_48 : decode cX3_isWhole 48 = .ok (.iload_n 1, 1) := dk_27 (dk_at dksX3_isWhole_2 0 rfl rfl)
theorem dX3_isWhole_49 : decode cX3_isWhole 49 = .ok (.invokevirtual 103, 3) := dk_182 0 103 (dk_at dksX3_isWhole_2 1 rfl rfl)
theorem dX3_isWhole_52 : decode cX3_isWhole 52 = .ok (.getfield 107, 3) := dk_180 0 107 (dk_at dksX3_isWhole_2 4 rfl rfl)
theorem dX3_isWhole_55 : decode cX3_isWhole 55 = .ok (.if_icmp .ne 5, 3) := dk_160 0 5 (dk_at dksX3_isWhole_2 7 rfl rfl)
theorem dX3_isWhole_58 : decode cX3_isWhole 58 = .ok (.iconst 1, 1) := dk_4 (dk_at dksX3_isWhole_2 10 rfl rfl)
theorem dX3_isWhole_59 : decode cX3_isWhole 59 = .ok (.ireturn, 1) := dk_172 (dk_at dksX3_isWhole_2 11 rfl rfl)
theorem dX3_isWhole_60 : decode cX3_isWhole 60 = .ok (.iinc 5 1, 3) := dk_132 5 1 (dk_at dksX3_isWhole_2 12 rfl rfl)
theorem dX3_isWhole_63 : decode cX3_isWhole 63 = .ok (.goto (-47), 3) := dk_167 255 209 (dk_at dksX3_isWhole_2 15 rfl rfl)
theorem dX3_isWhole_66 : decode cX3_isWhole 66 = .ok (.iinc 3 1, 3) := dk_132 3 1 (dk_at dksX3_isWhole_2 18 rfl rfl)
theorem dX3_isWhole_69 : decode cX3_isWhole 69 = .ok (.goto (-67), 3) := dk_167 255 189 (dk_at dksX3_isWhole_2 21 rfl rfl)
theorem dX3_isWhole_72 : decode cX3_isWhole 72 = .ok (.iconst 0, 1) := dk_3 (dk_at dksX3_isWhole_3 0 rfl rfl)
theorem dX3_isWhole_73 : decode cX3_isWhole 73 = .ok (.ireturn, 1) := dk_172 (dk_at dksX3_isWhole_3 1 rfl rfl)
abbrev cX3_isGone : ByteArray := prog_24_method_10_code
abbrev yX3_isGone : MethodName := { cls := "WornSkin$Shelf", name := "isGone", desc := "(I)Z" }
def dkwX3_isGone_0 : List UInt8 := [42, 180, 0, 9, 27, 46, 154, 0, 7, 4, 167, 0, 4, 3, 172]
abbrev dktX3_isGone_0 : List UInt8 := dkwX3_isGone_0 ++ []
theorem dksX3_isGone_0 : cX3_isGone.data.toList.drop 0 = dktX3_isGone_0 := by decide +kernel
theorem dX3_isGone_0 : decode cX3_isGone 0 = .ok (.aload_n 0, 1) := dk_42 (dk_at dksX3_isGone_0 0 rfl rfl)
theorem dX3_isGone_1 : decode cX3_isGone 1 = .ok (.getfield 9, 3) := dk_180 0 9 (dk_at dksX3_isGone_0 1 rfl rfl)
theorem dX3_isGone_4 : decode cX3_isGone 4 = .ok (.iload_n 1, 1) := dk_27 (dk_at dksX3_isGone_0 4 rfl rfl)
theorem dX3_isGone_5 : decode cX3_isGone 5 = .ok (.iaload, 1) := dk_46 (dk_at dksX3_isGone_0 5 rfl rfl)
theorem dX3_isGone_6 : decode cX3_isGone 6 = .ok (.ifCond .ne 7, 3) := dk_154 0 7 (dk_at dksX3_isGone_0 6 rfl rfl)
theorem dX3_isGone_9 : decode cX3_isGone 9 = .ok (.iconst 1, 1) := dk_4 (dk_at dksX3_isGone_0 9 rfl rfl)
theorem dX3_isGone_10 : decode cX3_isGone 10 = .ok (.goto 4, 3) := dk_167 0 4 (dk_at dksX3_isGone_0 10 rfl rfl)
theorem dX3_isGone_13 : decode cX3_isGone 13 = .ok (.iconst 0, 1) := dk_3 (dk_at dksX3_isGone_0 13 rfl rfl)
theorem dX3_isGone_14 : decode cX3_isGone 14 = .ok (.ireturn, 1) := dk_172 (dk_at dksX3_isGone_0 14 rfl rfl)
abbrev cX3_isFree : ByteArray := prog_24_method_17_code
abbrev yX3_isFree : MethodName := { cls := "WornSkin$Shelf", name := "isFree", desc := "(II)Z" }
def dkwX3_isFree_2 : List UInt8 := [16, 9, 162, 0, 7, 4, 167, 0, 4, 3, 172]
abbrev dktX3_isFree_2 : List UInt8 := dkwX3_isFree_2 ++ []
def dkwX3_isFree_1 : List UInt8 := [180, 0, 93, 28, 184, 0, 86, 154, 0, 26, 42, 29, 182, 0, 96, 154, 0, 18, 42, 180, 0, 18, 29, 46]
abbrev dktX3_isFree_1 : List UInt8 := dkwX3_isFree_1 ++ dktX3_isFree_2
def dkwX3_isFree_0 : List UInt8 := [16, 6, 27, 104, 28, 96, 62, 28, 42, 27, 182, 0, 40, 180, 0, 90, 162, 0, 41, 42, 27, 182, 0, 40]
abbrev dktX3_isFree_0 : List UInt8 := dkwX3_isFree_0 ++ dktX3_isFree_1
theorem dksX3_isFree_0 : cX3_isFree.data.toList.drop 0 = dktX3_isFree_0 := by decide +kernel
theorem dksX3_isFree_1 : cX3_isFree.data.toList.drop 24 = dktX3_isFree_1 := dk_seg dksX3_isFree_0 24 rfl rfl
theorem dksX3_isFree_2 : cX3_isFree.data.toList.drop 48 = dktX3_isFree_2 := dk_seg dksX3_isFree_1 24 rfl rfl
theorem dX3_isFree_0 : decode cX3_isFree 0 = .ok (.bipush 6, 2) := dk_16 6 (dk_at dksX3_isFree_0 0 rfl rfl)
theorem dX3_isFree_2 : decode cX3_isFree 2 = .ok (.iload_n 1, 1) := dk_27 (dk_at dksX3_isFree_0 2 rfl rfl)
theorem dX3_isFree_3 : decode cX3_isFree 3 = .ok (.imul, 1) := dk_104 (dk_at dksX3_isFree_0 3 rfl rfl)
theorem dX3_isFree_4 : decode cX3_isFree 4 = .ok (.iload_n 2, 1) := dk_28 (dk_at dksX3_isFree_0 4 rfl rfl)
theorem dX3_isFree_5 : decode cX3_isFree 5 = .ok (.iadd, 1) := dk_96 (dk_at dksX3_isFree_0 5 rfl rfl)
theorem dX3_isFree_6 : decode cX3_isFree 6 = .ok (.istore_n 3, 1) := dk_62 (dk_at dksX3_isFree_0 6 rfl rfl)
theorem dX3_isFree_7 : decode cX3_isFree 7 = .ok (.iload_n 2, 1) := dk_28 (dk_at dksX3_isFree_0 7 rfl rfl)
theorem dX3_isFree_8 : decode cX3_isFree 8 = .ok (.aload_n 0, 1) := dk_42 (dk_at dksX3_isFree_0 8 rfl rfl)
theorem dX3_isFree_9 : decode cX3_isFree 9 = .ok (.iload_n 1, 1) := dk_27 (dk_at dksX3_isFree_0 9 rfl rfl)
theorem dX3_isFree_10 : decode cX3_isFree 10 = .ok (.invokevirtual 40, 3) := dk_182 0 40 (dk_at dksX3_isFree_0 10 rfl rfl)
theorem dX3_isFree_13 : decode cX3_isFree 13 = .ok (.getfield 90, 3) := dk_180 0 90 (dk_at dksX3_isFree_0 13 rfl rfl)
theorem dX3_isFree_16 : decode cX3_isFree 16 = .ok (.if_icmp .ge 41, 3) := dk_162 0 41 (dk_at dksX3_isFree_0 16 rfl rfl)
theorem dX3_isFree_19 : decode cX3_isFree 19 = .ok (.aload_n 0, 1) := dk_42 (dk_at dksX3_isFree_0 19 rfl rfl)
theorem dX3_isFree_20 : decode cX3_isFree 20 = .ok (.iload_n 1, 1) := dk_27 (dk_at dksX3_isFree_0 20 rfl rfl)
theorem dX3_isFree_21 : decode cX3_isFree 21 = .ok (.invokevirtual 40, 3) := dk_182 0 40 (dk_at dksX3_isFree_0 21 rfl rfl)
theorem dX3_isFree_24 : decode cX3_isFree 24 = .ok (.getfield 93, 3) := dk_180 0 93 (dk_at dksX3_isFree_1 0 rfl rfl)
theorem dX3_isFree_27 : decode cX3_isFree 27 = .ok (.iload_n 2, 1) := dk_28 (dk_at dksX3_isFree_1 3 rfl rfl)
theorem dX3_isFree_28 : decode cX3_isFree 28 = .ok (.invokestatic 86, 3) := dk_184 0 86 (dk_at dksX3_isFree_1 4 rfl rfl)
theorem dX3_isFree_31 : decode cX3_isFree 31 = .ok (.ifCond .ne 26, 3) := dk_154 0 26 (dk_at dksX3_isFree_1 7 rfl rfl)
theorem dX3_isFree_34 : decode cX3_isFree 34 = .ok (.aload_n 0, 1) := dk_42 (dk_at dksX3_isFree_1 10 rfl rfl)
theorem dX3_isFree_35 : decode cX3_isFree 35 = .ok (.iload_n 3, 1) := dk_29 (dk_at dksX3_isFree_1 11 rfl rfl)
theorem dX3_isFree_36 : decode cX3_isFree 36 = .ok (.invokevirtual 96, 3) := dk_182 0 96 (dk_at dksX3_isFree_1 12 rfl rfl)
theorem dX3_isFree_39 : decode cX3_isFree 39 = .ok (.ifCond .ne 18, 3) := dk_154 0 18 (dk_at dksX3_isFree_1 15 rfl rfl)
theorem dX3_isFree_42 : decode cX3_isFree 42 = .ok (.aload_n 0, 1) := dk_42 (dk_at dksX3_isFree_1 18 rfl rfl)
theorem dX3_isFree_43 : decode cX3_isFree 43 = .ok (.getfield 18, 3) := dk_180 0 18 (dk_at dksX3_isFree_1 19 rfl rfl)
theorem dX3_isFree_46 : decode cX3_isFree 46 = .ok (.iload_n 3, 1) := dk_29 (dk_at dksX3_isFree_1 22 rfl rfl)
theorem dX3_isFree_47 : decode cX3_isFree 47 = .ok (.iaload, 1) := dk_46 (dk_at dksX3_isFree_1 23 rfl rfl)
theorem dX3_isFree_48 : decode cX3_isFree 48 = .ok (.bipush 9, 2) := dk_16 9 (dk_at dksX3_isFree_2 0 rfl rfl)
theorem dX3_isFree_50 : decode cX3_isFree 50 = .ok (.if_icmp .ge 7, 3) := dk_162 0 7 (dk_at dksX3_isFree_2 2 rfl rfl)
theorem dX3_isFree_53 : decode cX3_isFree 53 = .ok (.iconst 1, 1) := dk_4 (dk_at dksX3_isFree_2 5 rfl rfl)
theorem dX3_isFree_54 : decode cX3_isFree 54 = .ok (.goto 4, 3) := dk_167 0 4 (dk_at dksX3_isFree_2 6 rfl rfl)
theorem dX3_isFree_57 : decode cX3_isFree 57 = .ok (.iconst 0, 1) := dk_3 (dk_at dksX3_isFree_2 9 rfl rfl)
theorem dX3_isFree_58 : decode cX3_isFree 58 = .ok (.ireturn, 1) := dk_172 (dk_at dksX3_isFree_2 10 rfl rfl)
abbrev cX3_mayWrite : ByteArray := prog_24_method_18_code
abbrev yX3_mayWrite : MethodName := { cls := "WornSkin$Shelf", name := "mayWrite", desc := "(III)Z" }
def dkwX3_mayWrite_1 : List UInt8 := [96, 162, 0, 21, 42, 28, 21, 4, 182, 0, 108, 154, 0, 5, 3, 172, 132, 4, 1, 167, 255, 226, 4, 172]
abbrev dktX3_mayWrite_1 : List UInt8 := dkwX3_mayWrite_1 ++ []
def dkwX3_mayWrite_0 : List UInt8 := [42, 28, 182, 0, 100, 153, 0, 5, 3, 172, 29, 54, 4, 21, 4, 29, 42, 27, 182, 0, 103, 180, 0, 107]
abbrev dktX3_mayWrite_0 : List UInt8 := dkwX3_mayWrite_0 ++ dktX3_mayWrite_1
theorem dksX3_mayWrite_0 : cX3_mayWrite.data.toList.drop 0 = dktX3_mayWrite_0 := by decide +kernel
theorem dksX3_mayWrite_1 : cX3_mayWrite.data.toList.drop 24 = dktX3_mayWrite_1 := dk_seg dksX3_mayWrite_0 24 rfl rfl
theorem dX3_mayWrite_0 : decode cX3_mayWrite 0 = .ok (.aload_n 0, 1) := dk_42 (dk_at dksX3_mayWrite_0 0 rfl rfl)
theorem dX3_mayWrite_1 : decode cX3_mayWrite 1 = .ok (.iload_n 2, 1) := dk_28 (dk_at dksX3_mayWrite_0 1 rfl rfl)
theorem dX3_mayWrite_2 : decode cX3_mayWrite 2 = .ok (.invokevirtual 100, 3) := dk_182 0 100 (dk_at dksX3_mayWrite_0 2 rfl rfl)
theorem dX3_mayWrite_5 : decode cX3_mayWrite 5 = .ok (.ifCond .eq 5, 3) := dk_153 0 5 (dk_at dksX3_mayWrite_0 5 rfl rfl)
theorem dX3_mayWrite_8 : decode cX3_mayWrite 8 = .ok (.iconst 0, 1) := dk_3 (dk_at dksX3_mayWrite_0 8 rfl rfl)
theorem dX3_mayWrite_9 : decode cX3_mayWrite 9 = .ok (.ireturn, 1) := dk_172 (dk_at dksX3_mayWrite_0 9 rfl rfl)
theorem dX3_mayWrite_10 : decode cX3_mayWrite 10 = .ok (.iload_n 3, 1) := dk_29 (dk_at dksX3_mayWrite_0 10 rfl rfl)
theorem dX3_mayWrite_11 : decode cX3_mayWrite 11 = .ok (.istore 4, 2) := dk_54 4 (dk_at dksX3_mayWrite_0 11 rfl rfl)
theorem dX3_mayWrite_13 : decode cX3_mayWrite 13 = .ok (.iload 4, 2) := dk_21 4 (dk_at dksX3_mayWrite_0 13 rfl rfl)
theorem dX3_mayWrite_15 : decode cX3_mayWrite 15 = .ok (.iload_n 3, 1) := dk_29 (dk_at dksX3_mayWrite_0 15 rfl rfl)
theorem dX3_mayWrite_16 : decode cX3_mayWrite 16 = .ok (.aload_n 0, 1) := dk_42 (dk_at dksX3_mayWrite_0 16 rfl rfl)
theorem dX3_mayWrite_17 : decode cX3_mayWrite 17 = .ok (.iload_n 1, 1) := dk_27 (dk_at dksX3_mayWrite_0 17 rfl rfl)
theorem dX3_mayWrite_18 : decode cX3_mayWrite 18 = .ok (.invokevirtual 103, 3) := dk_182 0 103 (dk_at dksX3_mayWrite_0 18 rfl rfl)
theorem dX3_mayWrite_21 : decode cX3_mayWrite 21 = .ok (.getfield 107, 3) := dk_180 0 107 (dk_at dksX3_mayWrite_0 21 rfl rfl)
theorem dX3_mayWrite_24 : decode cX3_mayWrite 24 = .ok (.iadd, 1) := dk_96 (dk_at dksX3_mayWrite_1 0 rfl rfl)
theorem dX3_mayWrite_25 : decode cX3_mayWrite 25 = .ok (.if_icmp .ge 21, 3) := dk_162 0 21 (dk_at dksX3_mayWrite_1 1 rfl rfl)
theorem dX3_mayWrite_28 : decode cX3_mayWrite 28 = .ok (.aload_n 0, 1) := dk_42 (dk_at dksX3_mayWrite_1 4 rfl rfl)
theorem dX3_mayWrite_29 : decode cX3_mayWrite 29 = .ok (.iload_n 2, 1) := dk_28 (dk_at dksX3_mayWrite_1 5 rfl rfl)
theorem dX3_mayWrite_30 : decode cX3_mayWrite 30 = .ok (.iload 4, 2) := dk_21 4 (dk_at dksX3_mayWrite_1 6 rfl rfl)
theorem dX3_mayWrite_32 : decode cX3_mayWrite 32 = .ok (.invokevirtual 108, 3) := dk_182 0 108 (dk_at dksX3_mayWrite_1 8 rfl rfl)
theorem dX3_mayWrite_35 : decode cX3_mayWrite 35 = .ok (.ifCond .ne 5, 3) := dk_154 0 5 (dk_at dksX3_mayWrite_1 11 rfl rfl)
theorem dX3_mayWrite_38 : decode cX3_mayWrite 38 = .ok (.iconst 0, 1) := dk_3 (dk_at dksX3_mayWrite_1 14 rfl rfl)
theorem dX3_mayWrite_39 : decode cX3_mayWrite 39 = .ok (.ireturn, 1) := dk_172 (dk_at dksX3_mayWrite_1 15 rfl rfl)
theorem dX3_mayWrite_40 : decode cX3_mayWrite 40 = .ok (.iinc 4 1, 3) := dk_132 4 1 (dk_at dksX3_mayWrite_1 16 rfl rfl)
theorem dX3_mayWrite_43 : decode cX3_mayWrite 43 = .ok (.goto (-30), 3) := dk_167 255 226 (dk_at dksX3_mayWrite_1 19 rfl rfl)
theorem dX3_mayWrite_46 : decode cX3_mayWrite 46 = .ok (.iconst 1, 1) := dk_4 (dk_at dksX3_mayWrite_1 22 rfl rfl)
theorem dX3_mayWrite_47 : decode cX3_mayWrite 47 = .ok (.ireturn, 1) := dk_172 (dk_at dksX3_mayWrite_1 23 rfl rfl)
abbrev cX3_copies : ByteArray := prog_24_method_4_code
abbrev yX3_copies : MethodName := { cls := "WornSkin$Shelf", name := "copies", desc := "(LWornSkin$Shelf;)LWornSkin$Shelf;" }
def dkwX3_copies_2 : List UInt8 := [16, 18, 184, 0, 53, 43, 180, 0, 18, 3, 42, 180, 0, 18, 3, 16, 18, 184, 0, 53, 42, 176]
abbrev dktX3_copies_2 : List UInt8 := dkwX3_copies_2 ++ []
def dkwX3_copies_1 : List UInt8 := [43, 180, 0, 9, 3, 42, 180, 0, 9, 3, 6, 184, 0, 53, 43, 180, 0, 15, 3, 42, 180, 0, 15, 3]
abbrev dktX3_copies_1 : List UInt8 := dkwX3_copies_1 ++ dktX3_copies_2
def dkwX3_copies_0 : List UInt8 := [42, 43, 180, 0, 21, 181, 0, 21, 42, 43, 180, 0, 25, 181, 0, 25, 42, 43, 180, 0, 29, 181, 0, 29]
abbrev dktX3_copies_0 : List UInt8 := dkwX3_copies_0 ++ dktX3_copies_1
theorem dksX3_copies_0 : cX3_copies.data.toList.drop 0 = dktX3_copies_0 := by decide +kernel
theorem dksX3_copies_1 : cX3_copies.data.toList.drop 24 = dktX3_copies_1 := dk_seg dksX3_copies_0 24 rfl rfl
theorem dksX3_copies_2 : cX3_copies.data.toList.drop 48 = dktX3_copies_2 := dk_seg dksX3_copies_1 24 rfl rfl
theorem dX3_copies_0 : decode cX3_copies 0 = .ok (.aload_n 0, 1) := dk_42 (dk_at dksX3_copies_0 0 rfl rfl)
theorem dX3_copies_1 : decode cX3_copies 1 = .ok (.aload_n 1, 1) := dk_43 (dk_at dksX3_copies_0 1 rfl rfl)
theorem dX3_copies_2 : decode cX3_copies 2 = .ok (.getfield 21, 3) := dk_180 0 21 (dk_at dksX3_copies_0 2 rfl rfl)
theorem dX3_copies_5 : decode cX3_copies 5 = .ok (.putfield 21, 3) := dk_181 0 21 (dk_at dksX3_copies_0 5 rfl rfl)
theorem dX3_copies_8 : decode cX3_copies 8 = .ok (.aload_n 0, 1) := dk_42 (dk_at dksX3_copies_0 8 rfl rfl)
theorem dX3_copies_9 : decode cX3_copies 9 = .ok (.aload_n 1, 1) := dk_43 (dk_at dksX3_copies_0 9 rfl rfl)
theorem dX3_copies_10 : decode cX3_copies 10 = .ok (.getfield 25, 3) := dk_180 0 25 (dk_at dksX3_copies_0 10 rfl rfl)
theorem dX3_copies_13 : decode cX3_copies 13 = .ok (.putfield 25, 3) := dk_181 0 25 (dk_at dksX3_copies_0 13 rfl rfl)
theorem dX3_copies_16 : decode cX3_copies 16 = .ok (.aload_n 0, 1) := dk_42 (dk_at dksX3_copies_0 16 rfl rfl)
theorem dX3_copies_17 : decode cX3_copies 17 = .ok (.aload_n 1, 1) := dk_43 (dk_at dksX3_copies_0 17 rfl rfl)
theorem dX3_copies_18 : decode cX3_copies 18 = .ok (.getfield 29, 3) := dk_180 0 29 (dk_at dksX3_copies_0 18 rfl rfl)
theorem dX3_copies_21 : decode cX3_copies 21 = .ok (.putfield 29, 3) := dk_181 0 29 (dk_at dksX3_copies_0 21 rfl rfl)
theorem dX3_copies_24 : decode cX3_copies 24 = .ok (.aload_n 1, 1) := dk_43 (dk_at dksX3_copies_1 0 rfl rfl)
theorem dX3_copies_25 : decode cX3_copies 25 = .ok (.getfield 9, 3) := dk_180 0 9 (dk_at dksX3_copies_1 1 rfl rfl)
theorem dX3_copies_28 : decode cX3_copies 28 = .ok (.iconst 0, 1) := dk_3 (dk_at dksX3_copies_1 4 rfl rfl)
theorem dX3_copies_29 : decode cX3_copies 29 = .ok (.aload_n 0, 1) := dk_42 (dk_at dksX3_copies_1 5 rfl rfl)
theorem dX3_copies_30 : decode cX3_copies 30 = .ok (.getfield 9, 3) := dk_180 0 9 (dk_at dksX3_copies_1 6 rfl rfl)
theorem dX3_copies_33 : decode cX3_copies 33 = .ok (.iconst 0, 1) := dk_3 (dk_at dksX3_copies_1 9 rfl rfl)
theorem dX3_copies_34 : decode cX3_copies 34 = .ok (.iconst 3, 1) := dk_6 (dk_at dksX3_copies_1 10 rfl rfl)
theorem dX3_copies_35 : decode cX3_copies 35 = .ok (.invokestatic 53, 3) := dk_184 0 53 (dk_at dksX3_copies_1 11 rfl rfl)
theorem dX3_copies_38 : decode cX3_copies 38 = .ok (.aload_n 1, 1) := dk_43 (dk_at dksX3_copies_1 14 rfl rfl)
theorem dX3_copies_39 : decode cX3_copies 39 = .ok (.getfield 15, 3) := dk_180 0 15 (dk_at dksX3_copies_1 15 rfl rfl)
theorem dX3_copies_42 : decode cX3_copies 42 = .ok (.iconst 0, 1) := dk_3 (dk_at dksX3_copies_1 18 rfl rfl)
theorem dX3_copies_43 : decode cX3_copies 43 = .ok (.aload_n 0, 1) := dk_42 (dk_at dksX3_copies_1 19 rfl rfl)
theorem dX3_copies_44 : decode cX3_copies 44 = .ok (.getfield 15, 3) := dk_180 0 15 (dk_at dksX3_copies_1 20 rfl rfl)
theorem dX3_copies_47 : decode cX3_copies 47 = .ok (.iconst 0, 1) := dk_3 (dk_at dksX3_copies_1 23 rfl rfl)
theorem dX3_copies_48 : decode cX3_copies 48 = .ok (.bipush 18, 2) := dk_16 18 (dk_at dksX3_copies_2 0 rfl rfl)
theorem dX3_copies_50 : decode cX3_copies 50 = .ok (.invokestatic 53, 3) := dk_184 0 53 (dk_at dksX3_copies_2 2 rfl rfl)
theorem dX3_copies_53 : decode cX3_copies 53 = .ok (.aload_n 1, 1) := dk_43 (dk_at dksX3_copies_2 5 rfl rfl)
theorem dX3_copies_54 : decode cX3_copies 54 = .ok (.getfield 18, 3) := dk_180 0 18 (dk_at dksX3_copies_2 6 rfl rfl)
theorem dX3_copies_57 : decode cX3_copies 57 = .ok (.iconst 0, 1) := dk_3 (dk_at dksX3_copies_2 9 rfl rfl)
theorem dX3_copies_58 : decode cX3_copies 58 = .ok (.aload_n 0, 1) := dk_42 (dk_at dksX3_copies_2 10 rfl rfl)
theorem dX3_copies_59 : decode cX3_copies 59 = .ok (.getfield 18, 3) := dk_180 0 18 (dk_at dksX3_copies_2 11 rfl rfl)
theorem dX3_copies_62 : decode cX3_copies 62 = .ok (.iconst 0, 1) := dk_3 (dk_at dksX3_copies_2 14 rfl rfl)
theorem dX3_copies_63 : decode cX3_copies 63 = .ok (.bipush 18, 2) := dk_16 18 (dk_at dksX3_copies_2 15 rfl rfl)
theorem dX3_copies_65 : decode cX3_copies 65 = .ok (.invokestatic 53, 3) := dk_184 0 53 (dk_at dksX3_copies_2 17 rfl rfl)
theorem dX3_copies_68 : decode cX3_copies 68 = .ok (.aload_n 0, 1) := dk_42 (dk_at dksX3_copies_2 20 rfl rfl)
theorem dX3_copies_69 : decode cX3_copies 69 = .ok (.areturn, 1) := dk_176 (dk_at dksX3_copies_2 21 rfl rfl)
abbrev cX3_copied : ByteArray := prog_24_method_3_code
abbrev yX3_copied : MethodName := { cls := "WornSkin$Shelf", name := "copied", desc := "()LWornSkin$Shelf;" }
def dkwX3_copied_0 : List UInt8 := [187, 0, 10, 89, 183, 0, 48, 42, 182, 0, 49, 176]
abbrev dktX3_copied_0 : List UInt8 := dkwX3_copied_0 ++ []
theorem dksX3_copied_0 : cX3_copied.data.toList.drop 0 = dktX3_copied_0 := by decide +kernel
theorem dX3_copied_0 : decode cX3_copied 0 = .ok (.new 10, 3) := dk_187 0 10 (dk_at dksX3_copied_0 0 rfl rfl)
theorem dX3_copied_3 : decode cX3_copied 3 = .ok (.dup, 1) := dk_89 (dk_at dksX3_copied_0 3 rfl rfl)
theorem dX3_copied_4 : decode cX3_copied 4 = .ok (.invokespecial 48, 3) := dk_183 0 48 (dk_at dksX3_copied_0 4 rfl rfl)
theorem dX3_copied_7 : decode cX3_copied 7 = .ok (.aload_n 0, 1) := dk_42 (dk_at dksX3_copied_0 7 rfl rfl)
theorem dX3_copied_8 : decode cX3_copied 8 = .ok (.invokevirtual 49, 3) := dk_182 0 49 (dk_at dksX3_copied_0 8 rfl rfl)
theorem dX3_copied_11 : decode cX3_copied 11 = .ok (.areturn, 1) := dk_176 (dk_at dksX3_copied_0 11 rfl rfl)
abbrev cX3_writes : ByteArray := prog_24_method_19_code
abbrev yX3_writes : MethodName := { cls := "WornSkin$Shelf", name := "writes", desc := "(III)V" }
def dkwX3_writes_3 : List UInt8 := [181, 0, 29, 132, 4, 1, 167, 255, 188, 177]
abbrev dktX3_writes_3 : List UInt8 := dkwX3_writes_3 ++ []
def dkwX3_writes_2 : List UInt8 := [79, 42, 180, 0, 18, 21, 4, 92, 46, 4, 96, 79, 42, 89, 180, 0, 29, 4, 21, 4, 120, 128]
abbrev dktX3_writes_2 : List UInt8 := dkwX3_writes_2 ++ dktX3_writes_3
def dkwX3_writes_1 : List UInt8 := [96, 162, 0, 54, 42, 180, 0, 15, 21, 4, 92, 46, 27, 6, 42, 180, 0, 18, 21, 4, 46, 104, 120, 128]
abbrev dktX3_writes_1 : List UInt8 := dkwX3_writes_1 ++ dktX3_writes_2
def dkwX3_writes_0 : List UInt8 := [16, 6, 28, 104, 29, 96, 54, 4, 21, 4, 16, 6, 28, 104, 29, 96, 42, 27, 182, 0, 103, 180, 0, 107]
abbrev dktX3_writes_0 : List UInt8 := dkwX3_writes_0 ++ dktX3_writes_1
theorem dksX3_writes_0 : cX3_writes.data.toList.drop 0 = dktX3_writes_0 := by decide +kernel
theorem dksX3_writes_1 : cX3_writes.data.toList.drop 24 = dktX3_writes_1 := dk_seg dksX3_writes_0 24 rfl rfl
theorem dksX3_writes_2 : cX3_writes.data.toList.drop 48 = dktX3_writes_2 := dk_seg dksX3_writes_1 24 rfl rfl
theorem dksX3_writes_3 : cX3_writes.data.toList.drop 70 = dktX3_writes_3 := dk_seg dksX3_writes_2 22 rfl rfl
theorem dX3_writes_0 : decode cX3_writes 0 = .ok (.bipush 6, 2) := dk_16 6 (dk_at dksX3_writes_0 0 rfl rfl)
theorem dX3_writes_2 : decode cX3_writes 2 = .ok (.iload_n 2, 1) := dk_28 (dk_at dksX3_writes_0 2 rfl rfl)
theorem dX3_writes_3 : decode cX3_writes 3 = .ok (.imul, 1) := dk_104 (dk_at dksX3_writes_0 3 rfl rfl)
theorem dX3_writes_4 : decode cX3_writes 4 = .ok (.iload_n 3, 1) := dk_29 (dk_at dksX3_writes_0 4 rfl rfl)
theorem dX3_writes_5 : decode cX3_writes 5 = .ok (.iadd, 1) := dk_96 (dk_at dksX3_writes_0 5 rfl rfl)
theorem dX3_writes_6 : decode cX3_writes 6 = .ok (.istore 4, 2) := dk_54 4 (dk_at dksX3_writes_0 6 rfl rfl)
theorem dX3_writes_8 : decode cX3_writes 8 = .ok (.iload 4, 2) := dk_21 4 (dk_at dksX3_writes_0 8 rfl rfl)
theorem dX3_writes_10 : decode cX3_writes 10 = .ok (.bipush 6, 2) := dk_16 6 (dk_at dksX3_writes_0 10 rfl rfl)
theorem dX3_writes_12 : decode cX3_writes 12 = .ok (.iload_n 2, 1) := dk_28 (dk_at dksX3_writes_0 12 rfl rfl)
theorem dX3_writes_13 : decode cX3_writes 13 = .ok (.imul, 1) := dk_104 (dk_at dksX3_writes_0 13 rfl rfl)
theorem dX3_writes_14 : decode cX3_writes 14 = .ok (.iload_n 3, 1) := dk_29 (dk_at dksX3_writes_0 14 rfl rfl)
theorem dX3_writes_15 : decode cX3_writes 15 = .ok (.iadd, 1) := dk_96 (dk_at dksX3_writes_0 15 rfl rfl)
theorem dX3_writes_16 : decode cX3_writes 16 = .ok (.aload_n 0, 1) := dk_42 (dk_at dksX3_writes_0 16 rfl rfl)
theorem dX3_writes_17 : decode cX3_writes 17 = .ok (.iload_n 1, 1) := dk_27 (dk_at dksX3_writes_0 17 rfl rfl)
theorem dX3_writes_18 : decode cX3_writes 18 = .ok (.invokevirtual 103, 3) := dk_182 0 103 (dk_at dksX3_writes_0 18 rfl rfl)
theorem dX3_writes_21 : decode cX3_writes 21 = .ok (.getfield 107, 3) := dk_180 0 107 (dk_at dksX3_writes_0 21 rfl rfl)
theorem dX3_writes_24 : decode cX3_writes 24 = .ok (.iadd, 1) := dk_96 (dk_at dksX3_writes_1 0 rfl rfl)
theorem dX3_writes_25 : decode cX3_writes 25 = .ok (.if_icmp .ge 54, 3) := dk_162 0 54 (dk_at dksX3_writes_1 1 rfl rfl)
theorem dX3_writes_28 : decode cX3_writes 28 = .ok (.aload_n 0, 1) := dk_42 (dk_at dksX3_writes_1 4 rfl rfl)
theorem dX3_writes_29 : decode cX3_writes 29 = .ok (.getfield 15, 3) := dk_180 0 15 (dk_at dksX3_writes_1 5 rfl rfl)
theorem dX3_writes_32 : decode cX3_writes 32 = .ok (.iload 4, 2) := dk_21 4 (dk_at dksX3_writes_1 8 rfl rfl)
theorem dX3_writes_34 : decode cX3_writes 34 = .ok (.dup2, 1) := dk_92 (dk_at dksX3_writes_1 10 rfl rfl)
theorem dX3_writes_35 : decode cX3_writes 35 = .ok (.iaload, 1) := dk_46 (dk_at dksX3_writes_1 11 rfl rfl)
theorem dX3_writes_36 : decode cX3_writes 36 = .ok (.iload_n 1, 1) := dk_27 (dk_at dksX3_writes_1 12 rfl rfl)
theorem dX3_writes_37 : decode cX3_writes 37 = .ok (.iconst 3, 1) := dk_6 (dk_at dksX3_writes_1 13 rfl rfl)
theorem dX3_writes_38 : decode cX3_writes 38 = .ok (.aload_n 0, 1) := dk_42 (dk_at dksX3_writes_1 14 rfl rfl)
theorem dX3_writes_39 : decode cX3_writes 39 = .ok (.getfield 18, 3) := dk_180 0 18 (dk_at dksX3_writes_1 15 rfl rfl)
theorem dX3_writes_42 : decode cX3_writes 42 = .ok (.iload 4, 2) := dk_21 4 (dk_at dksX3_writes_1 18 rfl rfl)
theorem dX3_writes_44 : decode cX3_writes 44 = .ok (.iaload, 1) := dk_46 (dk_at dksX3_writes_1 20 rfl rfl)
theorem dX3_writes_45 : decode cX3_writes 45 = .ok (.imul, 1) := dk_104 (dk_at dksX3_writes_1 21 rfl rfl)
theorem dX3_writes_46 : decode cX3_writes 46 = .ok (.ishl, 1) := dk_120 (dk_at dksX3_writes_1 22 rfl rfl)
theorem dX3_writes_47 : decode cX3_writes 47 = .ok (.ior, 1) := dk_128 (dk_at dksX3_writes_1 23 rfl rfl)
theorem dX3_writes_48 : decode cX3_writes 48 = .ok (.iastore, 1) := dk_79 (dk_at dksX3_writes_2 0 rfl rfl)
theorem dX3_writes_49 : decode cX3_writes 49 = .ok (.aload_n 0, 1) := dk_42 (dk_at dksX3_writes_2 1 rfl rfl)
theorem dX3_writes_50 : decode cX3_writes 50 = .ok (.getfield 18, 3) := dk_180 0 18 (dk_at dksX3_writes_2 2 rfl rfl)
theorem dX3_writes_53 : decode cX3_writes 53 = .ok (.iload 4, 2) := dk_21 4 (dk_at dksX3_writes_2 5 rfl rfl)
theorem dX3_writes_55 : decode cX3_writes 55 = .ok (.dup2, 1) := dk_92 (dk_at dksX3_writes_2 7 rfl rfl)
theorem dX3_writes_56 : decode cX3_writes 56 = .ok (.iaload, 1) := dk_46 (dk_at dksX3_writes_2 8 rfl rfl)
theorem dX3_writes_57 : decode cX3_writes 57 = .ok (.iconst 1, 1) := dk_4 (dk_at dksX3_writes_2 9 rfl rfl)
theorem dX3_writes_58 : decode cX3_writes 58 = .ok (.iadd, 1) := dk_96 (dk_at dksX3_writes_2 10 rfl rfl)
theorem dX3_writes_59 : decode cX3_writes 59 = .ok (.iastore, 1) := dk_79 (dk_at dksX3_writes_2 11 rfl rfl)
theorem dX3_writes_60 : decode cX3_writes 60 = .ok (.aload_n 0, 1) := dk_42 (dk_at dksX3_writes_2 12 rfl rfl)
theorem dX3_writes_61 : decode cX3_writes 61 = .ok (.dup, 1) := dk_89 (dk_at dksX3_writes_2 13 rfl rfl)
theorem dX3_writes_62 : decode cX3_writes 62 = .ok (.getfield 29, 3) := dk_180 0 29 (dk_at dksX3_writes_2 14 rfl rfl)
theorem dX3_writes_65 : decode cX3_writes 65 = .ok (.iconst 1, 1) := dk_4 (dk_at dksX3_writes_2 17 rfl rfl)
theorem dX3_writes_66 : decode cX3_writes 66 = .ok (.iload 4, 2) := dk_21 4 (dk_at dksX3_writes_2 18 rfl rfl)
theorem dX3_writes_68 : decode cX3_writes 68 = .ok (.ishl, 1) := dk_120 (dk_at dksX3_writes_2 20 rfl rfl)
theorem dX3_writes_69 : decode cX3_writes 69 = .ok (.ior, 1) := dk_128 (dk_at dksX3_writes_2 21 rfl rfl)
theorem dX3_writes_70 : decode cX3_writes 70 = .ok (.putfield 29, 3) := dk_181 0 29 (dk_at dksX3_writes_3 0 rfl rfl)
theorem dX3_writes_73 : decode cX3_writes 73 = .ok (.iinc 4 1, 3) := dk_132 4 1 (dk_at dksX3_writes_3 3 rfl rfl)
theorem dX3_writes_76 : decode cX3_writes 76 = .ok (.goto (-68), 3) := dk_167 255 188 (dk_at dksX3_writes_3 6 rfl rfl)
theorem dX3_writes_79 : decode cX3_writes 79 = .ok (.return_, 1) := dk_177 (dk_at dksX3_writes_3 9 rfl rfl)
abbrev cX3_about : ByteArray := prog_24_method_22_code
abbrev yX3_about : MethodName := { cls := "WornSkin$Shelf", name := "about", desc := "(IZ)I" }
def dkwX3_about_0 : List UInt8 := [28, 153, 0, 14, 42, 27, 182, 0, 115, 16, 9, 126, 167, 0, 8, 42, 27, 182, 0, 115, 172]
abbrev dktX3_about_0 : List UInt8 := dkwX3_about_0 ++ []
theorem dksX3_about_0 : cX3_about.data.toList.drop 0 = dktX3_about_0 := by decide +kernel
theorem dX3_about_0 : decode cX3_about 0 = .ok (.iload_n 2, 1) := dk_28 (dk_at dksX3_about_0 0 rfl rfl)
theorem dX3_about_1 : decode cX3_about 1 = .ok (.ifCond .eq 14, 3) := dk_153 0 14 (dk_at dksX3_about_0 1 rfl rfl)
theorem dX3_about_4 : decode cX3_about 4 = .ok (.aload_n 0, 1) := dk_42 (dk_at dksX3_about_0 4 rfl rfl)
theorem dX3_about_5 : decode cX3_about 5 = .ok (.iload_n 1, 1) := dk_27 (dk_at dksX3_about_0 5 rfl rfl)
theorem dX3_about_6 : decode cX3_about 6 = .ok (.invokevirtual 115, 3) := dk_182 0 115 (dk_at dksX3_about_0 6 rfl rfl)
theorem dX3_about_9 : decode cX3_about 9 = .ok (.bipush 9, 2) := dk_16 9 (dk_at dksX3_about_0 9 rfl rfl)
theorem dX3_about_11 : decode cX3_about 11 = .ok (.iand, 1) := dk_126 (dk_at dksX3_about_0 11 rfl rfl)
theorem dX3_about_12 : decode cX3_about 12 = .ok (.goto 8, 3) := dk_167 0 8 (dk_at dksX3_about_0 12 rfl rfl)
theorem dX3_about_15 : decode cX3_about 15 = .ok (.aload_n 0, 1) := dk_42 (dk_at dksX3_about_0 15 rfl rfl)
theorem dX3_about_16 : decode cX3_about 16 = .ok (.iload_n 1, 1) := dk_27 (dk_at dksX3_about_0 16 rfl rfl)
theorem dX3_about_17 : decode cX3_about 17 = .ok (.invokevirtual 115, 3) := dk_182 0 115 (dk_at dksX3_about_0 17 rfl rfl)
theorem dX3_about_20 : decode cX3_about 20 = .ok (.ireturn, 1) := dk_172 (dk_at dksX3_about_0 20 rfl rfl)
abbrev cX3_mayScrape : ByteArray := prog_24_method_23_code
abbrev yX3_mayScrape : MethodName := { cls := "WornSkin$Shelf", name := "mayScrape", desc := "(IZ)Z" }
def dkwX3_mayScrape_0 : List UInt8 := [42, 27, 28, 182, 0, 117, 153, 0, 7, 4, 167, 0, 4, 3, 172]
abbrev dktX3_mayScrape_0 : List UInt8 := dkwX3_mayScrape_0 ++ []
theorem dksX3_mayScrape_0 : cX3_mayScrape.data.toList.drop 0 = dktX3_mayScrape_0 := by decide +kernel
theorem dX3_mayScrape_0 : decode cX3_mayScrape 0 = .ok (.aload_n 0, 1) := dk_42 (dk_at dksX3_mayScrape_0 0 rfl rfl)
theorem dX3_mayScrape_1 : decode cX3_mayScrape 1 = .ok (.iload_n 1, 1) := dk_27 (dk_at dksX3_mayScrape_0 1 rfl rfl)
theorem dX3_mayScrape_2 : decode cX3_mayScrape 2 = .ok (.iload_n 2, 1) := dk_28 (dk_at dksX3_mayScrape_0 2 rfl rfl)
theorem dX3_mayScrape_3 : decode cX3_mayScrape 3 = .ok (.invokevirtual 117, 3) := dk_182 0 117 (dk_at dksX3_mayScrape_0 3 rfl rfl)
theorem dX3_mayScrape_6 : decode cX3_mayScrape 6 = .ok (.ifCond .eq 7, 3) := dk_153 0 7 (dk_at dksX3_mayScrape_0 6 rfl rfl)
theorem dX3_mayScrape_9 : decode cX3_mayScrape 9 = .ok (.iconst 1, 1) := dk_4 (dk_at dksX3_mayScrape_0 9 rfl rfl)
theorem dX3_mayScrape_10 : decode cX3_mayScrape 10 = .ok (.goto 4, 3) := dk_167 0 4 (dk_at dksX3_mayScrape_0 10 rfl rfl)
theorem dX3_mayScrape_13 : decode cX3_mayScrape 13 = .ok (.iconst 0, 1) := dk_3 (dk_at dksX3_mayScrape_0 13 rfl rfl)
theorem dX3_mayScrape_14 : decode cX3_mayScrape 14 = .ok (.ireturn, 1) := dk_172 (dk_at dksX3_mayScrape_0 14 rfl rfl)
abbrev cX3_scrapes : ByteArray := prog_24_method_24_code
abbrev yX3_scrapes : MethodName := { cls := "WornSkin$Shelf", name := "scrapes", desc := "(IZ)V" }
def dkwX3_scrapes_8 : List UInt8 := [167, 255, 235, 177]
abbrev dktX3_scrapes_8 : List UInt8 := dkwX3_scrapes_8 ++ []
def dkwX3_scrapes_7 : List UInt8 := [3, 54, 6, 21, 6, 16, 6, 162, 0, 20, 42, 16, 6, 27, 104, 21, 6, 96, 182, 0, 32, 132, 6, 1]
abbrev dktX3_scrapes_7 : List UInt8 := dkwX3_scrapes_7 ++ dktX3_scrapes_8
def dkwX3_scrapes_6 : List UInt8 := [21, 5, 153, 0, 7, 4, 167, 0, 4, 3, 100, 184, 0, 132, 79, 42, 27, 182, 0, 100, 154, 0, 4, 177]
abbrev dktX3_scrapes_6 : List UInt8 := dkwX3_scrapes_6 ++ dktX3_scrapes_7
def dkwX3_scrapes_5 : List UInt8 := [180, 0, 9, 27, 3, 42, 180, 0, 9, 27, 46, 4, 100, 21, 4, 153, 0, 7, 4, 167, 0, 4, 3, 100]
abbrev dktX3_scrapes_5 : List UInt8 := dkwX3_scrapes_5 ++ dktX3_scrapes_6
def dkwX3_scrapes_4 : List UInt8 := [132, 6, 1, 167, 255, 177, 42, 89, 180, 0, 29, 29, 16, 6, 27, 104, 120, 2, 130, 126, 181, 0, 29, 42]
abbrev dktX3_scrapes_4 : List UInt8 := dkwX3_scrapes_4 ++ dktX3_scrapes_5
def dkwX3_scrapes_3 : List UInt8 := [54, 4, 21, 5, 154, 0, 11, 25, 7, 182, 0, 128, 153, 0, 7, 4, 167, 0, 4, 3, 54, 5]
abbrev dktX3_scrapes_3 : List UInt8 := dkwX3_scrapes_3 ++ dktX3_scrapes_4
def dkwX3_scrapes_2 : List UInt8 := [182, 0, 103, 58, 7, 21, 4, 154, 0, 11, 25, 7, 180, 0, 124, 153, 0, 7, 4, 167, 0, 4, 3]
abbrev dktX3_scrapes_2 : List UInt8 := dkwX3_scrapes_2 ++ dktX3_scrapes_3
def dkwX3_scrapes_1 : List UInt8 := [21, 6, 184, 0, 86, 154, 0, 6, 167, 0, 60, 42, 42, 16, 6, 27, 104, 21, 6, 96, 182, 0, 121]
abbrev dktX3_scrapes_1 : List UInt8 := dkwX3_scrapes_1 ++ dktX3_scrapes_2
def dkwX3_scrapes_0 : List UInt8 := [42, 27, 28, 182, 0, 117, 62, 3, 54, 4, 3, 54, 5, 3, 54, 6, 21, 6, 16, 6, 162, 0, 78, 29]
abbrev dktX3_scrapes_0 : List UInt8 := dkwX3_scrapes_0 ++ dktX3_scrapes_1
theorem dksX3_scrapes_0 : cX3_scrapes.data.toList.drop 0 = dktX3_scrapes_0 := by decide +kernel
theorem dksX3_scrapes_1 : cX3_scrapes.data.toList.drop 24 = dktX3_scrapes_1 := dk_seg dksX3_scrapes_0 24 rfl rfl
theorem dksX3_scrapes_2 : cX3_scrapes.data.toList.drop 47 = dktX3_scrapes_2 := dk_seg dksX3_scrapes_1 23 rfl rfl
theorem dksX3_scrapes_3 : cX3_scrapes.data.toList.drop 70 = dktX3_scrapes_3 := dk_seg dksX3_scrapes_2 23 rfl rfl
theorem dksX3_scrapes_4 : cX3_scrapes.data.toList.drop 92 = dktX3_scrapes_4 := dk_seg dksX3_scrapes_3 22 rfl rfl
theorem dksX3_scrapes_5 : cX3_scrapes.data.toList.drop 116 = dktX3_scrapes_5 := dk_seg dksX3_scrapes_4 24 rfl rfl
theorem dksX3_scrapes_6 : cX3_scrapes.data.toList.drop 140 = dktX3_scrapes_6 := dk_seg dksX3_scrapes_5 24 rfl rfl
theorem dksX3_scrapes_7 : cX3_scrapes.data.toList.drop 164 = dktX3_scrapes_7 := dk_seg dksX3_scrapes_6 24 rfl rfl
theorem dksX3_scrapes_8 : cX3_scrapes.data.toList.drop 188 = dktX3_scrapes_8 := dk_seg dksX3_scrapes_7 24 rfl rfl
theorem dX3_scrapes_0 : decode cX3_scrapes 0 = .ok (.aload_n 0, 1) := dk_42 (dk_at dksX3_scrapes_0 0 rfl rfl)
theorem dX3_scrapes_1 : decode cX3_scrapes 1 = .ok (.iload_n 1, 1) := dk_27 (dk_at dksX3_scrapes_0 1 rfl rfl)
theorem dX3_scrapes_2 : decode cX3_scrapes 2 = .ok (.iload_n 2, 1) := dk_28 (dk_at dksX3_scrapes_0 2 rfl rfl)
theorem dX3_scrapes_3 : decode cX3_scrapes 3 = .ok (.invokevirtual 117, 3) := dk_182 0 117 (dk_at dksX3_scrapes_0 3 rfl rfl)
theorem dX3_scrapes_6 : decode cX3_scrapes 6 = .ok (.istore_n 3, 1) := dk_62 (dk_at dksX3_scrapes_0 6 rfl rfl)
theorem dX3_scrapes_7 : decode cX3_scrapes 7 = .ok (.iconst 0, 1) := dk_3 (dk_at dksX3_scrapes_0 7 rfl rfl)
theorem dX3_scrapes_8 : decode cX3_scrapes 8 = .ok (.istore 4, 2) := dk_54 4 (dk_at dksX3_scrapes_0 8 rfl rfl)
theorem dX3_scrapes_10 : decode cX3_scrapes 10 = .ok (.iconst 0, 1) := dk_3 (dk_at dksX3_scrapes_0 10 rfl rfl)
theorem dX3_scrapes_11 : decode cX3_scrapes 11 = .ok (.istore 5, 2) := dk_54 5 (dk_at dksX3_scrapes_0 11 rfl rfl)
theorem dX3_scrapes_13 : decode cX3_scrapes 13 = .ok (.iconst 0, 1) := dk_3 (dk_at dksX3_scrapes_0 13 rfl rfl)
theorem dX3_scrapes_14 : decode cX3_scrapes 14 = .ok (.istore 6, 2) := dk_54 6 (dk_at dksX3_scrapes_0 14 rfl rfl)
theorem dX3_scrapes_16 : decode cX3_scrapes 16 = .ok (.iload 6, 2) := dk_21 6 (dk_at dksX3_scrapes_0 16 rfl rfl)
theorem dX3_scrapes_18 : decode cX3_scrapes 18 = .ok (.bipush 6, 2) := dk_16 6 (dk_at dksX3_scrapes_0 18 rfl rfl)
theorem dX3_scrapes_20 : decode cX3_scrapes 20 = .ok (.if_icmp .ge 78, 3) := dk_162 0 78 (dk_at dksX3_scrapes_0 20 rfl rfl)
theorem dX3_scrapes_23 : decode cX3_scrapes 23 = .ok (.iload_n 3, 1) := dk_29 (dk_at dksX3_scrapes_0 23 rfl rfl)
theorem dX3_scrapes_24 : decode cX3_scrapes 24 = .ok (.iload 6, 2) := dk_21 6 (dk_at dksX3_scrapes_1 0 rfl rfl)
theorem dX3_scrapes_26 : decode cX3_scrapes 26 = .ok (.invokestatic 86, 3) := dk_184 0 86 (dk_at dksX3_scrapes_1 2 rfl rfl)
theorem dX3_scrapes_29 : decode cX3_scrapes 29 = .ok (.ifCond .ne 6, 3) := dk_154 0 6 (dk_at dksX3_scrapes_1 5 rfl rfl)
theorem dX3_scrapes_32 : decode cX3_scrapes 32 = .ok (.goto 60, 3) := dk_167 0 60 (dk_at dksX3_scrapes_1 8 rfl rfl)
theorem dX3_scrapes_35 : decode cX3_scrapes 35 = .ok (.aload_n 0, 1) := dk_42 (dk_at dksX3_scrapes_1 11 rfl rfl)
theorem dX3_scrapes_36 : decode cX3_scrapes 36 = .ok (.aload_n 0, 1) := dk_42 (dk_at dksX3_scrapes_1 12 rfl rfl)
theorem dX3_scrapes_37 : decode cX3_scrapes 37 = .ok (.bipush 6, 2) := dk_16 6 (dk_at dksX3_scrapes_1 13 rfl rfl)
theorem dX3_scrapes_39 : decode cX3_scrapes 39 = .ok (.iload_n 1, 1) := dk_27 (dk_at dksX3_scrapes_1 15 rfl rfl)
theorem dX3_scrapes_40 : decode cX3_scrapes 40 = .ok (.imul, 1) := dk_104 (dk_at dksX3_scrapes_1 16 rfl rfl)
theorem dX3_scrapes_41 : decode cX3_scrapes 41 = .ok (.iload 6, 2) := dk_21 6 (dk_at dksX3_scrapes_1 17 rfl rfl)
theorem dX3_scrapes_43 : decode cX3_scrapes 43 = .ok (.iadd, 1) := dk_96 (dk_at dksX3_scrapes_1 19 rfl rfl)
theorem dX3_scrapes_44 : decode cX3_scrapes 44 = .ok (.invokevirtual 121, 3) := dk_182 0 121 (dk_at dksX3_scrapes_1 20 rfl rfl)
theorem dX3_scrapes_47 : decode cX3_scrapes 47 = .ok (.invokevirtual 103, 3) := dk_182 0 103 (dk_at dksX3_scrapes_2 0 rfl rfl)
theorem dX3_scrapes_50 : decode cX3_scrapes 50 = .ok (.astore 7, 2) := dk_58 7 (dk_at dksX3_scrapes_2 3 rfl rfl)
theorem dX3_scrapes_52 : decode cX3_scrapes 52 = .ok (.iload 4, 2) := dk_21 4 (dk_at dksX3_scrapes_2 5 rfl rfl)
theorem dX3_scrapes_54 : decode cX3_scrapes 54 = .ok (.ifCond .ne 11, 3) := dk_154 0 11 (dk_at dksX3_scrapes_2 7 rfl rfl)
theorem dX3_scrapes_57 : decode cX3_scrapes 57 = .ok (.aload 7, 2) := dk_25 7 (dk_at dksX3_scrapes_2 10 rfl rfl)
theorem dX3_scrapes_59 : decode cX3_scrapes 59 = .ok (.getfield 124, 3) := dk_180 0 124 (dk_at dksX3_scrapes_2 12 rfl rfl)
theorem dX3_scrapes_62 : decode cX3_scrapes 62 = .ok (.ifCond .eq 7, 3) := dk_153 0 7 (dk_at dksX3_scrapes_2 15 rfl rfl)
theorem dX3_scrapes_65 : decode cX3_scrapes 65 = .ok (.iconst 1, 1) := dk_4 (dk_at dksX3_scrapes_2 18 rfl rfl)
theorem dX3_scrapes_66 : decode cX3_scrapes 66 = .ok (.goto 4, 3) := dk_167 0 4 (dk_at dksX3_scrapes_2 19 rfl rfl)
theorem dX3_scrapes_69 : decode cX3_scrapes 69 = .ok (.iconst 0, 1) := dk_3 (dk_at dksX3_scrapes_2 22 rfl rfl)
theorem dX3_scrapes_70 : decode cX3_scrapes 70 = .ok (.istore 4, 2) := dk_54 4 (dk_at dksX3_scrapes_3 0 rfl rfl)
theorem dX3_scrapes_72 : decode cX3_scrapes 72 = .ok (.iload 5, 2) := dk_21 5 (dk_at dksX3_scrapes_3 2 rfl rfl)
theorem dX3_scrapes_74 : decode cX3_scrapes 74 = .ok (.ifCond .ne 11, 3) := dk_154 0 11 (dk_at dksX3_scrapes_3 4 rfl rfl)
theorem dX3_scrapes_77 : decode cX3_scrapes 77 = .ok (.aload 7, 2) := dk_25 7 (dk_at dksX3_scrapes_3 7 rfl rfl)
theorem dX3_scrapes_79 : decode cX3_scrapes 79 = .ok (.invokevirtual 128, 3) := dk_182 0 128 (dk_at dksX3_scrapes_3 9 rfl rfl)
theorem dX3_scrapes_82 : decode cX3_scrapes 82 = .ok (.ifCond .eq 7, 3) := dk_153 0 7 (dk_at dksX3_scrapes_3 12 rfl rfl)
theorem dX3_scrapes_85 : decode cX3_scrapes 85 = .ok (.iconst 1, 1) := dk_4 (dk_at dksX3_scrapes_3 15 rfl rfl)
theorem dX3_scrapes_86 : decode cX3_scrapes 86 = .ok (.goto 4, 3) := dk_167 0 4 (dk_at dksX3_scrapes_3 16 rfl rfl)
theorem dX3_scrapes_89 : decode cX3_scrapes 89 = .ok (.iconst 0, 1) := dk_3 (dk_at dksX3_scrapes_3 19 rfl rfl)
theorem dX3_scrapes_90 : decode cX3_scrapes 90 = .ok (.istore 5, 2) := dk_54 5 (dk_at dksX3_scrapes_3 20 rfl rfl)
theorem dX3_scrapes_92 : decode cX3_scrapes 92 = .ok (.iinc 6 1, 3) := dk_132 6 1 (dk_at dksX3_scrapes_4 0 rfl rfl)
theorem dX3_scrapes_95 : decode cX3_scrapes 95 = .ok (.goto (-79), 3) := dk_167 255 177 (dk_at dksX3_scrapes_4 3 rfl rfl)
theorem dX3_scrapes_98 : decode cX3_scrapes 98 = .ok (.aload_n 0, 1) := dk_42 (dk_at dksX3_scrapes_4 6 rfl rfl)
theorem dX3_scrapes_99 : decode cX3_scrapes 99 = .ok (.dup, 1) := dk_89 (dk_at dksX3_scrapes_4 7 rfl rfl)
theorem dX3_scrapes_100 : decode cX3_scrapes 100 = .ok (.getfield 29, 3) := dk_180 0 29 (dk_at dksX3_scrapes_4 8 rfl rfl)
theorem dX3_scrapes_103 : decode cX3_scrapes 103 = .ok (.iload_n 3, 1) := dk_29 (dk_at dksX3_scrapes_4 11 rfl rfl)
theorem dX3_scrapes_104 : decode cX3_scrapes 104 = .ok (.bipush 6, 2) := dk_16 6 (dk_at dksX3_scrapes_4 12 rfl rfl)
theorem dX3_scrapes_106 : decode cX3_scrapes 106 = .ok (.iload_n 1, 1) := dk_27 (dk_at dksX3_scrapes_4 14 rfl rfl)
theorem dX3_scrapes_107 : decode cX3_scrapes 107 = .ok (.imul, 1) := dk_104 (dk_at dksX3_scrapes_4 15 rfl rfl)
theorem dX3_scrapes_108 : decode cX3_scrapes 108 = .ok (.ishl, 1) := dk_120 (dk_at dksX3_scrapes_4 16 rfl rfl)
theorem dX3_scrapes_109 : decode cX3_scrapes 109 = .ok (.iconst (-1), 1) := dk_2 (dk_at dksX3_scrapes_4 17 rfl rfl)
theorem dX3_scrapes_110 : decode cX3_scrapes 110 = .ok (.ixor, 1) := dk_130 (dk_at dksX3_scrapes_4 18 rfl rfl)
theorem dX3_scrapes_111 : decode cX3_scrapes 111 = .ok (.iand, 1) := dk_126 (dk_at dksX3_scrapes_4 19 rfl rfl)
theorem dX3_scrapes_112 : decode cX3_scrapes 112 = .ok (.putfield 29, 3) := dk_181 0 29 (dk_at dksX3_scrapes_4 20 rfl rfl)
theorem dX3_scrapes_115 : decode cX3_scrapes 115 = .ok (.aload_n 0, 1) := dk_42 (dk_at dksX3_scrapes_4 23 rfl rfl)
theorem dX3_scrapes_116 : decode cX3_scrapes 116 = .ok (.getfield 9, 3) := dk_180 0 9 (dk_at dksX3_scrapes_5 0 rfl rfl)
theorem dX3_scrapes_119 : decode cX3_scrapes 119 = .ok (.iload_n 1, 1) := dk_27 (dk_at dksX3_scrapes_5 3 rfl rfl)
theorem dX3_scrapes_120 : decode cX3_scrapes 120 = .ok (.iconst 0, 1) := dk_3 (dk_at dksX3_scrapes_5 4 rfl rfl)
theorem dX3_scrapes_121 : decode cX3_scrapes 121 = .ok (.aload_n 0, 1) := dk_42 (dk_at dksX3_scrapes_5 5 rfl rfl)
theorem dX3_scrapes_122 : decode cX3_scrapes 122 = .ok (.getfield 9, 3) := dk_180 0 9 (dk_at dksX3_scrapes_5 6 rfl rfl)
theorem dX3_scrapes_125 : decode cX3_scrapes 125 = .ok (.iload_n 1, 1) := dk_27 (dk_at dksX3_scrapes_5 9 rfl rfl)
theorem dX3_scrapes_126 : decode cX3_scrapes 126 = .ok (.iaload, 1) := dk_46 (dk_at dksX3_scrapes_5 10 rfl rfl)
theorem dX3_scrapes_127 : decode cX3_scrapes 127 = .ok (.iconst 1, 1) := dk_4 (dk_at dksX3_scrapes_5 11 rfl rfl)
theorem dX3_scrapes_128 : decode cX3_scrapes 128 = .ok (.isub, 1) := dk_100 (dk_at dksX3_scrapes_5 12 rfl rfl)
theorem dX3_scrapes_129 : decode cX3_scrapes 129 = .ok (.iload 4, 2) := dk_21 4 (dk_at dksX3_scrapes_5 13 rfl rfl)
theorem dX3_scrapes_131 : decode cX3_scrapes 131 = .ok (.ifCond .eq 7, 3) := dk_153 0 7 (dk_at dksX3_scrapes_5 15 rfl rfl)
theorem dX3_scrapes_134 : decode cX3_scrapes 134 = .ok (.iconst 1, 1) := dk_4 (dk_at dksX3_scrapes_5 18 rfl rfl)
theorem dX3_scrapes_135 : decode cX3_scrapes 135 = .ok (.goto 4, 3) := dk_167 0 4 (dk_at dksX3_scrapes_5 19 rfl rfl)
theorem dX3_scrapes_138 : decode cX3_scrapes 138 = .ok (.iconst 0, 1) := dk_3 (dk_at dksX3_scrapes_5 22 rfl rfl)
theorem dX3_scrapes_139 : decode cX3_scrapes 139 = .ok (.isub, 1) := dk_100 (dk_at dksX3_scrapes_5 23 rfl rfl)
theorem dX3_scrapes_140 : decode cX3_scrapes 140 = .ok (.iload 5, 2) := dk_21 5 (dk_at dksX3_scrapes_6 0 rfl rfl)
theorem dX3_scrapes_142 : decode cX3_scrapes 142 = .ok (.ifCond .eq 7, 3) := dk_153 0 7 (dk_at dksX3_scrapes_6 2 rfl rfl)
theorem dX3_scrapes_145 : decode cX3_scrapes 145 = .ok (.iconst 1, 1) := dk_4 (dk_at dksX3_scrapes_6 5 rfl rfl)
theorem dX3_scrapes_146 : decode cX3_scrapes 146 = .ok (.goto 4, 3) := dk_167 0 4 (dk_at dksX3_scrapes_6 6 rfl rfl)
theorem dX3_scrapes_149 : decode cX3_scrapes 149 = .ok (.iconst 0, 1) := dk_3 (dk_at dksX3_scrapes_6 9 rfl rfl)
theorem dX3_scrapes_150 : decode cX3_scrapes 150 = .ok (.isub, 1) := dk_100 (dk_at dksX3_scrapes_6 10 rfl rfl)
theorem dX3_scrapes_151 : decode cX3_scrapes 151 = .ok (.invokestatic 132, 3) := dk_184 0 132 (dk_at dksX3_scrapes_6 11 rfl rfl)
theorem dX3_scrapes_154 : decode cX3_scrapes 154 = .ok (.iastore, 1) := dk_79 (dk_at dksX3_scrapes_6 14 rfl rfl)
theorem dX3_scrapes_155 : decode cX3_scrapes 155 = .ok (.aload_n 0, 1) := dk_42 (dk_at dksX3_scrapes_6 15 rfl rfl)
theorem dX3_scrapes_156 : decode cX3_scrapes 156 = .ok (.iload_n 1, 1) := dk_27 (dk_at dksX3_scrapes_6 16 rfl rfl)
theorem dX3_scrapes_157 : decode cX3_scrapes 157 = .ok (.invokevirtual 100, 3) := dk_182 0 100 (dk_at dksX3_scrapes_6 17 rfl rfl)
theorem dX3_scrapes_160 : decode cX3_scrapes 160 = .ok (.ifCond .ne 4, 3) := dk_154 0 4 (dk_at dksX3_scrapes_6 20 rfl rfl)
theorem dX3_scrapes_163 : decode cX3_scrapes 163 = .ok (.return_, 1) := dk_177 (dk_at dksX3_scrapes_6 23 rfl rfl)
theorem dX3_scrapes_164 : decode cX3_scrapes 164 = .ok (.iconst 0, 1) := dk_3 (dk_at dksX3_scrapes_7 0 rfl rfl)
theorem dX3_scrapes_165 : decode cX3_scrapes 165 = .ok (.istore 6, 2) := dk_54 6 (dk_at dksX3_scrapes_7 1 rfl rfl)
theorem dX3_scrapes_167 : decode cX3_scrapes 167 = .ok (.iload 6, 2) := dk_21 6 (dk_at dksX3_scrapes_7 3 rfl rfl)
theorem dX3_scrapes_169 : decode cX3_scrapes 169 = .ok (.bipush 6, 2) := dk_16 6 (dk_at dksX3_scrapes_7 5 rfl rfl)
theorem dX3_scrapes_171 : decode cX3_scrapes 171 = .ok (.if_icmp .ge 20, 3) := dk_162 0 20 (dk_at dksX3_scrapes_7 7 rfl rfl)
theorem dX3_scrapes_174 : decode cX3_scrapes 174 = .ok (.aload_n 0, 1) := dk_42 (dk_at dksX3_scrapes_7 10 rfl rfl)
theorem dX3_scrapes_175 : decode cX3_scrapes 175 = .ok (.bipush 6, 2) := dk_16 6 (dk_at dksX3_scrapes_7 11 rfl rfl)
theorem dX3_scrapes_177 : decode cX3_scrapes 177 = .ok (.iload_n 1, 1) := dk_27 (dk_at dksX3_scrapes_7 13 rfl rfl)
theorem dX3_scrapes_178 : decode cX3_scrapes 178 = .ok (.imul, 1) := dk_104 (dk_at dksX3_scrapes_7 14 rfl rfl)
theorem dX3_scrapes_179 : decode cX3_scrapes 179 = .ok (.iload 6, 2) := dk_21 6 (dk_at dksX3_scrapes_7 15 rfl rfl)
theorem dX3_scrapes_181 : decode cX3_scrapes 181 = .ok (.iadd, 1) := dk_96 (dk_at dksX3_scrapes_7 17 rfl rfl)
theorem dX3_scrapes_182 : decode cX3_scrapes 182 = .ok (.invokevirtual 32, 3) := dk_182 0 32 (dk_at dksX3_scrapes_7 18 rfl rfl)
theorem dX3_scrapes_185 : decode cX3_scrapes 185 = .ok (.iinc 6 1, 3) := dk_132 6 1 (dk_at dksX3_scrapes_7 21 rfl rfl)
theorem dX3_scrapes_188 : decode cX3_scrapes 188 = .ok (.goto (-21), 3) := dk_167 255 235 (dk_at dksX3_scrapes_8 0 rfl rfl)
theorem dX3_scrapes_191 : decode cX3_scrapes 191 = .ok (.return_, 1) := dk_177 (dk_at dksX3_scrapes_8 3 rfl rfl)
abbrev cX3_gone : ByteArray := prog_24_method_29_code
abbrev yX3_gone : MethodName := { cls := "WornSkin$Shelf", name := "gone", desc := "()I" }
def dkwX3_gone_1 : List UInt8 := [128, 60, 132, 2, 1, 167, 255, 231, 27, 172]
abbrev dktX3_gone_1 : List UInt8 := dkwX3_gone_1 ++ []
def dkwX3_gone_0 : List UInt8 := [3, 60, 3, 61, 28, 42, 182, 0, 36, 162, 0, 23, 42, 28, 182, 0, 100, 153, 0, 9, 27, 4, 28, 120]
abbrev dktX3_gone_0 : List UInt8 := dkwX3_gone_0 ++ dktX3_gone_1
theorem dksX3_gone_0 : cX3_gone.data.toList.drop 0 = dktX3_gone_0 := by decide +kernel
theorem dksX3_gone_1 : cX3_gone.data.toList.drop 24 = dktX3_gone_1 := dk_seg dksX3_gone_0 24 rfl rfl
theorem dX3_gone_0 : decode cX3_gone 0 = .ok (.iconst 0, 1) := dk_3 (dk_at dksX3_gone_0 0 rfl rfl)
theorem dX3_gone_1 : decode cX3_gone 1 = .ok (.istore_n 1, 1) := dk_60 (dk_at dksX3_gone_0 1 rfl rfl)
theorem dX3_gone_2 : decode cX3_gone 2 = .ok (.iconst 0, 1) := dk_3 (dk_at dksX3_gone_0 2 rfl rfl)
theorem dX3_gone_3 : decode cX3_gone 3 = .ok (.istore_n 2, 1) := dk_61 (dk_at dksX3_gone_0 3 rfl rfl)
theorem dX3_gone_4 : decode cX3_gone 4 = .ok (.iload_n 2, 1) := dk_28 (dk_at dksX3_gone_0 4 rfl rfl)
theorem dX3_gone_5 : decode cX3_gone 5 = .ok (.aload_n 0, 1) := dk_42 (dk_at dksX3_gone_0 5 rfl rfl)
theorem dX3_gone_6 : decode cX3_gone 6 = .ok (.invokevirtual 36, 3) := dk_182 0 36 (dk_at dksX3_gone_0 6 rfl rfl)
theorem dX3_gone_9 : decode cX3_gone 9 = .ok (.if_icmp .ge 23, 3) := dk_162 0 23 (dk_at dksX3_gone_0 9 rfl rfl)
theorem dX3_gone_12 : decode cX3_gone 12 = .ok (.aload_n 0, 1) := dk_42 (dk_at dksX3_gone_0 12 rfl rfl)
theorem dX3_gone_13 : decode cX3_gone 13 = .ok (.iload_n 2, 1) := dk_28 (dk_at dksX3_gone_0 13 rfl rfl)
theorem dX3_gone_14 : decode cX3_gone 14 = .ok (.invokevirtual 100, 3) := dk_182 0 100 (dk_at dksX3_gone_0 14 rfl rfl)
theorem dX3_gone_17 : decode cX3_gone 17 = .ok (.ifCond .eq 9, 3) := dk_153 0 9 (dk_at dksX3_gone_0 17 rfl rfl)
theorem dX3_gone_20 : decode cX3_gone 20 = .ok (.iload_n 1, 1) := dk_27 (dk_at dksX3_gone_0 20 rfl rfl)
theorem dX3_gone_21 : decode cX3_gone 21 = .ok (.iconst 1, 1) := dk_4 (dk_at dksX3_gone_0 21 rfl rfl)
theorem dX3_gone_22 : decode cX3_gone 22 = .ok (.iload_n 2, 1) := dk_28 (dk_at dksX3_gone_0 22 rfl rfl)
theorem dX3_gone_23 : decode cX3_gone 23 = .ok (.ishl, 1) := dk_120 (dk_at dksX3_gone_0 23 rfl rfl)
theorem dX3_gone_24 : decode cX3_gone 24 = .ok (.ior, 1) := dk_128 (dk_at dksX3_gone_1 0 rfl rfl)
theorem dX3_gone_25 : decode cX3_gone 25 = .ok (.istore_n 1, 1) := dk_60 (dk_at dksX3_gone_1 1 rfl rfl)
theorem dX3_gone_26 : decode cX3_gone 26 = .ok (.iinc 2 1, 3) := dk_132 2 1 (dk_at dksX3_gone_1 2 rfl rfl)
theorem dX3_gone_29 : decode cX3_gone 29 = .ok (.goto (-25), 3) := dk_167 255 231 (dk_at dksX3_gone_1 5 rfl rfl)
theorem dX3_gone_32 : decode cX3_gone 32 = .ok (.iload_n 1, 1) := dk_27 (dk_at dksX3_gone_1 8 rfl rfl)
theorem dX3_gone_33 : decode cX3_gone 33 = .ok (.ireturn, 1) := dk_172 (dk_at dksX3_gone_1 9 rfl rfl)
abbrev cX3_texts : ByteArray := prog_24_method_6_code
abbrev yX3_texts : MethodName := { cls := "WornSkin$Shelf", name := "texts", desc := "()I" }
def dkwX3_texts_0 : List UInt8 := [42, 180, 0, 21, 180, 0, 69, 182, 0, 64, 172]
abbrev dktX3_texts_0 : List UInt8 := dkwX3_texts_0 ++ []
theorem dksX3_texts_0 : cX3_texts.data.toList.drop 0 = dktX3_texts_0 := by decide +kernel
theorem dX3_texts_0 : decode cX3_texts 0 = .ok (.aload_n 0, 1) := dk_42 (dk_at dksX3_texts_0 0 rfl rfl)
theorem dX3_texts_1 : decode cX3_texts 1 = .ok (.getfield 21, 3) := dk_180 0 21 (dk_at dksX3_texts_0 1 rfl rfl)
theorem dX3_texts_4 : decode cX3_texts 4 = .ok (.getfield 69, 3) := dk_180 0 69 (dk_at dksX3_texts_0 4 rfl rfl)
theorem dX3_texts_7 : decode cX3_texts 7 = .ok (.invokevirtual 64, 3) := dk_182 0 64 (dk_at dksX3_texts_0 7 rfl rfl)
theorem dX3_texts_10 : decode cX3_texts 10 = .ok (.ireturn, 1) := dk_172 (dk_at dksX3_texts_0 10 rfl rfl)
abbrev cX3_whole : ByteArray := prog_24_method_27_code
abbrev yX3_whole : MethodName := { cls := "WornSkin$Shelf", name := "whole", desc := "(I)I" }
def dkwX3_whole_1 : List UInt8 := [120, 128, 61, 132, 3, 1, 167, 255, 230, 28, 172]
abbrev dktX3_whole_1 : List UInt8 := dkwX3_whole_1 ++ []
def dkwX3_whole_0 : List UInt8 := [3, 61, 3, 62, 29, 42, 182, 0, 145, 162, 0, 24, 42, 29, 27, 182, 0, 147, 153, 0, 9, 28, 4, 29]
abbrev dktX3_whole_0 : List UInt8 := dkwX3_whole_0 ++ dktX3_whole_1
theorem dksX3_whole_0 : cX3_whole.data.toList.drop 0 = dktX3_whole_0 := by decide +kernel
theorem dksX3_whole_1 : cX3_whole.data.toList.drop 24 = dktX3_whole_1 := dk_seg dksX3_whole_0 24 rfl rfl
theorem dX3_whole_0 : decode cX3_whole 0 = .ok (.iconst 0, 1) := dk_3 (dk_at dksX3_whole_0 0 rfl rfl)
theorem dX3_whole_1 : decode cX3_whole 1 = .ok (.istore_n 2, 1) := dk_61 (dk_at dksX3_whole_0 1 rfl rfl)
theorem dX3_whole_2 : decode cX3_whole 2 = .ok (.iconst 0, 1) := dk_3 (dk_at dksX3_whole_0 2 rfl rfl)
theorem dX3_whole_3 : decode cX3_whole 3 = .ok (.istore_n 3, 1) := dk_62 (dk_at dksX3_whole_0 3 rfl rfl)
theorem dX3_whole_4 : decode cX3_whole 4 = .ok (.iload_n 3, 1) := dk_29 (dk_at dksX3_whole_0 4 rfl rfl)
theorem dX3_whole_5 : decode cX3_whole 5 = .ok (.aload_n 0, 1) := dk_42 (dk_at dksX3_whole_0 5 rfl rfl)
theorem dX3_whole_6 : decode cX3_whole 6 = .ok (.invokevirtual 145, 3) := dk_182 0 145 (dk_at dksX3_whole_0 6 rfl rfl)
theorem dX3_whole_9 : decode cX3_whole 9 = .ok (.if_icmp .ge 24, 3) := dk_162 0 24 (dk_at dksX3_whole_0 9 rfl rfl)
theorem dX3_whole_12 : decode cX3_whole 12 = .ok (.aload_n 0, 1) := dk_42 (dk_at dksX3_whole_0 12 rfl rfl)
theorem dX3_whole_13 : decode cX3_whole 13 = .ok (.iload_n 3, 1) := dk_29 (dk_at dksX3_whole_0 13 rfl rfl)
theorem dX3_whole_14 : decode cX3_whole 14 = .ok (.iload_n 1, 1) := dk_27 (dk_at dksX3_whole_0 14 rfl rfl)
theorem dX3_whole_15 : decode cX3_whole 15 = .ok (.invokevirtual 147, 3) := dk_182 0 147 (dk_at dksX3_whole_0 15 rfl rfl)
theorem dX3_whole_18 : decode cX3_whole 18 = .ok (.ifCond .eq 9, 3) := dk_153 0 9 (dk_at dksX3_whole_0 18 rfl rfl)
theorem dX3_whole_21 : decode cX3_whole 21 = .ok (.iload_n 2, 1) := dk_28 (dk_at dksX3_whole_0 21 rfl rfl)
theorem dX3_whole_22 : decode cX3_whole 22 = .ok (.iconst 1, 1) := dk_4 (dk_at dksX3_whole_0 22 rfl rfl)
theorem dX3_whole_23 : decode cX3_whole 23 = .ok (.iload_n 3, 1) := dk_29 (dk_at dksX3_whole_0 23 rfl rfl)
theorem dX3_whole_24 : decode cX3_whole 24 = .ok (.ishl, 1) := dk_120 (dk_at dksX3_whole_1 0 rfl rfl)
theorem dX3_whole_25 : decode cX3_whole 25 = .ok (.ior, 1) := dk_128 (dk_at dksX3_whole_1 1 rfl rfl)
theorem dX3_whole_26 : decode cX3_whole 26 = .ok (.istore_n 2, 1) := dk_61 (dk_at dksX3_whole_1 2 rfl rfl)
theorem dX3_whole_27 : decode cX3_whole 27 = .ok (.iinc 3 1, 3) := dk_132 3 1 (dk_at dksX3_whole_1 3 rfl rfl)
theorem dX3_whole_30 : decode cX3_whole 30 = .ok (.goto (-26), 3) := dk_167 255 230 (dk_at dksX3_whole_1 6 rfl rfl)
theorem dX3_whole_33 : decode cX3_whole 33 = .ok (.iload_n 2, 1) := dk_28 (dk_at dksX3_whole_1 9 rfl rfl)
theorem dX3_whole_34 : decode cX3_whole 34 = .ok (.ireturn, 1) := dk_172 (dk_at dksX3_whole_1 10 rfl rfl)
abbrev cX3_place : ByteArray := prog_24_method_20_code
abbrev yX3_place : MethodName := { cls := "WornSkin$Shelf", name := "place", desc := "(II)I" }
def dkwX3_place_1 : List UInt8 := [167, 255, 235, 2, 172]
abbrev dktX3_place_1 : List UInt8 := dkwX3_place_1 ++ []
def dkwX3_place_0 : List UInt8 := [3, 62, 29, 16, 6, 162, 0, 21, 42, 27, 28, 29, 182, 0, 111, 153, 0, 5, 29, 172, 132, 3, 1]
abbrev dktX3_place_0 : List UInt8 := dkwX3_place_0 ++ dktX3_place_1
theorem dksX3_place_0 : cX3_place.data.toList.drop 0 = dktX3_place_0 := by decide +kernel
theorem dksX3_place_1 : cX3_place.data.toList.drop 23 = dktX3_place_1 := dk_seg dksX3_place_0 23 rfl rfl
theorem dX3_place_0 : decode cX3_place 0 = .ok (.iconst 0, 1) := dk_3 (dk_at dksX3_place_0 0 rfl rfl)
theorem dX3_place_1 : decode cX3_place 1 = .ok (.istore_n 3, 1) := dk_62 (dk_at dksX3_place_0 1 rfl rfl)
theorem dX3_place_2 : decode cX3_place 2 = .ok (.iload_n 3, 1) := dk_29 (dk_at dksX3_place_0 2 rfl rfl)
theorem dX3_place_3 : decode cX3_place 3 = .ok (.bipush 6, 2) := dk_16 6 (dk_at dksX3_place_0 3 rfl rfl)
theorem dX3_place_5 : decode cX3_place 5 = .ok (.if_icmp .ge 21, 3) := dk_162 0 21 (dk_at dksX3_place_0 5 rfl rfl)
theorem dX3_place_8 : decode cX3_place 8 = .ok (.aload_n 0, 1) := dk_42 (dk_at dksX3_place_0 8 rfl rfl)
theorem dX3_place_9 : decode cX3_place 9 = .ok (.iload_n 1, 1) := dk_27 (dk_at dksX3_place_0 9 rfl rfl)
theorem dX3_place_10 : decode cX3_place 10 = .ok (.iload_n 2, 1) := dk_28 (dk_at dksX3_place_0 10 rfl rfl)
theorem dX3_place_11 : decode cX3_place 11 = .ok (.iload_n 3, 1) := dk_29 (dk_at dksX3_place_0 11 rfl rfl)
theorem dX3_place_12 : decode cX3_place 12 = .ok (.invokevirtual 111, 3) := dk_182 0 111 (dk_at dksX3_place_0 12 rfl rfl)
theorem dX3_place_15 : decode cX3_place 15 = .ok (.ifCond .eq 5, 3) := dk_153 0 5 (dk_at dksX3_place_0 15 rfl rfl)
theorem dX3_place_18 : decode cX3_place 18 = .ok (.iload_n 3, 1) := dk_29 (dk_at dksX3_place_0 18 rfl rfl)
theorem dX3_place_19 : decode cX3_place 19 = .ok (.ireturn, 1) := dk_172 (dk_at dksX3_place_0 19 rfl rfl)
theorem dX3_place_20 : decode cX3_place 20 = .ok (.iinc 3 1, 3) := dk_132 3 1 (dk_at dksX3_place_0 20 rfl rfl)
theorem dX3_place_23 : decode cX3_place 23 = .ok (.goto (-21), 3) := dk_167 255 235 (dk_at dksX3_place_1 0 rfl rfl)
theorem dX3_place_26 : decode cX3_place 26 = .ok (.iconst (-1), 1) := dk_2 (dk_at dksX3_place_1 3 rfl rfl)
theorem dX3_place_27 : decode cX3_place 27 = .ok (.ireturn, 1) := dk_172 (dk_at dksX3_place_1 4 rfl rfl)
abbrev cX3_over : ByteArray := prog_24_method_16_code
abbrev yX3_over : MethodName := { cls := "WornSkin$Shelf", name := "over", desc := "(II)I" }
def dkwX3_over_2 : List UInt8 := [28, 160, 0, 7, 4, 167, 0, 4, 3, 54, 4, 132, 5, 1, 167, 255, 202, 29, 172]
abbrev dktX3_over_2 : List UInt8 := dkwX3_over_2 ++ []
def dkwX3_over_1 : List UInt8 := [29, 4, 42, 27, 21, 5, 182, 0, 82, 120, 128, 62, 21, 4, 154, 0, 14, 42, 27, 21, 5, 182, 0, 82]
abbrev dktX3_over_1 : List UInt8 := dkwX3_over_1 ++ dktX3_over_2
def dkwX3_over_0 : List UInt8 := [3, 62, 3, 54, 4, 3, 54, 5, 21, 5, 42, 180, 0, 18, 27, 46, 162, 0, 49, 21, 4, 153, 0, 15]
abbrev dktX3_over_0 : List UInt8 := dkwX3_over_0 ++ dktX3_over_1
theorem dksX3_over_0 : cX3_over.data.toList.drop 0 = dktX3_over_0 := by decide +kernel
theorem dksX3_over_1 : cX3_over.data.toList.drop 24 = dktX3_over_1 := dk_seg dksX3_over_0 24 rfl rfl
theorem dksX3_over_2 : cX3_over.data.toList.drop 48 = dktX3_over_2 := dk_seg dksX3_over_1 24 rfl rfl
theorem dX3_over_0 : decode cX3_over 0 = .ok (.iconst 0, 1) := dk_3 (dk_at dksX3_over_0 0 rfl rfl)
theorem dX3_over_1 : decode cX3_over 1 = .ok (.istore_n 3, 1) := dk_62 (dk_at dksX3_over_0 1 rfl rfl)
theorem dX3_over_2 : decode cX3_over 2 = .ok (.iconst 0, 1) := dk_3 (dk_at dksX3_over_0 2 rfl rfl)
theorem dX3_over_3 : decode cX3_over 3 = .ok (.istore 4, 2) := dk_54 4 (dk_at dksX3_over_0 3 rfl rfl)
theorem dX3_over_5 : decode cX3_over 5 = .ok (.iconst 0, 1) := dk_3 (dk_at dksX3_over_0 5 rfl rfl)
theorem dX3_over_6 : decode cX3_over 6 = .ok (.istore 5, 2) := dk_54 5 (dk_at dksX3_over_0 6 rfl rfl)
theorem dX3_over_8 : decode cX3_over 8 = .ok (.iload 5, 2) := dk_21 5 (dk_at dksX3_over_0 8 rfl rfl)
theorem dX3_over_10 : decode cX3_over 10 = .ok (.aload_n 0, 1) := dk_42 (dk_at dksX3_over_0 10 rfl rfl)
theorem dX3_over_11 : decode cX3_over 11 = .ok (.getfield 18, 3) := dk_180 0 18 (dk_at dksX3_over_0 11 rfl rfl)
theorem dX3_over_14 : decode cX3_over 14 = .ok (.iload_n 1, 1) := dk_27 (dk_at dksX3_over_0 14 rfl rfl)
theorem dX3_over_15 : decode cX3_over 15 = .ok (.iaload, 1) := dk_46 (dk_at dksX3_over_0 15 rfl rfl)
theorem dX3_over_16 : decode cX3_over 16 = .ok (.if_icmp .ge 49, 3) := dk_162 0 49 (dk_at dksX3_over_0 16 rfl rfl)
theorem dX3_over_19 : decode cX3_over 19 = .ok (.iload 4, 2) := dk_21 4 (dk_at dksX3_over_0 19 rfl rfl)
theorem dX3_over_21 : decode cX3_over 21 = .ok (.ifCond .eq 15, 3) := dk_153 0 15 (dk_at dksX3_over_0 21 rfl rfl)
theorem dX3_over_24 : decode cX3_over 24 = .ok (.iload_n 3, 1) := dk_29 (dk_at dksX3_over_1 0 rfl rfl)
theorem dX3_over_25 : decode cX3_over 25 = .ok (.iconst 1, 1) := dk_4 (dk_at dksX3_over_1 1 rfl rfl)
theorem dX3_over_26 : decode cX3_over 26 = .ok (.aload_n 0, 1) := dk_42 (dk_at dksX3_over_1 2 rfl rfl)
theorem dX3_over_27 : decode cX3_over 27 = .ok (.iload_n 1, 1) := dk_27 (dk_at dksX3_over_1 3 rfl rfl)
theorem dX3_over_28 : decode cX3_over 28 = .ok (.iload 5, 2) := dk_21 5 (dk_at dksX3_over_1 4 rfl rfl)
theorem dX3_over_30 : decode cX3_over 30 = .ok (.invokevirtual 82, 3) := dk_182 0 82 (dk_at dksX3_over_1 6 rfl rfl)
theorem dX3_over_33 : decode cX3_over 33 = .ok (.ishl, 1) := dk_120 (dk_at dksX3_over_1 9 rfl rfl)
theorem dX3_over_34 : decode cX3_over 34 = .ok (.ior, 1) := dk_128 (dk_at dksX3_over_1 10 rfl rfl)
theorem dX3_over_35 : decode cX3_over 35 = .ok (.istore_n 3, 1) := dk_62 (dk_at dksX3_over_1 11 rfl rfl)
theorem dX3_over_36 : decode cX3_over 36 = .ok (.iload 4, 2) := dk_21 4 (dk_at dksX3_over_1 12 rfl rfl)
theorem dX3_over_38 : decode cX3_over 38 = .ok (.ifCond .ne 14, 3) := dk_154 0 14 (dk_at dksX3_over_1 14 rfl rfl)
theorem dX3_over_41 : decode cX3_over 41 = .ok (.aload_n 0, 1) := dk_42 (dk_at dksX3_over_1 17 rfl rfl)
theorem dX3_over_42 : decode cX3_over 42 = .ok (.iload_n 1, 1) := dk_27 (dk_at dksX3_over_1 18 rfl rfl)
theorem dX3_over_43 : decode cX3_over 43 = .ok (.iload 5, 2) := dk_21 5 (dk_at dksX3_over_1 19 rfl rfl)
theorem dX3_over_45 : decode cX3_over 45 = .ok (.invokevirtual 82, 3) := dk_182 0 82 (dk_at dksX3_over_1 21 rfl rfl)
theorem dX3_over_48 : decode cX3_over 48 = .ok (.iload_n 2, 1) := dk_28 (dk_at dksX3_over_2 0 rfl rfl)
theorem dX3_over_49 : decode cX3_over 49 = .ok (.if_icmp .ne 7, 3) := dk_160 0 7 (dk_at dksX3_over_2 1 rfl rfl)
theorem dX3_over_52 : decode cX3_over 52 = .ok (.iconst 1, 1) := dk_4 (dk_at dksX3_over_2 4 rfl rfl)
theorem dX3_over_53 : decode cX3_over 53 = .ok (.goto 4, 3) := dk_167 0 4 (dk_at dksX3_over_2 5 rfl rfl)
theorem dX3_over_56 : decode cX3_over 56 = .ok (.iconst 0, 1) := dk_3 (dk_at dksX3_over_2 8 rfl rfl)
theorem dX3_over_57 : decode cX3_over 57 = .ok (.istore 4, 2) := dk_54 4 (dk_at dksX3_over_2 9 rfl rfl)
theorem dX3_over_59 : decode cX3_over 59 = .ok (.iinc 5 1, 3) := dk_132 5 1 (dk_at dksX3_over_2 11 rfl rfl)
theorem dX3_over_62 : decode cX3_over 62 = .ok (.goto (-54), 3) := dk_167 255 202 (dk_at dksX3_over_2 14 rfl rfl)
theorem dX3_over_65 : decode cX3_over 65 = .ok (.iload_n 3, 1) := dk_29 (dk_at dksX3_over_2 17 rfl rfl)
theorem dX3_over_66 : decode cX3_over 66 = .ok (.ireturn, 1) := dk_172 (dk_at dksX3_over_2 18 rfl rfl)
abbrev cX3_areLike : ByteArray := prog_24_method_15_code
abbrev yX3_areLike : MethodName := { cls := "WornSkin$Shelf", name := "areLike", desc := "(II)Z" }
def dkwX3_areLike_1 : List UInt8 := [42, 180, 0, 15, 27, 46, 42, 180, 0, 15, 28, 46, 160, 0, 7, 4, 167, 0, 4, 3, 172]
abbrev dktX3_areLike_1 : List UInt8 := dkwX3_areLike_1 ++ []
def dkwX3_areLike_0 : List UInt8 := [42, 180, 0, 18, 27, 46, 158, 0, 37, 42, 180, 0, 18, 27, 46, 42, 180, 0, 18, 28, 46, 160, 0, 22]
abbrev dktX3_areLike_0 : List UInt8 := dkwX3_areLike_0 ++ dktX3_areLike_1
theorem dksX3_areLike_0 : cX3_areLike.data.toList.drop 0 = dktX3_areLike_0 := by decide +kernel
theorem dksX3_areLike_1 : cX3_areLike.data.toList.drop 24 = dktX3_areLike_1 := dk_seg dksX3_areLike_0 24 rfl rfl
theorem dX3_areLike_0 : decode cX3_areLike 0 = .ok (.aload_n 0, 1) := dk_42 (dk_at dksX3_areLike_0 0 rfl rfl)
theorem dX3_areLike_1 : decode cX3_areLike 1 = .ok (.getfield 18, 3) := dk_180 0 18 (dk_at dksX3_areLike_0 1 rfl rfl)
theorem dX3_areLike_4 : decode cX3_areLike 4 = .ok (.iload_n 1, 1) := dk_27 (dk_at dksX3_areLike_0 4 rfl rfl)
theorem dX3_areLike_5 : decode cX3_areLike 5 = .ok (.iaload, 1) := dk_46 (dk_at dksX3_areLike_0 5 rfl rfl)
theorem dX3_areLike_6 : decode cX3_areLike 6 = .ok (.ifCond .le 37, 3) := dk_158 0 37 (dk_at dksX3_areLike_0 6 rfl rfl)
theorem dX3_areLike_9 : decode cX3_areLike 9 = .ok (.aload_n 0, 1) := dk_42 (dk_at dksX3_areLike_0 9 rfl rfl)
theorem dX3_areLike_10 : decode cX3_areLike 10 = .ok (.getfield 18, 3) := dk_180 0 18 (dk_at dksX3_areLike_0 10 rfl rfl)
theorem dX3_areLike_13 : decode cX3_areLike 13 = .ok (.iload_n 1, 1) := dk_27 (dk_at dksX3_areLike_0 13 rfl rfl)
theorem dX3_areLike_14 : decode cX3_areLike 14 = .ok (.iaload, 1) := dk_46 (dk_at dksX3_areLike_0 14 rfl rfl)
theorem dX3_areLike_15 : decode cX3_areLike 15 = .ok (.aload_n 0, 1) := dk_42 (dk_at dksX3_areLike_0 15 rfl rfl)
theorem dX3_areLike_16 : decode cX3_areLike 16 = .ok (.getfield 18, 3) := dk_180 0 18 (dk_at dksX3_areLike_0 16 rfl rfl)
theorem dX3_areLike_19 : decode cX3_areLike 19 = .ok (.iload_n 2, 1) := dk_28 (dk_at dksX3_areLike_0 19 rfl rfl)
theorem dX3_areLike_20 : decode cX3_areLike 20 = .ok (.iaload, 1) := dk_46 (dk_at dksX3_areLike_0 20 rfl rfl)
theorem dX3_areLike_21 : decode cX3_areLike 21 = .ok (.if_icmp .ne 22, 3) := dk_160 0 22 (dk_at dksX3_areLike_0 21 rfl rfl)
theorem dX3_areLike_24 : decode cX3_areLike 24 = .ok (.aload_n 0, 1) := dk_42 (dk_at dksX3_areLike_1 0 rfl rfl)
theorem dX3_areLike_25 : decode cX3_areLike 25 = .ok (.getfield 15, 3) := dk_180 0 15 (dk_at dksX3_areLike_1 1 rfl rfl)
theorem dX3_areLike_28 : decode cX3_areLike 28 = .ok (.iload_n 1, 1) := dk_27 (dk_at dksX3_areLike_1 4 rfl rfl)
theorem dX3_areLike_29 : decode cX3_areLike 29 = .ok (.iaload, 1) := dk_46 (dk_at dksX3_areLike_1 5 rfl rfl)
theorem dX3_areLike_30 : decode cX3_areLike 30 = .ok (.aload_n 0, 1) := dk_42 (dk_at dksX3_areLike_1 6 rfl rfl)
theorem dX3_areLike_31 : decode cX3_areLike 31 = .ok (.getfield 15, 3) := dk_180 0 15 (dk_at dksX3_areLike_1 7 rfl rfl)
theorem dX3_areLike_34 : decode cX3_areLike 34 = .ok (.iload_n 2, 1) := dk_28 (dk_at dksX3_areLike_1 10 rfl rfl)
theorem dX3_areLike_35 : decode cX3_areLike 35 = .ok (.iaload, 1) := dk_46 (dk_at dksX3_areLike_1 11 rfl rfl)
theorem dX3_areLike_36 : decode cX3_areLike 36 = .ok (.if_icmp .ne 7, 3) := dk_160 0 7 (dk_at dksX3_areLike_1 12 rfl rfl)
theorem dX3_areLike_39 : decode cX3_areLike 39 = .ok (.iconst 1, 1) := dk_4 (dk_at dksX3_areLike_1 15 rfl rfl)
theorem dX3_areLike_40 : decode cX3_areLike 40 = .ok (.goto 4, 3) := dk_167 0 4 (dk_at dksX3_areLike_1 16 rfl rfl)
theorem dX3_areLike_43 : decode cX3_areLike 43 = .ok (.iconst 0, 1) := dk_3 (dk_at dksX3_areLike_1 19 rfl rfl)
theorem dX3_areLike_44 : decode cX3_areLike 44 = .ok (.ireturn, 1) := dk_172 (dk_at dksX3_areLike_1 20 rfl rfl)
abbrev cX3_thickness : ByteArray := prog_24_method_28_code
abbrev yX3_thickness : MethodName := { cls := "WornSkin$Shelf", name := "thickness", desc := "()I" }
def dkwX3_thickness_1 : List UInt8 := [167, 255, 236, 27, 172]
abbrev dktX3_thickness_1 : List UInt8 := dkwX3_thickness_1 ++ []
def dkwX3_thickness_0 : List UInt8 := [3, 60, 3, 61, 28, 42, 182, 0, 36, 162, 0, 18, 27, 42, 180, 0, 9, 28, 46, 96, 60, 132, 2, 1]
abbrev dktX3_thickness_0 : List UInt8 := dkwX3_thickness_0 ++ dktX3_thickness_1
theorem dksX3_thickness_0 : cX3_thickness.data.toList.drop 0 = dktX3_thickness_0 := by decide +kernel
theorem dksX3_thickness_1 : cX3_thickness.data.toList.drop 24 = dktX3_thickness_1 := dk_seg dksX3_thickness_0 24 rfl rfl
theorem dX3_thickness_0 : decode cX3_thickness 0 = .ok (.iconst 0, 1) := dk_3 (dk_at dksX3_thickness_0 0 rfl rfl)
theorem dX3_thickness_1 : decode cX3_thickness 1 = .ok (.istore_n 1, 1) := dk_60 (dk_at dksX3_thickness_0 1 rfl rfl)
theorem dX3_thickness_2 : decode cX3_thickness 2 = .ok (.iconst 0, 1) := dk_3 (dk_at dksX3_thickness_0 2 rfl rfl)
theorem dX3_thickness_3 : decode cX3_thickness 3 = .ok (.istore_n 2, 1) := dk_61 (dk_at dksX3_thickness_0 3 rfl rfl)
theorem dX3_thickness_4 : decode cX3_thickness 4 = .ok (.iload_n 2, 1) := dk_28 (dk_at dksX3_thickness_0 4 rfl rfl)
theorem dX3_thickness_5 : decode cX3_thickness 5 = .ok (.aload_n 0, 1) := dk_42 (dk_at dksX3_thickness_0 5 rfl rfl)
theorem dX3_thickness_6 : decode cX3_thickness 6 = .ok (.invokevirtual 36, 3) := dk_182 0 36 (dk_at dksX3_thickness_0 6 rfl rfl)
theorem dX3_thickness_9 : decode cX3_thickness 9 = .ok (.if_icmp .ge 18, 3) := dk_162 0 18 (dk_at dksX3_thickness_0 9 rfl rfl)
theorem dX3_thickness_12 : decode cX3_thickness 12 = .ok (.iload_n 1, 1) := dk_27 (dk_at dksX3_thickness_0 12 rfl rfl)
theorem dX3_thickness_13 : decode cX3_thickness 13 = .ok (.aload_n 0, 1) := dk_42 (dk_at dksX3_thickness_0 13 rfl rfl)
theorem dX3_thickness_14 : decode cX3_thickness 14 = .ok (.getfield 9, 3) := dk_180 0 9 (dk_at dksX3_thickness_0 14 rfl rfl)
theorem dX3_thickness_17 : decode cX3_thickness 17 = .ok (.iload_n 2, 1) := dk_28 (dk_at dksX3_thickness_0 17 rfl rfl)
theorem dX3_thickness_18 : decode cX3_thickness 18 = .ok (.iaload, 1) := dk_46 (dk_at dksX3_thickness_0 18 rfl rfl)
theorem dX3_thickness_19 : decode cX3_thickness 19 = .ok (.iadd, 1) := dk_96 (dk_at dksX3_thickness_0 19 rfl rfl)
theorem dX3_thickness_20 : decode cX3_thickness 20 = .ok (.istore_n 1, 1) := dk_60 (dk_at dksX3_thickness_0 20 rfl rfl)
theorem dX3_thickness_21 : decode cX3_thickness 21 = .ok (.iinc 2 1, 3) := dk_132 2 1 (dk_at dksX3_thickness_0 21 rfl rfl)
theorem dX3_thickness_24 : decode cX3_thickness 24 = .ok (.goto (-20), 3) := dk_167 255 236 (dk_at dksX3_thickness_1 0 rfl rfl)
theorem dX3_thickness_27 : decode cX3_thickness 27 = .ok (.iload_n 1, 1) := dk_27 (dk_at dksX3_thickness_1 3 rfl rfl)
theorem dX3_thickness_28 : decode cX3_thickness 28 = .ok (.ireturn, 1) := dk_172 (dk_at dksX3_thickness_1 4 rfl rfl)
abbrev cX28_isDone : ByteArray := prog_28_method_2_code
abbrev yX28_isDone : MethodName := { cls := "WornSkin$Weeks", name := "isDone", desc := "(LWornSkin$Shelf;)Z" }
def dkwX28_isDone_0 : List UInt8 := [43, 89, 180, 0, 7, 4, 96, 181, 0, 7, 4, 172]
abbrev dktX28_isDone_0 : List UInt8 := dkwX28_isDone_0 ++ []
theorem dksX28_isDone_0 : cX28_isDone.data.toList.drop 0 = dktX28_isDone_0 := by decide +kernel
theorem dX28_isDone_0 : decode cX28_isDone 0 = .ok (.aload_n 1, 1) := dk_43 (dk_at dksX28_isDone_0 0 rfl rfl)
theorem dX28_isDone_1 : decode cX28_isDone 1 = .ok (.dup, 1) := dk_89 (dk_at dksX28_isDone_0 1 rfl rfl)
theorem dX28_isDone_2 : decode cX28_isDone 2 = .ok (.getfield 7, 3) := dk_180 0 7 (dk_at dksX28_isDone_0 2 rfl rfl)
theorem dX28_isDone_5 : decode cX28_isDone 5 = .ok (.iconst 1, 1) := dk_4 (dk_at dksX28_isDone_0 5 rfl rfl)
theorem dX28_isDone_6 : decode cX28_isDone 6 = .ok (.iadd, 1) := dk_96 (dk_at dksX28_isDone_0 6 rfl rfl)
theorem dX28_isDone_7 : decode cX28_isDone 7 = .ok (.putfield 7, 3) := dk_181 0 7 (dk_at dksX28_isDone_0 7 rfl rfl)
theorem dX28_isDone_10 : decode cX28_isDone 10 = .ok (.iconst 1, 1) := dk_4 (dk_at dksX28_isDone_0 10 rfl rfl)
theorem dX28_isDone_11 : decode cX28_isDone 11 = .ok (.ireturn, 1) := dk_172 (dk_at dksX28_isDone_0 11 rfl rfl)
abbrev cX29_isDone : ByteArray := prog_23_method_2_code
abbrev yX29_isDone : MethodName := { cls := "WornSkin$Scrapes", name := "isDone", desc := "(LWornSkin$Shelf;)Z" }
def dkwX29_isDone_1 : List UInt8 := [180, 0, 13, 182, 0, 23, 4, 172]
abbrev dktX29_isDone_1 : List UInt8 := dkwX29_isDone_1 ++ []
def dkwX29_isDone_0 : List UInt8 := [43, 42, 180, 0, 7, 42, 180, 0, 13, 182, 0, 17, 154, 0, 5, 3, 172, 43, 42, 180, 0, 7, 42]
abbrev dktX29_isDone_0 : List UInt8 := dkwX29_isDone_0 ++ dktX29_isDone_1
theorem dksX29_isDone_0 : cX29_isDone.data.toList.drop 0 = dktX29_isDone_0 := by decide +kernel
theorem dksX29_isDone_1 : cX29_isDone.data.toList.drop 23 = dktX29_isDone_1 := dk_seg dksX29_isDone_0 23 rfl rfl
theorem dX29_isDone_0 : decode cX29_isDone 0 = .ok (.aload_n 1, 1) := dk_43 (dk_at dksX29_isDone_0 0 rfl rfl)
theorem dX29_isDone_1 : decode cX29_isDone 1 = .ok (.aload_n 0, 1) := dk_42 (dk_at dksX29_isDone_0 1 rfl rfl)
theorem dX29_isDone_2 : decode cX29_isDone 2 = .ok (.getfield 7, 3) := dk_180 0 7 (dk_at dksX29_isDone_0 2 rfl rfl)
theorem dX29_isDone_5 : decode cX29_isDone 5 = .ok (.aload_n 0, 1) := dk_42 (dk_at dksX29_isDone_0 5 rfl rfl)
theorem dX29_isDone_6 : decode cX29_isDone 6 = .ok (.getfield 13, 3) := dk_180 0 13 (dk_at dksX29_isDone_0 6 rfl rfl)
theorem dX29_isDone_9 : decode cX29_isDone 9 = .ok (.invokevirtual 17, 3) := dk_182 0 17 (dk_at dksX29_isDone_0 9 rfl rfl)
theorem dX29_isDone_12 : decode cX29_isDone 12 = .ok (.ifCond .ne 5, 3) := dk_154 0 5 (dk_at dksX29_isDone_0 12 rfl rfl)
theorem dX29_isDone_15 : decode cX29_isDone 15 = .ok (.iconst 0, 1) := dk_3 (dk_at dksX29_isDone_0 15 rfl rfl)
theorem dX29_isDone_16 : decode cX29_isDone 16 = .ok (.ireturn, 1) := dk_172 (dk_at dksX29_isDone_0 16 rfl rfl)
theorem dX29_isDone_17 : decode cX29_isDone 17 = .ok (.aload_n 1, 1) := dk_43 (dk_at dksX29_isDone_0 17 rfl rfl)
theorem dX29_isDone_18 : decode cX29_isDone 18 = .ok (.aload_n 0, 1) := dk_42 (dk_at dksX29_isDone_0 18 rfl rfl)
theorem dX29_isDone_19 : decode cX29_isDone 19 = .ok (.getfield 7, 3) := dk_180 0 7 (dk_at dksX29_isDone_0 19 rfl rfl)
theorem dX29_isDone_22 : decode cX29_isDone 22 = .ok (.aload_n 0, 1) := dk_42 (dk_at dksX29_isDone_0 22 rfl rfl)
theorem dX29_isDone_23 : decode cX29_isDone 23 = .ok (.getfield 13, 3) := dk_180 0 13 (dk_at dksX29_isDone_1 0 rfl rfl)
theorem dX29_isDone_26 : decode cX29_isDone 26 = .ok (.invokevirtual 23, 3) := dk_182 0 23 (dk_at dksX29_isDone_1 3 rfl rfl)
theorem dX29_isDone_29 : decode cX29_isDone 29 = .ok (.iconst 1, 1) := dk_4 (dk_at dksX29_isDone_1 6 rfl rfl)
theorem dX29_isDone_30 : decode cX29_isDone 30 = .ok (.ireturn, 1) := dk_172 (dk_at dksX29_isDone_1 7 rfl rfl)
abbrev cX30_isDone : ByteArray := prog_29_method_2_code
abbrev yX30_isDone : MethodName := { cls := "WornSkin$Writes", name := "isDone", desc := "(LWornSkin$Shelf;)Z" }
def dkwX30_isDone_1 : List UInt8 := [180, 0, 7, 42, 180, 0, 13, 42, 180, 0, 16, 182, 0, 25, 4, 172]
abbrev dktX30_isDone_1 : List UInt8 := dkwX30_isDone_1 ++ []
def dkwX30_isDone_0 : List UInt8 := [43, 42, 180, 0, 7, 42, 180, 0, 13, 42, 180, 0, 16, 182, 0, 19, 154, 0, 5, 3, 172, 43, 42]
abbrev dktX30_isDone_0 : List UInt8 := dkwX30_isDone_0 ++ dktX30_isDone_1
theorem dksX30_isDone_0 : cX30_isDone.data.toList.drop 0 = dktX30_isDone_0 := by decide +kernel
theorem dksX30_isDone_1 : cX30_isDone.data.toList.drop 23 = dktX30_isDone_1 := dk_seg dksX30_isDone_0 23 rfl rfl
theorem dX30_isDone_0 : decode cX30_isDone 0 = .ok (.aload_n 1, 1) := dk_43 (dk_at dksX30_isDone_0 0 rfl rfl)
theorem dX30_isDone_1 : decode cX30_isDone 1 = .ok (.aload_n 0, 1) := dk_42 (dk_at dksX30_isDone_0 1 rfl rfl)
theorem dX30_isDone_2 : decode cX30_isDone 2 = .ok (.getfield 7, 3) := dk_180 0 7 (dk_at dksX30_isDone_0 2 rfl rfl)
theorem dX30_isDone_5 : decode cX30_isDone 5 = .ok (.aload_n 0, 1) := dk_42 (dk_at dksX30_isDone_0 5 rfl rfl)
theorem dX30_isDone_6 : decode cX30_isDone 6 = .ok (.getfield 13, 3) := dk_180 0 13 (dk_at dksX30_isDone_0 6 rfl rfl)
theorem dX30_isDone_9 : decode cX30_isDone 9 = .ok (.aload_n 0, 1) := dk_42 (dk_at dksX30_isDone_0 9 rfl rfl)
theorem dX30_isDone_10 : decode cX30_isDone 10 = .ok (.getfield 16, 3) := dk_180 0 16 (dk_at dksX30_isDone_0 10 rfl rfl)
theorem dX30_isDone_13 : decode cX30_isDone 13 = .ok (.invokevirtual 19, 3) := dk_182 0 19 (dk_at dksX30_isDone_0 13 rfl rfl)
theorem dX30_isDone_16 : decode cX30_isDone 16 = .ok (.ifCond .ne 5, 3) := dk_154 0 5 (dk_at dksX30_isDone_0 16 rfl rfl)
theorem dX30_isDone_19 : decode cX30_isDone 19 = .ok (.iconst 0, 1) := dk_3 (dk_at dksX30_isDone_0 19 rfl rfl)
theorem dX30_isDone_20 : decode cX30_isDone 20 = .ok (.ireturn, 1) := dk_172 (dk_at dksX30_isDone_0 20 rfl rfl)
theorem dX30_isDone_21 : decode cX30_isDone 21 = .ok (.aload_n 1, 1) := dk_43 (dk_at dksX30_isDone_0 21 rfl rfl)
theorem dX30_isDone_22 : decode cX30_isDone 22 = .ok (.aload_n 0, 1) := dk_42 (dk_at dksX30_isDone_0 22 rfl rfl)
theorem dX30_isDone_23 : decode cX30_isDone 23 = .ok (.getfield 7, 3) := dk_180 0 7 (dk_at dksX30_isDone_1 0 rfl rfl)
theorem dX30_isDone_26 : decode cX30_isDone 26 = .ok (.aload_n 0, 1) := dk_42 (dk_at dksX30_isDone_1 3 rfl rfl)
theorem dX30_isDone_27 : decode cX30_isDone 27 = .ok (.getfield 13, 3) := dk_180 0 13 (dk_at dksX30_isDone_1 4 rfl rfl)
theorem dX30_isDone_30 : decode cX30_isDone 30 = .ok (.aload_n 0, 1) := dk_42 (dk_at dksX30_isDone_1 7 rfl rfl)
theorem dX30_isDone_31 : decode cX30_isDone 31 = .ok (.getfield 16, 3) := dk_180 0 16 (dk_at dksX30_isDone_1 8 rfl rfl)
theorem dX30_isDone_34 : decode cX30_isDone 34 = .ok (.invokevirtual 25, 3) := dk_182 0 25 (dk_at dksX30_isDone_1 11 rfl rfl)
theorem dX30_isDone_37 : decode cX30_isDone 37 = .ok (.iconst 1, 1) := dk_4 (dk_at dksX30_isDone_1 14 rfl rfl)
theorem dX30_isDone_38 : decode cX30_isDone 38 = .ok (.ireturn, 1) := dk_172 (dk_at dksX30_isDone_1 15 rfl rfl)
abbrev cX8_init : ByteArray := prog_30_method_1_code
abbrev yX8_init : MethodName := { cls := "WornSkin$Wrong", name := "<init>", desc := "(I)V" }
def dkwX8_init_0 : List UInt8 := [42, 183, 0, 1, 42, 27, 181, 0, 7, 177]
abbrev dktX8_init_0 : List UInt8 := dkwX8_init_0 ++ []
theorem dksX8_init_0 : cX8_init.data.toList.drop 0 = dktX8_init_0 := by decide +kernel
theorem dX8_init_0 : decode cX8_init 0 = .ok (.aload_n 0, 1) := dk_42 (dk_at dksX8_init_0 0 rfl rfl)
theorem dX8_init_1 : decode cX8_init 1 = .ok (.invokespecial 1, 3) := dk_183 0 1 (dk_at dksX8_init_0 1 rfl rfl)
theorem dX8_init_4 : decode cX8_init 4 = .ok (.aload_n 0, 1) := dk_42 (dk_at dksX8_init_0 4 rfl rfl)
theorem dX8_init_5 : decode cX8_init 5 = .ok (.iload_n 1, 1) := dk_27 (dk_at dksX8_init_0 5 rfl rfl)
theorem dX8_init_6 : decode cX8_init 6 = .ok (.putfield 7, 3) := dk_181 0 7 (dk_at dksX8_init_0 6 rfl rfl)
theorem dX8_init_9 : decode cX8_init 9 = .ok (.return_, 1) := dk_177 (dk_at dksX8_init_0 9 rfl rfl)
abbrev cX2_init : ByteArray := prog_20_method_1_code
abbrev yX2_init : MethodName := { cls := "WornSkin$Reader", name := "<init>", desc := "()V" }
def dkwX2_init_10 : List UInt8 := [181, 0, 88, 177]
abbrev dktX2_init_10 : List UInt8 := dkwX2_init_10 ++ []
def dkwX2_init_9 : List UInt8 := [17, 3, 233, 188, 10, 181, 0, 81, 42, 17, 3, 233, 188, 11, 181, 0, 84, 42, 17, 3, 233, 188, 10]
abbrev dktX2_init_9 : List UInt8 := dkwX2_init_9 ++ dktX2_init_10
def dkwX2_init_8 : List UInt8 := [89, 5, 18, 54, 83, 89, 6, 18, 56, 83, 181, 0, 74, 42, 17, 3, 232, 188, 10, 181, 0, 77, 42]
abbrev dktX2_init_8 : List UInt8 := dkwX2_init_8 ++ dktX2_init_9
def dkwX2_init_7 : List UInt8 := [83, 89, 4, 18, 58, 83, 181, 0, 71, 42, 7, 189, 0, 9, 89, 3, 18, 50, 83, 89, 4, 18, 52, 83]
abbrev dktX2_init_7 : List UInt8 := dkwX2_init_7 ++ dktX2_init_8
def dkwX2_init_6 : List UInt8 := [89, 16, 14, 18, 64, 83, 89, 16, 15, 18, 66, 83, 181, 0, 68, 42, 5, 189, 0, 9, 89, 3, 18, 60]
abbrev dktX2_init_6 : List UInt8 := dkwX2_init_6 ++ dktX2_init_7
def dkwX2_init_5 : List UInt8 := [89, 16, 10, 18, 56, 83, 89, 16, 11, 18, 58, 83, 89, 16, 12, 18, 60, 83, 89, 16, 13, 18, 62, 83]
abbrev dktX2_init_5 : List UInt8 := dkwX2_init_5 ++ dktX2_init_6
def dkwX2_init_4 : List UInt8 := [89, 16, 6, 18, 48, 83, 89, 16, 7, 18, 50, 83, 89, 16, 8, 18, 52, 83, 89, 16, 9, 18, 54, 83]
abbrev dktX2_init_4 : List UInt8 := dkwX2_init_4 ++ dktX2_init_5
def dkwX2_init_3 : List UInt8 := [4, 18, 38, 83, 89, 5, 18, 40, 83, 89, 6, 18, 42, 83, 89, 7, 18, 44, 83, 89, 8, 18, 46, 83]
abbrev dktX2_init_3 : List UInt8 := dkwX2_init_3 ++ dktX2_init_4
def dkwX2_init_2 : List UInt8 := [5, 18, 29, 83, 89, 6, 18, 31, 83, 181, 0, 33, 42, 16, 16, 189, 0, 9, 89, 3, 18, 36, 83, 89]
abbrev dktX2_init_2 : List UInt8 := dkwX2_init_2 ++ dktX2_init_3
def dkwX2_init_1 : List UInt8 := [89, 6, 18, 17, 83, 181, 0, 19, 42, 7, 189, 0, 9, 89, 3, 18, 25, 83, 89, 4, 18, 27, 83, 89]
abbrev dktX2_init_1 : List UInt8 := dkwX2_init_1 ++ dktX2_init_2
def dkwX2_init_0 : List UInt8 := [42, 183, 0, 3, 42, 7, 189, 0, 9, 89, 3, 18, 11, 83, 89, 4, 18, 13, 83, 89, 5, 18, 15, 83]
abbrev dktX2_init_0 : List UInt8 := dkwX2_init_0 ++ dktX2_init_1
theorem dksX2_init_0 : cX2_init.data.toList.drop 0 = dktX2_init_0 := by decide +kernel
theorem dksX2_init_1 : cX2_init.data.toList.drop 24 = dktX2_init_1 := dk_seg dksX2_init_0 24 rfl rfl
theorem dksX2_init_2 : cX2_init.data.toList.drop 48 = dktX2_init_2 := dk_seg dksX2_init_1 24 rfl rfl
theorem dksX2_init_3 : cX2_init.data.toList.drop 72 = dktX2_init_3 := dk_seg dksX2_init_2 24 rfl rfl
theorem dksX2_init_4 : cX2_init.data.toList.drop 96 = dktX2_init_4 := dk_seg dksX2_init_3 24 rfl rfl
theorem dksX2_init_5 : cX2_init.data.toList.drop 120 = dktX2_init_5 := dk_seg dksX2_init_4 24 rfl rfl
theorem dksX2_init_6 : cX2_init.data.toList.drop 144 = dktX2_init_6 := dk_seg dksX2_init_5 24 rfl rfl
theorem dksX2_init_7 : cX2_init.data.toList.drop 168 = dktX2_init_7 := dk_seg dksX2_init_6 24 rfl rfl
theorem dksX2_init_8 : cX2_init.data.toList.drop 192 = dktX2_init_8 := dk_seg dksX2_init_7 24 rfl rfl
theorem dksX2_init_9 : cX2_init.data.toList.drop 215 = dktX2_init_9 := dk_seg dksX2_init_8 23 rfl rfl
theorem dksX2_init_10 : cX2_init.data.toList.drop 238 = dktX2_init_10 := dk_seg dksX2_init_9 23 rfl rfl
theorem dX2_init_0 : decode cX2_init 0 = .ok (.aload_n 0, 1) := dk_42 (dk_at dksX2_init_0 0 rfl rfl)
theorem dX2_init_1 : decode cX2_init 1 = .ok (.invokespecial 3, 3) := dk_183 0 3 (dk_at dksX2_init_0 1 rfl rfl)
theorem dX2_init_4 : decode cX2_init 4 = .ok (.aload_n 0, 1) := dk_42 (dk_at dksX2_init_0 4 rfl rfl)
theorem dX2_init_5 : decode cX2_init 5 = .ok (.iconst 4, 1) := dk_7 (dk_at dksX2_init_0 5 rfl rfl)
theorem dX2_init_6 : decode cX2_init 6 = .ok (.anewarray 9, 3) := dk_189 0 9 (dk_at dksX2_init_0 6 rfl rfl)
theorem dX2_init_9 : decode cX2_init 9 = .ok (.dup, 1) := dk_89 (dk_at dksX2_init_0 9 rfl rfl)
theorem dX2_init_10 : decode cX2_init 10 = .ok (.iconst 0, 1) := dk_3 (dk_at dksX2_init_0 10 rfl rfl)
theorem dX2_init_11 : decode cX2_init 11 = .ok (.ldc 11, 2) := dk_18 11 (dk_at dksX2_init_0 11 rfl rfl)
theorem dX2_init_13 : decode cX2_init 13 = .ok (.aastore, 1) := dk_83 (dk_at dksX2_init_0 13 rfl rfl)
theorem dX2_init_14 : decode cX2_init 14 = .ok (.dup, 1) := dk_89 (dk_at dksX2_init_0 14 rfl rfl)
theorem dX2_init_15 : decode cX2_init 15 = .ok (.iconst 1, 1) := dk_4 (dk_at dksX2_init_0 15 rfl rfl)
theorem dX2_init_16 : decode cX2_init 16 = .ok (.ldc 13, 2) := dk_18 13 (dk_at dksX2_init_0 16 rfl rfl)
theorem dX2_init_18 : decode cX2_init 18 = .ok (.aastore, 1) := dk_83 (dk_at dksX2_init_0 18 rfl rfl)
theorem dX2_init_19 : decode cX2_init 19 = .ok (.dup, 1) := dk_89 (dk_at dksX2_init_0 19 rfl rfl)
theorem dX2_init_20 : decode cX2_init 20 = .ok (.iconst 2, 1) := dk_5 (dk_at dksX2_init_0 20 rfl rfl)
theorem dX2_init_21 : decode cX2_init 21 = .ok (.ldc 15, 2) := dk_18 15 (dk_at dksX2_init_0 21 rfl rfl)
theorem dX2_init_23 : decode cX2_init 23 = .ok (.aastore, 1) := dk_83 (dk_at dksX2_init_0 23 rfl rfl)
theorem dX2_init_24 : decode cX2_init 24 = .ok (.dup, 1) := dk_89 (dk_at dksX2_init_1 0 rfl rfl)
theorem dX2_init_25 : decode cX2_init 25 = .ok (.iconst 3, 1) := dk_6 (dk_at dksX2_init_1 1 rfl rfl)
theorem dX2_init_26 : decode cX2_init 26 = .ok (.ldc 17, 2) := dk_18 17 (dk_at dksX2_init_1 2 rfl rfl)
theorem dX2_init_28 : decode cX2_init 28 = .ok (.aastore, 1) := dk_83 (dk_at dksX2_init_1 4 rfl rfl)
theorem dX2_init_29 : decode cX2_init 29 = .ok (.putfield 19, 3) := dk_181 0 19 (dk_at dksX2_init_1 5 rfl rfl)
theorem dX2_init_32 : decode cX2_init 32 = .ok (.aload_n 0, 1) := dk_42 (dk_at dksX2_init_1 8 rfl rfl)
theorem dX2_init_33 : decode cX2_init 33 = .ok (.iconst 4, 1) := dk_7 (dk_at dksX2_init_1 9 rfl rfl)
theorem dX2_init_34 : decode cX2_init 34 = .ok (.anewarray 9, 3) := dk_189 0 9 (dk_at dksX2_init_1 10 rfl rfl)
theorem dX2_init_37 : decode cX2_init 37 = .ok (.dup, 1) := dk_89 (dk_at dksX2_init_1 13 rfl rfl)
theorem dX2_init_38 : decode cX2_init 38 = .ok (.iconst 0, 1) := dk_3 (dk_at dksX2_init_1 14 rfl rfl)
theorem dX2_init_39 : decode cX2_init 39 = .ok (.ldc 25, 2) := dk_18 25 (dk_at dksX2_init_1 15 rfl rfl)
theorem dX2_init_41 : decode cX2_init 41 = .ok (.aastore, 1) := dk_83 (dk_at dksX2_init_1 17 rfl rfl)
theorem dX2_init_42 : decode cX2_init 42 = .ok (.dup, 1) := dk_89 (dk_at dksX2_init_1 18 rfl rfl)
theorem dX2_init_43 : decode cX2_init 43 = .ok (.iconst 1, 1) := dk_4 (dk_at dksX2_init_1 19 rfl rfl)
theorem dX2_init_44 : decode cX2_init 44 = .ok (.ldc 27, 2) := dk_18 27 (dk_at dksX2_init_1 20 rfl rfl)
theorem dX2_init_46 : decode cX2_init 46 = .ok (.aastore, 1) := dk_83 (dk_at dksX2_init_1 22 rfl rfl)
theorem dX2_init_47 : decode cX2_init 47 = .ok (.dup, 1) := dk_89 (dk_at dksX2_init_1 23 rfl rfl)
theorem dX2_init_48 : decode cX2_init 48 = .ok (.iconst 2, 1) := dk_5 (dk_at dksX2_init_2 0 rfl rfl)
theorem dX2_init_49 : decode cX2_init 49 = .ok (.ldc 29, 2) := dk_18 29 (dk_at dksX2_init_2 1 rfl rfl)
theorem dX2_init_51 : decode cX2_init 51 = .ok (.aastore, 1) := dk_83 (dk_at dksX2_init_2 3 rfl rfl)
theorem dX2_init_52 : decode cX2_init 52 = .ok (.dup, 1) := dk_89 (dk_at dksX2_init_2 4 rfl rfl)
theorem dX2_init_53 : decode cX2_init 53 = .ok (.iconst 3, 1) := dk_6 (dk_at dksX2_init_2 5 rfl rfl)
theorem dX2_init_54 : decode cX2_init 54 = .ok (.ldc 31, 2) := dk_18 31 (dk_at dksX2_init_2 6 rfl rfl)
theorem dX2_init_56 : decode cX2_init 56 = .ok (.aastore, 1) := dk_83 (dk_at dksX2_init_2 8 rfl rfl)
theorem dX2_init_57 : decode cX2_init 57 = .ok (.putfield 33, 3) := dk_181 0 33 (dk_at dksX2_init_2 9 rfl rfl)
theorem dX2_init_60 : decode cX2_init 60 = .ok (.aload_n 0, 1) := dk_42 (dk_at dksX2_init_2 12 rfl rfl)
theorem dX2_init_61 : decode cX2_init 61 = .ok (.bipush 16, 2) := dk_16 16 (dk_at dksX2_init_2 13 rfl rfl)
theorem dX2_init_63 : decode cX2_init 63 = .ok (.anewarray 9, 3) := dk_189 0 9 (dk_at dksX2_init_2 15 rfl rfl)
theorem dX2_init_66 : decode cX2_init 66 = .ok (.dup, 1) := dk_89 (dk_at dksX2_init_2 18 rfl rfl)
theorem dX2_init_67 : decode cX2_init 67 = .ok (.iconst 0, 1) := dk_3 (dk_at dksX2_init_2 19 rfl rfl)
theorem dX2_init_68 : decode cX2_init 68 = .ok (.ldc 36, 2) := dk_18 36 (dk_at dksX2_init_2 20 rfl rfl)
theorem dX2_init_70 : decode cX2_init 70 = .ok (.aastore, 1) := dk_83 (dk_at dksX2_init_2 22 rfl rfl)
theorem dX2_init_71 : decode cX2_init 71 = .ok (.dup, 1) := dk_89 (dk_at dksX2_init_2 23 rfl rfl)
theorem dX2_init_72 : decode cX2_init 72 = .ok (.iconst 1, 1) := dk_4 (dk_at dksX2_init_3 0 rfl rfl)
theorem dX2_init_73 : decode cX2_init 73 = .ok (.ldc 38, 2) := dk_18 38 (dk_at dksX2_init_3 1 rfl rfl)
theorem dX2_init_75 : decode cX2_init 75 = .ok (.aastore, 1) := dk_83 (dk_at dksX2_init_3 3 rfl rfl)
theorem dX2_init_76 : decode cX2_init 76 = .ok (.dup, 1) := dk_89 (dk_at dksX2_init_3 4 rfl rfl)
theorem dX2_init_77 : decode cX2_init 77 = .ok (.iconst 2, 1) := dk_5 (dk_at dksX2_init_3 5 rfl rfl)
theorem dX2_init_78 : decode cX2_init 78 = .ok (.ldc 40, 2) := dk_18 40 (dk_at dksX2_init_3 6 rfl rfl)
theorem dX2_init_80 : decode cX2_init 80 = .ok (.aastore, 1) := dk_83 (dk_at dksX2_init_3 8 rfl rfl)
theorem dX2_init_81 : decode cX2_init 81 = .ok (.dup, 1) := dk_89 (dk_at dksX2_init_3 9 rfl rfl)
theorem dX2_init_82 : decode cX2_init 82 = .ok (.iconst 3, 1) := dk_6 (dk_at dksX2_init_3 10 rfl rfl)
theorem dX2_init_83 : decode cX2_init 83 = .ok (.ldc 42, 2) := dk_18 42 (dk_at dksX2_init_3 11 rfl rfl)
theorem dX2_init_85 : decode cX2_init 85 = .ok (.aastore, 1) := dk_83 (dk_at dksX2_init_3 13 rfl rfl)
theorem dX2_init_86 : decode cX2_init 86 = .ok (.dup, 1) := dk_89 (dk_at dksX2_init_3 14 rfl rfl)
theorem dX2_init_87 : decode cX2_init 87 = .ok (.iconst 4, 1) := dk_7 (dk_at dksX2_init_3 15 rfl rfl)
theorem dX2_init_88 : decode cX2_init 88 = .ok (.ldc 44, 2) := dk_18 44 (dk_at dksX2_init_3 16 rfl rfl)
theorem dX2_init_90 : decode cX2_init 90 = .ok (.aastore, 1) := dk_83 (dk_at dksX2_init_3 18 rfl rfl)
theorem dX2_init_91 : decode cX2_init 91 = .ok (.dup, 1) := dk_89 (dk_at dksX2_init_3 19 rfl rfl)
theorem dX2_init_92 : decode cX2_init 92 = .ok (.iconst 5, 1) := dk_8 (dk_at dksX2_init_3 20 rfl rfl)
theorem dX2_init_93 : decode cX2_init 93 = .ok (.ldc 46, 2) := dk_18 46 (dk_at dksX2_init_3 21 rfl rfl)
theorem dX2_init_95 : decode cX2_init 95 = .ok (.aastore, 1) := dk_83 (dk_at dksX2_init_3 23 rfl rfl)
theorem dX2_init_96 : decode cX2_init 96 = .ok (.dup, 1) := dk_89 (dk_at dksX2_init_4 0 rfl rfl)
theorem dX2_init_97 : decode cX2_init 97 = .ok (.bipush 6, 2) := dk_16 6 (dk_at dksX2_init_4 1 rfl rfl)
theorem dX2_init_99 : decode cX2_init 99 = .ok (.ldc 48, 2) := dk_18 48 (dk_at dksX2_init_4 3 rfl rfl)
theorem dX2_init_101 : decode cX2_init 101 = .ok (.aastore, 1) := dk_83 (dk_at dksX2_init_4 5 rfl rfl)
theorem dX2_init_102 : decode cX2_init 102 = .ok (.dup, 1) := dk_89 (dk_at dksX2_init_4 6 rfl rfl)
theorem dX2_init_103 : decode cX2_init 103 = .ok (.bipush 7, 2) := dk_16 7 (dk_at dksX2_init_4 7 rfl rfl)
theorem dX2_init_105 : decode cX2_init 105 = .ok (.ldc 50, 2) := dk_18 50 (dk_at dksX2_init_4 9 rfl rfl)
theorem dX2_init_107 : decode cX2_init 107 = .ok (.aastore, 1) := dk_83 (dk_at dksX2_init_4 11 rfl rfl)
theorem dX2_init_108 : decode cX2_init 108 = .ok (.dup, 1) := dk_89 (dk_at dksX2_init_4 12 rfl rfl)
theorem dX2_init_109 : decode cX2_init 109 = .ok (.bipush 8, 2) := dk_16 8 (dk_at dksX2_init_4 13 rfl rfl)
theorem dX2_init_111 : decode cX2_init 111 = .ok (.ldc 52, 2) := dk_18 52 (dk_at dksX2_init_4 15 rfl rfl)
theorem dX2_init_113 : decode cX2_init 113 = .ok (.aastore, 1) := dk_83 (dk_at dksX2_init_4 17 rfl rfl)
theorem dX2_init_114 : decode cX2_init 114 = .ok (.dup, 1) := dk_89 (dk_at dksX2_init_4 18 rfl rfl)
theorem dX2_init_115 : decode cX2_init 115 = .ok (.bipush 9, 2) := dk_16 9 (dk_at dksX2_init_4 19 rfl rfl)
theorem dX2_init_117 : decode cX2_init 117 = .ok (.ldc 54, 2) := dk_18 54 (dk_at dksX2_init_4 21 rfl rfl)
theorem dX2_init_119 : decode cX2_init 119 = .ok (.aastore, 1) := dk_83 (dk_at dksX2_init_4 23 rfl rfl)
theorem dX2_init_120 : decode cX2_init 120 = .ok (.dup, 1) := dk_89 (dk_at dksX2_init_5 0 rfl rfl)
theorem dX2_init_121 : decode cX2_init 121 = .ok (.bipush 10, 2) := dk_16 10 (dk_at dksX2_init_5 1 rfl rfl)
theorem dX2_init_123 : decode cX2_init 123 = .ok (.ldc 56, 2) := dk_18 56 (dk_at dksX2_init_5 3 rfl rfl)
theorem dX2_init_125 : decode cX2_init 125 = .ok (.aastore, 1) := dk_83 (dk_at dksX2_init_5 5 rfl rfl)
theorem dX2_init_126 : decode cX2_init 126 = .ok (.dup, 1) := dk_89 (dk_at dksX2_init_5 6 rfl rfl)
theorem dX2_init_127 : decode cX2_init 127 = .ok (.bipush 11, 2) := dk_16 11 (dk_at dksX2_init_5 7 rfl rfl)
theorem dX2_init_129 : decode cX2_init 129 = .ok (.ldc 58, 2) := dk_18 58 (dk_at dksX2_init_5 9 rfl rfl)
theorem dX2_init_131 : decode cX2_init 131 = .ok (.aastore, 1) := dk_83 (dk_at dksX2_init_5 11 rfl rfl)
theorem dX2_init_132 : decode cX2_init 132 = .ok (.dup, 1) := dk_89 (dk_at dksX2_init_5 12 rfl rfl)
theorem dX2_init_133 : decode cX2_init 133 = .ok (.bipush 12, 2) := dk_16 12 (dk_at dksX2_init_5 13 rfl rfl)
theorem dX2_init_135 : decode cX2_init 135 = .ok (.ldc 60, 2) := dk_18 60 (dk_at dksX2_init_5 15 rfl rfl)
theorem dX2_init_137 : decode cX2_init 137 = .ok (.aastore, 1) := dk_83 (dk_at dksX2_init_5 17 rfl rfl)
theorem dX2_init_138 : decode cX2_init 138 = .ok (.dup, 1) := dk_89 (dk_at dksX2_init_5 18 rfl rfl)
theorem dX2_init_139 : decode cX2_init 139 = .ok (.bipush 13, 2) := dk_16 13 (dk_at dksX2_init_5 19 rfl rfl)
theorem dX2_init_141 : decode cX2_init 141 = .ok (.ldc 62, 2) := dk_18 62 (dk_at dksX2_init_5 21 rfl rfl)
theorem dX2_init_143 : decode cX2_init 143 = .ok (.aastore, 1) := dk_83 (dk_at dksX2_init_5 23 rfl rfl)
theorem dX2_init_144 : decode cX2_init 144 = .ok (.dup, 1) := dk_89 (dk_at dksX2_init_6 0 rfl rfl)
theorem dX2_init_145 : decode cX2_init 145 = .ok (.bipush 14, 2) := dk_16 14 (dk_at dksX2_init_6 1 rfl rfl)
theorem dX2_init_147 : decode cX2_init 147 = .ok (.ldc 64, 2) := dk_18 64 (dk_at dksX2_init_6 3 rfl rfl)
theorem dX2_init_149 : decode cX2_init 149 = .ok (.aastore, 1) := dk_83 (dk_at dksX2_init_6 5 rfl rfl)
theorem dX2_init_150 : decode cX2_init 150 = .ok (.dup, 1) := dk_89 (dk_at dksX2_init_6 6 rfl rfl)
theorem dX2_init_151 : decode cX2_init 151 = .ok (.bipush 15, 2) := dk_16 15 (dk_at dksX2_init_6 7 rfl rfl)
theorem dX2_init_153 : decode cX2_init 153 = .ok (.ldc 66, 2) := dk_18 66 (dk_at dksX2_init_6 9 rfl rfl)
theorem dX2_init_155 : decode cX2_init 155 = .ok (.aastore, 1) := dk_83 (dk_at dksX2_init_6 11 rfl rfl)
theorem dX2_init_156 : decode cX2_init 156 = .ok (.putfield 68, 3) := dk_181 0 68 (dk_at dksX2_init_6 12 rfl rfl)
theorem dX2_init_159 : decode cX2_init 159 = .ok (.aload_n 0, 1) := dk_42 (dk_at dksX2_init_6 15 rfl rfl)
theorem dX2_init_160 : decode cX2_init 160 = .ok (.iconst 2, 1) := dk_5 (dk_at dksX2_init_6 16 rfl rfl)
theorem dX2_init_161 : decode cX2_init 161 = .ok (.anewarray 9, 3) := dk_189 0 9 (dk_at dksX2_init_6 17 rfl rfl)
theorem dX2_init_164 : decode cX2_init 164 = .ok (.dup, 1) := dk_89 (dk_at dksX2_init_6 20 rfl rfl)
theorem dX2_init_165 : decode cX2_init 165 = .ok (.iconst 0, 1) := dk_3 (dk_at dksX2_init_6 21 rfl rfl)
theorem dX2_init_166 : decode cX2_init 166 = .ok (.ldc 60, 2) := dk_18 60 (dk_at dksX2_init_6 22 rfl rfl)
theorem dX2_init_168 : decode cX2_init 168 = .ok (.aastore, 1) := dk_83 (dk_at dksX2_init_7 0 rfl rfl)
theorem dX2_init_169 : decode cX2_init 169 = .ok (.dup, 1) := dk_89 (dk_at dksX2_init_7 1 rfl rfl)
theorem dX2_init_170 : decode cX2_init 170 = .ok (.iconst 1, 1) := dk_4 (dk_at dksX2_init_7 2 rfl rfl)
theorem dX2_init_171 : decode cX2_init 171 = .ok (.ldc 58, 2) := dk_18 58 (dk_at dksX2_init_7 3 rfl rfl)
theorem dX2_init_173 : decode cX2_init 173 = .ok (.aastore, 1) := dk_83 (dk_at dksX2_init_7 5 rfl rfl)
theorem dX2_init_174 : decode cX2_init 174 = .ok (.putfield 71, 3) := dk_181 0 71 (dk_at dksX2_init_7 6 rfl rfl)
theorem dX2_init_177 : decode cX2_init 177 = .ok (.aload_n 0, 1) := dk_42 (dk_at dksX2_init_7 9 rfl rfl)
theorem dX2_init_178 : decode cX2_init 178 = .ok (.iconst 4, 1) := dk_7 (dk_at dksX2_init_7 10 rfl rfl)
theorem dX2_init_179 : decode cX2_init 179 = .ok (.anewarray 9, 3) := dk_189 0 9 (dk_at dksX2_init_7 11 rfl rfl)
theorem dX2_init_182 : decode cX2_init 182 = .ok (.dup, 1) := dk_89 (dk_at dksX2_init_7 14 rfl rfl)
theorem dX2_init_183 : decode cX2_init 183 = .ok (.iconst 0, 1) := dk_3 (dk_at dksX2_init_7 15 rfl rfl)
theorem dX2_init_184 : decode cX2_init 184 = .ok (.ldc 50, 2) := dk_18 50 (dk_at dksX2_init_7 16 rfl rfl)
theorem dX2_init_186 : decode cX2_init 186 = .ok (.aastore, 1) := dk_83 (dk_at dksX2_init_7 18 rfl rfl)
theorem dX2_init_187 : decode cX2_init 187 = .ok (.dup, 1) := dk_89 (dk_at dksX2_init_7 19 rfl rfl)
theorem dX2_init_188 : decode cX2_init 188 = .ok (.iconst 1, 1) := dk_4 (dk_at dksX2_init_7 20 rfl rfl)
theorem dX2_init_189 : decode cX2_init 189 = .ok (.ldc 52, 2) := dk_18 52 (dk_at dksX2_init_7 21 rfl rfl)
theorem dX2_init_191 : decode cX2_init 191 = .ok (.aastore, 1) := dk_83 (dk_at dksX2_init_7 23 rfl rfl)
theorem dX2_init_192 : decode cX2_init 192 = .ok (.dup, 1) := dk_89 (dk_at dksX2_init_8 0 rfl rfl)
theorem dX2_init_193 : decode cX2_init 193 = .ok (.iconst 2, 1) := dk_5 (dk_at dksX2_init_8 1 rfl rfl)
theorem dX2_init_194 : decode cX2_init 194 = .ok (.ldc 54, 2) := dk_18 54 (dk_at dksX2_init_8 2 rfl rfl)
theorem dX2_init_196 : decode cX2_init 196 = .ok (.aastore, 1) := dk_83 (dk_at dksX2_init_8 4 rfl rfl)
theorem dX2_init_197 : decode cX2_init 197 = .ok (.dup, 1) := dk_89 (dk_at dksX2_init_8 5 rfl rfl)
theorem dX2_init_198 : decode cX2_init 198 = .ok (.iconst 3, 1) := dk_6 (dk_at dksX2_init_8 6 rfl rfl)
theorem dX2_init_199 : decode cX2_init 199 = .ok (.ldc 56, 2) := dk_18 56 (dk_at dksX2_init_8 7 rfl rfl)
theorem dX2_init_201 : decode cX2_init 201 = .ok (.aastore, 1) := dk_83 (dk_at dksX2_init_8 9 rfl rfl)
theorem dX2_init_202 : decode cX2_init 202 = .ok (.putfield 74, 3) := dk_181 0 74 (dk_at dksX2_init_8 10 rfl rfl)
theorem dX2_init_205 : decode cX2_init 205 = .ok (.aload_n 0, 1) := dk_42 (dk_at dksX2_init_8 13 rfl rfl)
theorem dX2_init_206 : decode cX2_init 206 = .ok (.sipush 1000, 3) := dk_17 3 232 (dk_at dksX2_init_8 14 rfl rfl)
theorem dX2_init_209 : decode cX2_init 209 = .ok (.newarray .int, 2) := dk_188_10 (dk_at dksX2_init_8 17 rfl rfl)
theorem dX2_init_211 : decode cX2_init 211 = .ok (.putfield 77, 3) := dk_181 0 77 (dk_at dksX2_init_8 19 rfl rfl)
theorem dX2_init_214 : decode cX2_init 214 = .ok (.aload_n 0, 1) := dk_42 (dk_at dksX2_init_8 22 rfl rfl)
theorem dX2_init_215 : decode cX2_init 215 = .ok (.sipush 1001, 3) := dk_17 3 233 (dk_at dksX2_init_9 0 rfl rfl)
theorem dX2_init_218 : decode cX2_init 218 = .ok (.newarray .int, 2) := dk_188_10 (dk_at dksX2_init_9 3 rfl rfl)
theorem dX2_init_220 : decode cX2_init 220 = .ok (.putfield 81, 3) := dk_181 0 81 (dk_at dksX2_init_9 5 rfl rfl)
theorem dX2_init_223 : decode cX2_init 223 = .ok (.aload_n 0, 1) := dk_42 (dk_at dksX2_init_9 8 rfl rfl)
theorem dX2_init_224 : decode cX2_init 224 = .ok (.sipush 1001, 3) := dk_17 3 233 (dk_at dksX2_init_9 9 rfl rfl)
theorem dX2_init_227 : decode cX2_init 227 = .ok (.newarray .long, 2) := dk_188_11 (dk_at dksX2_init_9 12 rfl rfl)
theorem dX2_init_229 : decode cX2_init 229 = .ok (.putfield 84, 3) := dk_181 0 84 (dk_at dksX2_init_9 14 rfl rfl)
theorem dX2_init_232 : decode cX2_init 232 = .ok (.aload_n 0, 1) := dk_42 (dk_at dksX2_init_9 17 rfl rfl)
theorem dX2_init_233 : decode cX2_init 233 = .ok (.sipush 1001, 3) := dk_17 3 233 (dk_at dksX2_init_9 18 rfl rfl)
theorem dX2_init_236 : decode cX2_init 236 = .ok (.newarray .int, 2) := dk_188_10 (dk_at dksX2_init_9 21 rfl rfl)
theorem dX2_init_238 : decode cX2_init 238 = .ok (.putfield 88, 3) := dk_181 0 88 (dk_at dksX2_init_10 0 rfl rfl)
theorem dX2_init_241 : decode cX2_init 241 = .ok (.return_, 1) := dk_177 (dk_at dksX2_init_10 3 rfl rfl)
abbrev cX2_feed : ByteArray := prog_20_method_2_code
abbrev yX2_feed : MethodName := { cls := "WornSkin$Reader", name := "feed", desc := "(J)V" }
def dkwX2_feed_3 : List UInt8 := [167, 255, 189, 177]
abbrev dktX2_feed_3 : List UInt8 := dkwX2_feed_3 ++ []
def dkwX2_feed_2 : List UInt8 := [180, 0, 77, 42, 180, 0, 97, 21, 4, 79, 42, 89, 180, 0, 97, 4, 96, 181, 0, 97, 132, 3, 248]
abbrev dktX2_feed_2 : List UInt8 := dkwX2_feed_2 ++ dktX2_feed_3
def dkwX2_feed_1 : List UInt8 := [21, 4, 16, 32, 16, 126, 184, 0, 93, 153, 0, 34, 42, 180, 0, 97, 17, 3, 232, 162, 0, 24, 42]
abbrev dktX2_feed_1 : List UInt8 := dkwX2_feed_1 ++ dktX2_feed_2
def dkwX2_feed_0 : List UInt8 := [16, 56, 62, 29, 155, 0, 69, 31, 29, 125, 20, 0, 91, 127, 136, 54, 4, 21, 4, 16, 10, 159, 0, 15]
abbrev dktX2_feed_0 : List UInt8 := dkwX2_feed_0 ++ dktX2_feed_1
theorem dksX2_feed_0 : cX2_feed.data.toList.drop 0 = dktX2_feed_0 := by decide +kernel
theorem dksX2_feed_1 : cX2_feed.data.toList.drop 24 = dktX2_feed_1 := dk_seg dksX2_feed_0 24 rfl rfl
theorem dksX2_feed_2 : cX2_feed.data.toList.drop 47 = dktX2_feed_2 := dk_seg dksX2_feed_1 23 rfl rfl
theorem dksX2_feed_3 : cX2_feed.data.toList.drop 70 = dktX2_feed_3 := dk_seg dksX2_feed_2 23 rfl rfl
theorem dX2_feed_0 : decode cX2_feed 0 = .ok (.bipush 56, 2) := dk_16 56 (dk_at dksX2_feed_0 0 rfl rfl)
theorem dX2_feed_2 : decode cX2_feed 2 = .ok (.istore_n 3, 1) := dk_62 (dk_at dksX2_feed_0 2 rfl rfl)
theorem dX2_feed_3 : decode cX2_feed 3 = .ok (.iload_n 3, 1) := dk_29 (dk_at dksX2_feed_0 3 rfl rfl)
theorem dX2_feed_4 : decode cX2_feed 4 = .ok (.ifCond .lt 69, 3) := dk_155 0 69 (dk_at dksX2_feed_0 4 rfl rfl)
theorem dX2_feed_7 : decode cX2_feed 7 = .ok (.lload_n 1, 1) := dk_31 (dk_at dksX2_feed_0 7 rfl rfl)
theorem dX2_feed_8 : decode cX2_feed 8 = .ok (.iload_n 3, 1) := dk_29 (dk_at dksX2_feed_0 8 rfl rfl)
theorem dX2_feed_9 : decode cX2_feed 9 = .ok (.lushr, 1) := dk_125 (dk_at dksX2_feed_0 9 rfl rfl)
theorem dX2_feed_10 : decode cX2_feed 10 = .ok (.ldc2_w 91, 3) := dk_20 0 91 (dk_at dksX2_feed_0 10 rfl rfl)
theorem dX2_feed_13 : decode cX2_feed 13 = .ok (.land, 1) := dk_127 (dk_at dksX2_feed_0 13 rfl rfl)
theorem dX2_feed_14 : decode cX2_feed 14 = .ok (.l2i, 1) := dk_136 (dk_at dksX2_feed_0 14 rfl rfl)
theorem dX2_feed_15 : decode cX2_feed 15 = .ok (.istore 4, 2) := dk_54 4 (dk_at dksX2_feed_0 15 rfl rfl)
theorem dX2_feed_17 : decode cX2_feed 17 = .ok (.iload 4, 2) := dk_21 4 (dk_at dksX2_feed_0 17 rfl rfl)
theorem dX2_feed_19 : decode cX2_feed 19 = .ok (.bipush 10, 2) := dk_16 10 (dk_at dksX2_feed_0 19 rfl rfl)
theorem dX2_feed_21 : decode cX2_feed 21 = .ok (.if_icmp .eq 15, 3) := dk_159 0 15 (dk_at dksX2_feed_0 21 rfl rfl)
theorem dX2_feed_24 : decode cX2_feed 24 = .ok (.iload 4, 2) := dk_21 4 (dk_at dksX2_feed_1 0 rfl rfl)
theorem dX2_feed_26 : decode cX2_feed 26 = .ok (.bipush 32, 2) := dk_16 32 (dk_at dksX2_feed_1 2 rfl rfl)
theorem dX2_feed_28 : decode cX2_feed 28 = .ok (.bipush 126, 2) := dk_16 126 (dk_at dksX2_feed_1 4 rfl rfl)
theorem dX2_feed_30 : decode cX2_feed 30 = .ok (.invokestatic 93, 3) := dk_184 0 93 (dk_at dksX2_feed_1 6 rfl rfl)
theorem dX2_feed_33 : decode cX2_feed 33 = .ok (.ifCond .eq 34, 3) := dk_153 0 34 (dk_at dksX2_feed_1 9 rfl rfl)
theorem dX2_feed_36 : decode cX2_feed 36 = .ok (.aload_n 0, 1) := dk_42 (dk_at dksX2_feed_1 12 rfl rfl)
theorem dX2_feed_37 : decode cX2_feed 37 = .ok (.getfield 97, 3) := dk_180 0 97 (dk_at dksX2_feed_1 13 rfl rfl)
theorem dX2_feed_40 : decode cX2_feed 40 = .ok (.sipush 1000, 3) := dk_17 3 232 (dk_at dksX2_feed_1 16 rfl rfl)
theorem dX2_feed_43 : decode cX2_feed 43 = .ok (.if_icmp .ge 24, 3) := dk_162 0 24 (dk_at dksX2_feed_1 19 rfl rfl)
theorem dX2_feed_46 : decode cX2_feed 46 = .ok (.aload_n 0, 1) := dk_42 (dk_at dksX2_feed_1 22 rfl rfl)
theorem dX2_feed_47 : decode cX2_feed 47 = .ok (.getfield 77, 3) := dk_180 0 77 (dk_at dksX2_feed_2 0 rfl rfl)
theorem dX2_feed_50 : decode cX2_feed 50 = .ok (.aload_n 0, 1) := dk_42 (dk_at dksX2_feed_2 3 rfl rfl)
theorem dX2_feed_51 : decode cX2_feed 51 = .ok (.getfield 97, 3) := dk_180 0 97 (dk_at dksX2_feed_2 4 rfl rfl)
theorem dX2_feed_54 : decode cX2_feed 54 = .ok (.iload 4, 2) := dk_21 4 (dk_at dksX2_feed_2 7 rfl rfl)
theorem dX2_feed_56 : decode cX2_feed 56 = .ok (.iastore, 1) := dk_79 (dk_at dksX2_feed_2 9 rfl rfl)
theorem dX2_feed_57 : decode cX2_feed 57 = .ok (.aload_n 0, 1) := dk_42 (dk_at dksX2_feed_2 10 rfl rfl)
theorem dX2_feed_58 : decode cX2_feed 58 = .ok (.dup, 1) := dk_89 (dk_at dksX2_feed_2 11 rfl rfl)
theorem dX2_feed_59 : decode cX2_feed 59 = .ok (.getfield 97, 3) := dk_180 0 97 (dk_at dksX2_feed_2 12 rfl rfl)
theorem dX2_feed_62 : decode cX2_feed 62 = .ok (.iconst 1, 1) := dk_4 (dk_at dksX2_feed_2 15 rfl rfl)
theorem dX2_feed_63 : decode cX2_feed 63 = .ok (.iadd, 1) := dk_96 (dk_at dksX2_feed_2 16 rfl rfl)
theorem dX2_feed_64 : decode cX2_feed 64 = .ok (.putfield 97, 3) := dk_181 0 97 (dk_at dksX2_feed_2 17 rfl rfl)
theorem dX2_feed_67 : decode cX2_feed 67 = .ok (.iinc 3 (-8), 3) := dk_132 3 248 (dk_at dksX2_feed_2 20 rfl rfl)
theorem dX2_feed_70 : decode cX2_feed 70 = .ok (.goto (-67), 3) := dk_167 255 189 (dk_at dksX2_feed_3 0 rfl rfl)
theorem dX2_feed_73 : decode cX2_feed 73 = .ok (.return_, 1) := dk_177 (dk_at dksX2_feed_3 3 rfl rfl)
abbrev cX2_isLetter : ByteArray := prog_20_method_4_code
abbrev yX2_isLetter : MethodName := { cls := "WornSkin$Reader", name := "isLetter", desc := "(I)Z" }
def dkwX2_isLetter_0 : List UInt8 := [26, 16, 97, 16, 122, 184, 0, 93, 172]
abbrev dktX2_isLetter_0 : List UInt8 := dkwX2_isLetter_0 ++ []
theorem dksX2_isLetter_0 : cX2_isLetter.data.toList.drop 0 = dktX2_isLetter_0 := by decide +kernel
theorem dX2_isLetter_0 : decode cX2_isLetter 0 = .ok (.iload_n 0, 1) := dk_26 (dk_at dksX2_isLetter_0 0 rfl rfl)
theorem dX2_isLetter_1 : decode cX2_isLetter 1 = .ok (.bipush 97, 2) := dk_16 97 (dk_at dksX2_isLetter_0 1 rfl rfl)
theorem dX2_isLetter_3 : decode cX2_isLetter 3 = .ok (.bipush 122, 2) := dk_16 122 (dk_at dksX2_isLetter_0 3 rfl rfl)
theorem dX2_isLetter_5 : decode cX2_isLetter 5 = .ok (.invokestatic 93, 3) := dk_184 0 93 (dk_at dksX2_isLetter_0 5 rfl rfl)
theorem dX2_isLetter_8 : decode cX2_isLetter 8 = .ok (.ireturn, 1) := dk_172 (dk_at dksX2_isLetter_0 8 rfl rfl)
abbrev cX2_isDigit : ByteArray := prog_20_method_5_code
abbrev yX2_isDigit : MethodName := { cls := "WornSkin$Reader", name := "isDigit", desc := "(I)Z" }
def dkwX2_isDigit_0 : List UInt8 := [26, 16, 48, 16, 57, 184, 0, 93, 172]
abbrev dktX2_isDigit_0 : List UInt8 := dkwX2_isDigit_0 ++ []
theorem dksX2_isDigit_0 : cX2_isDigit.data.toList.drop 0 = dktX2_isDigit_0 := by decide +kernel
theorem dX2_isDigit_0 : decode cX2_isDigit 0 = .ok (.iload_n 0, 1) := dk_26 (dk_at dksX2_isDigit_0 0 rfl rfl)
theorem dX2_isDigit_1 : decode cX2_isDigit 1 = .ok (.bipush 48, 2) := dk_16 48 (dk_at dksX2_isDigit_0 1 rfl rfl)
theorem dX2_isDigit_3 : decode cX2_isDigit 3 = .ok (.bipush 57, 2) := dk_16 57 (dk_at dksX2_isDigit_0 3 rfl rfl)
theorem dX2_isDigit_5 : decode cX2_isDigit 5 = .ok (.invokestatic 93, 3) := dk_184 0 93 (dk_at dksX2_isDigit_0 5 rfl rfl)
theorem dX2_isDigit_8 : decode cX2_isDigit 8 = .ok (.ireturn, 1) := dk_172 (dk_at dksX2_isDigit_0 8 rfl rfl)
abbrev cX2_cut : ByteArray := prog_20_method_6_code
abbrev yX2_cut : MethodName := { cls := "WornSkin$Reader", name := "cut", desc := "()V" }
def dkwX2_cut_12 : List UInt8 := [181, 0, 130, 177]
abbrev dktX2_cut_12 : List UInt8 := dkwX2_cut_12 ++ []
def dkwX2_cut_11 : List UInt8 := [79, 132, 2, 1, 167, 255, 5, 42, 180, 0, 81, 28, 3, 79, 42, 180, 0, 88, 28, 27, 79, 42, 3]
abbrev dktX2_cut_11 : List UInt8 := dkwX2_cut_11 ++ dktX2_cut_12
def dkwX2_cut_10 : List UInt8 := [155, 0, 7, 6, 167, 0, 4, 7, 79, 42, 180, 0, 84, 28, 22, 6, 80, 42, 180, 0, 88, 28, 21, 5]
abbrev dktX2_cut_10 : List UInt8 := dkwX2_cut_10 ++ dktX2_cut_11
def dkwX2_cut_9 : List UInt8 := [79, 167, 0, 32, 21, 4, 133, 55, 6, 132, 3, 1, 42, 180, 0, 81, 28, 18, 124, 21, 4, 182, 0, 126]
abbrev dktX2_cut_9 : List UInt8 := dkwX2_cut_9 ++ dktX2_cut_10
def dkwX2_cut_8 : List UInt8 := [132, 3, 1, 167, 255, 208, 42, 180, 0, 81, 28, 29, 21, 5, 100, 7, 164, 0, 7, 7, 167, 0, 4, 5]
abbrev dktX2_cut_8 : List UInt8 := dkwX2_cut_8 ++ dktX2_cut_9
def dkwX2_cut_7 : List UInt8 := [7, 162, 0, 23, 20, 0, 120, 22, 6, 105, 42, 180, 0, 77, 29, 46, 133, 97, 20, 0, 122, 101, 55, 6]
abbrev dktX2_cut_7 : List UInt8 := dkwX2_cut_7 ++ dktX2_cut_8
def dkwX2_cut_6 : List UInt8 := [153, 0, 76, 29, 27, 162, 0, 49, 42, 180, 0, 77, 29, 46, 184, 0, 117, 153, 0, 37, 29, 21, 5, 100]
abbrev dktX2_cut_6 : List UInt8 := dkwX2_cut_6 ++ dktX2_cut_7
def dkwX2_cut_5 : List UInt8 := [29, 21, 5, 100, 16, 8, 164, 0, 7, 7, 167, 0, 4, 4, 79, 167, 0, 113, 21, 4, 184, 0, 117]
abbrev dktX2_cut_5 : List UInt8 := dkwX2_cut_5 ++ dktX2_cut_6
def dkwX2_cut_4 : List UInt8 := [180, 0, 77, 29, 46, 133, 97, 20, 0, 111, 101, 55, 6, 132, 3, 1, 167, 255, 207, 42, 180, 0, 81, 28]
abbrev dktX2_cut_4 : List UInt8 := dkwX2_cut_4 ++ dktX2_cut_5
def dkwX2_cut_3 : List UInt8 := [184, 0, 113, 153, 0, 38, 29, 21, 5, 100, 16, 8, 162, 0, 23, 20, 0, 105, 22, 6, 105, 42]
abbrev dktX2_cut_3 : List UInt8 := dkwX2_cut_3 ++ dktX2_cut_4
def dkwX2_cut_2 : List UInt8 := [54, 5, 9, 55, 6, 21, 4, 184, 0, 113, 153, 0, 78, 29, 27, 162, 0, 50, 42, 180, 0, 77, 29, 46]
abbrev dktX2_cut_2 : List UInt8 := dkwX2_cut_2 ++ dktX2_cut_3
def dkwX2_cut_1 : List UInt8 := [46, 54, 4, 21, 4, 16, 10, 159, 0, 10, 21, 4, 16, 32, 160, 0, 9, 132, 3, 1, 167, 255, 226, 29]
abbrev dktX2_cut_1 : List UInt8 := dkwX2_cut_1 ++ dktX2_cut_2
def dkwX2_cut_0 : List UInt8 := [42, 180, 0, 97, 60, 42, 3, 181, 0, 97, 3, 61, 3, 62, 29, 27, 162, 0, 252, 42, 180, 0, 77, 29]
abbrev dktX2_cut_0 : List UInt8 := dkwX2_cut_0 ++ dktX2_cut_1
theorem dksX2_cut_0 : cX2_cut.data.toList.drop 0 = dktX2_cut_0 := by decide +kernel
theorem dksX2_cut_1 : cX2_cut.data.toList.drop 24 = dktX2_cut_1 := dk_seg dksX2_cut_0 24 rfl rfl
theorem dksX2_cut_2 : cX2_cut.data.toList.drop 48 = dktX2_cut_2 := dk_seg dksX2_cut_1 24 rfl rfl
theorem dksX2_cut_3 : cX2_cut.data.toList.drop 72 = dktX2_cut_3 := dk_seg dksX2_cut_2 24 rfl rfl
theorem dksX2_cut_4 : cX2_cut.data.toList.drop 94 = dktX2_cut_4 := dk_seg dksX2_cut_3 22 rfl rfl
theorem dksX2_cut_5 : cX2_cut.data.toList.drop 118 = dktX2_cut_5 := dk_seg dksX2_cut_4 24 rfl rfl
theorem dksX2_cut_6 : cX2_cut.data.toList.drop 141 = dktX2_cut_6 := dk_seg dksX2_cut_5 23 rfl rfl
theorem dksX2_cut_7 : cX2_cut.data.toList.drop 165 = dktX2_cut_7 := dk_seg dksX2_cut_6 24 rfl rfl
theorem dksX2_cut_8 : cX2_cut.data.toList.drop 189 = dktX2_cut_8 := dk_seg dksX2_cut_7 24 rfl rfl
theorem dksX2_cut_9 : cX2_cut.data.toList.drop 213 = dktX2_cut_9 := dk_seg dksX2_cut_8 24 rfl rfl
theorem dksX2_cut_10 : cX2_cut.data.toList.drop 237 = dktX2_cut_10 := dk_seg dksX2_cut_9 24 rfl rfl
theorem dksX2_cut_11 : cX2_cut.data.toList.drop 261 = dktX2_cut_11 := dk_seg dksX2_cut_10 24 rfl rfl
theorem dksX2_cut_12 : cX2_cut.data.toList.drop 284 = dktX2_cut_12 := dk_seg dksX2_cut_11 23 rfl rfl
theorem dX2_cut_0 : decode cX2_cut 0 = .ok (.aload_n 0, 1) := dk_42 (dk_at dksX2_cut_0 0 rfl rfl)
theorem dX2_cut_1 : decode cX2_cut 1 = .ok (.getfield 97, 3) := dk_180 0 97 (dk_at dksX2_cut_0 1 rfl rfl)
theorem dX2_cut_4 : decode cX2_cut 4 = .ok (.istore_n 1, 1) := dk_60 (dk_at dksX2_cut_0 4 rfl rfl)
theorem dX2_cut_5 : decode cX2_cut 5 = .ok (.aload_n 0, 1) := dk_42 (dk_at dksX2_cut_0 5 rfl rfl)
theorem dX2_cut_6 : decode cX2_cut 6 = .ok (.iconst 0, 1) := dk_3 (dk_at dksX2_cut_0 6 rfl rfl)
theorem dX2_cut_7 : decode cX2_cut 7 = .ok (.putfield 97, 3) := dk_181 0 97 (dk_at dksX2_cut_0 7 rfl rfl)
theorem dX2_cut_10 : decode cX2_cut 10 = .ok (.iconst 0, 1) := dk_3 (dk_at dksX2_cut_0 10 rfl rfl)
theorem dX2_cut_11 : decode cX2_cut 11 = .ok (.istore_n 2, 1) := dk_61 (dk_at dksX2_cut_0 11 rfl rfl)
theorem dX2_cut_12 : decode cX2_cut 12 = .ok (.iconst 0, 1) := dk_3 (dk_at dksX2_cut_0 12 rfl rfl)
theorem dX2_cut_13 : decode cX2_cut 13 = .ok (.istore_n 3, 1) := dk_62 (dk_at dksX2_cut_0 13 rfl rfl)
theorem dX2_cut_14 : decode cX2_cut 14 = .ok (.iload_n 3, 1) := dk_29 (dk_at dksX2_cut_0 14 rfl rfl)
theorem dX2_cut_15 : decode cX2_cut 15 = .ok (.iload_n 1, 1) := dk_27 (dk_at dksX2_cut_0 15 rfl rfl)
theorem dX2_cut_16 : decode cX2_cut 16 = .ok (.if_icmp .ge 252, 3) := dk_162 0 252 (dk_at dksX2_cut_0 16 rfl rfl)
theorem dX2_cut_19 : decode cX2_cut 19 = .ok (.aload_n 0, 1) := dk_42 (dk_at dksX2_cut_0 19 rfl rfl)
theorem dX2_cut_20 : decode cX2_cut 20 = .ok (.getfield 77, 3) := dk_180 0 77 (dk_at dksX2_cut_0 20 rfl rfl)
theorem dX2_cut_23 : decode cX2_cut 23 = .ok (.iload_n 3, 1) := dk_29 (dk_at dksX2_cut_0 23 rfl rfl)
theorem dX2_cut_24 : decode cX2_cut 24 = .ok (.iaload, 1) := dk_46 (dk_at dksX2_cut_1 0 rfl rfl)
theorem dX2_cut_25 : decode cX2_cut 25 = .ok (.istore 4, 2) := dk_54 4 (dk_at dksX2_cut_1 1 rfl rfl)
theorem dX2_cut_27 : decode cX2_cut 27 = .ok (.iload 4, 2) := dk_21 4 (dk_at dksX2_cut_1 3 rfl rfl)
theorem dX2_cut_29 : decode cX2_cut 29 = .ok (.bipush 10, 2) := dk_16 10 (dk_at dksX2_cut_1 5 rfl rfl)
theorem dX2_cut_31 : decode cX2_cut 31 = .ok (.if_icmp .eq 10, 3) := dk_159 0 10 (dk_at dksX2_cut_1 7 rfl rfl)
theorem dX2_cut_34 : decode cX2_cut 34 = .ok (.iload 4, 2) := dk_21 4 (dk_at dksX2_cut_1 10 rfl rfl)
theorem dX2_cut_36 : decode cX2_cut 36 = .ok (.bipush 32, 2) := dk_16 32 (dk_at dksX2_cut_1 12 rfl rfl)
theorem dX2_cut_38 : decode cX2_cut 38 = .ok (.if_icmp .ne 9, 3) := dk_160 0 9 (dk_at dksX2_cut_1 14 rfl rfl)
theorem dX2_cut_41 : decode cX2_cut 41 = .ok (.iinc 3 1, 3) := dk_132 3 1 (dk_at dksX2_cut_1 17 rfl rfl)
theorem dX2_cut_44 : decode cX2_cut 44 = .ok (.goto (-30), 3) := dk_167 255 226 (dk_at dksX2_cut_1 20 rfl rfl)
theorem dX2_cut_47 : decode cX2_cut 47 = .ok (.iload_n 3, 1) := dk_29 (dk_at dksX2_cut_1 23 rfl rfl)
theorem dX2_cut_48 : decode cX2_cut 48 = .ok (.istore 5, 2) := dk_54 5 (dk_at dksX2_cut_2 0 rfl rfl)
theorem dX2_cut_50 : decode cX2_cut 50 = .ok (.lconst 0, 1) := dk_9 (dk_at dksX2_cut_2 2 rfl rfl)
theorem dX2_cut_51 : decode cX2_cut 51 = .ok (.lstore 6, 2) := dk_55 6 (dk_at dksX2_cut_2 3 rfl rfl)
theorem dX2_cut_53 : decode cX2_cut 53 = .ok (.iload 4, 2) := dk_21 4 (dk_at dksX2_cut_2 5 rfl rfl)
theorem dX2_cut_55 : decode cX2_cut 55 = .ok (.invokestatic 113, 3) := dk_184 0 113 (dk_at dksX2_cut_2 7 rfl rfl)
theorem dX2_cut_58 : decode cX2_cut 58 = .ok (.ifCond .eq 78, 3) := dk_153 0 78 (dk_at dksX2_cut_2 10 rfl rfl)
theorem dX2_cut_61 : decode cX2_cut 61 = .ok (.iload_n 3, 1) := dk_29 (dk_at dksX2_cut_2 13 rfl rfl)
theorem dX2_cut_62 : decode cX2_cut 62 = .ok (.iload_n 1, 1) := dk_27 (dk_at dksX2_cut_2 14 rfl rfl)
theorem dX2_cut_63 : decode cX2_cut 63 = .ok (.if_icmp .ge 50, 3) := dk_162 0 50 (dk_at dksX2_cut_2 15 rfl rfl)
theorem dX2_cut_66 : decode cX2_cut 66 = .ok (.aload_n 0, 1) := dk_42 (dk_at dksX2_cut_2 18 rfl rfl)
theorem dX2_cut_67 : decode cX2_cut 67 = .ok (.getfield 77, 3) := dk_180 0 77 (dk_at dksX2_cut_2 19 rfl rfl)
theorem dX2_cut_70 : decode cX2_cut 70 = .ok (.iload_n 3, 1) := dk_29 (dk_at dksX2_cut_2 22 rfl rfl)
theorem dX2_cut_71 : decode cX2_cut 71 = .ok (.iaload, 1) := dk_46 (dk_at dksX2_cut_2 23 rfl rfl)
theorem dX2_cut_72 : decode cX2_cut 72 = .ok (.invokestatic 113, 3) := dk_184 0 113 (dk_at dksX2_cut_3 0 rfl rfl)
theorem dX2_cut_75 : decode cX2_cut 75 = .ok (.ifCond .eq 38, 3) := dk_153 0 38 (dk_at dksX2_cut_3 3 rfl rfl)
theorem dX2_cut_78 : decode cX2_cut 78 = .ok (.iload_n 3, 1) := dk_29 (dk_at dksX2_cut_3 6 rfl rfl)
theorem dX2_cut_79 : decode cX2_cut 79 = .ok (.iload 5, 2) := dk_21 5 (dk_at dksX2_cut_3 7 rfl rfl)
theorem dX2_cut_81 : decode cX2_cut 81 = .ok (.isub, 1) := dk_100 (dk_at dksX2_cut_3 9 rfl rfl)
theorem dX2_cut_82 : decode cX2_cut 82 = .ok (.bipush 8, 2) := dk_16 8 (dk_at dksX2_cut_3 10 rfl rfl)
theorem dX2_cut_84 : decode cX2_cut 84 = .ok (.if_icmp .ge 23, 3) := dk_162 0 23 (dk_at dksX2_cut_3 12 rfl rfl)
theorem dX2_cut_87 : decode cX2_cut 87 = .ok (.ldc2_w 105, 3) := dk_20 0 105 (dk_at dksX2_cut_3 15 rfl rfl)
theorem dX2_cut_90 : decode cX2_cut 90 = .ok (.lload 6, 2) := dk_22 6 (dk_at dksX2_cut_3 18 rfl rfl)
theorem dX2_cut_92 : decode cX2_cut 92 = .ok (.lmul, 1) := dk_105 (dk_at dksX2_cut_3 20 rfl rfl)
theorem dX2_cut_93 : decode cX2_cut 93 = .ok (.aload_n 0, 1) := dk_42 (dk_at dksX2_cut_3 21 rfl rfl)
theorem dX2_cut_94 : decode cX2_cut 94 = .ok (.getfield 77, 3) := dk_180 0 77 (dk_at dksX2_cut_4 0 rfl rfl)
theorem dX2_cut_97 : decode cX2_cut 97 = .ok (.iload_n 3, 1) := dk_29 (dk_at dksX2_cut_4 3 rfl rfl)
theorem dX2_cut_98 : decode cX2_cut 98 = .ok (.iaload, 1) := dk_46 (dk_at dksX2_cut_4 4 rfl rfl)
theorem dX2_cut_99 : decode cX2_cut 99 = .ok (.i2l, 1) := dk_133 (dk_at dksX2_cut_4 5 rfl rfl)
theorem dX2_cut_100 : decode cX2_cut 100 = .ok (.ladd, 1) := dk_97 (dk_at dksX2_cut_4 6 rfl rfl)
theorem dX2_cut_101 : decode cX2_cut 101 = .ok (.ldc2_w 111, 3) := dk_20 0 111 (dk_at dksX2_cut_4 7 rfl rfl)
theorem dX2_cut_104 : decode cX2_cut 104 = .ok (.lsub, 1) := dk_101 (dk_at dksX2_cut_4 10 rfl rfl)
theorem dX2_cut_105 : decode cX2_cut 105 = .ok (.lstore 6, 2) := dk_55 6 (dk_at dksX2_cut_4 11 rfl rfl)
theorem dX2_cut_107 : decode cX2_cut 107 = .ok (.iinc 3 1, 3) := dk_132 3 1 (dk_at dksX2_cut_4 13 rfl rfl)
theorem dX2_cut_110 : decode cX2_cut 110 = .ok (.goto (-49), 3) := dk_167 255 207 (dk_at dksX2_cut_4 16 rfl rfl)
theorem dX2_cut_113 : decode cX2_cut 113 = .ok (.aload_n 0, 1) := dk_42 (dk_at dksX2_cut_4 19 rfl rfl)
theorem dX2_cut_114 : decode cX2_cut 114 = .ok (.getfield 81, 3) := dk_180 0 81 (dk_at dksX2_cut_4 20 rfl rfl)
theorem dX2_cut_117 : decode cX2_cut 117 = .ok (.iload_n 2, 1) := dk_28 (dk_at dksX2_cut_4 23 rfl rfl)
theorem dX2_cut_118 : decode cX2_cut 118 = .ok (.iload_n 3, 1) := dk_29 (dk_at dksX2_cut_5 0 rfl rfl)
theorem dX2_cut_119 : decode cX2_cut 119 = .ok (.iload 5, 2) := dk_21 5 (dk_at dksX2_cut_5 1 rfl rfl)
theorem dX2_cut_121 : decode cX2_cut 121 = .ok (.isub, 1) := dk_100 (dk_at dksX2_cut_5 3 rfl rfl)
theorem dX2_cut_122 : decode cX2_cut 122 = .ok (.bipush 8, 2) := dk_16 8 (dk_at dksX2_cut_5 4 rfl rfl)
theorem dX2_cut_124 : decode cX2_cut 124 = .ok (.if_icmp .le 7, 3) := dk_164 0 7 (dk_at dksX2_cut_5 6 rfl rfl)
theorem dX2_cut_127 : decode cX2_cut 127 = .ok (.iconst 4, 1) := dk_7 (dk_at dksX2_cut_5 9 rfl rfl)
theorem dX2_cut_128 : decode cX2_cut 128 = .ok (.goto 4, 3) := dk_167 0 4 (dk_at dksX2_cut_5 10 rfl rfl)
theorem dX2_cut_131 : decode cX2_cut 131 = .ok (.iconst 1, 1) := dk_4 (dk_at dksX2_cut_5 13 rfl rfl)
theorem dX2_cut_132 : decode cX2_cut 132 = .ok (.iastore, 1) := dk_79 (dk_at dksX2_cut_5 14 rfl rfl)
theorem dX2_cut_133 : decode cX2_cut 133 = .ok (.goto 113, 3) := dk_167 0 113 (dk_at dksX2_cut_5 15 rfl rfl)
theorem dX2_cut_136 : decode cX2_cut 136 = .ok (.iload 4, 2) := dk_21 4 (dk_at dksX2_cut_5 18 rfl rfl)
theorem dX2_cut_138 : decode cX2_cut 138 = .ok (.invokestatic 117, 3) := dk_184 0 117 (dk_at dksX2_cut_5 20 rfl rfl)
theorem dX2_cut_141 : decode cX2_cut 141 = .ok (.ifCond .eq 76, 3) := dk_153 0 76 (dk_at dksX2_cut_6 0 rfl rfl)
theorem dX2_cut_144 : decode cX2_cut 144 = .ok (.iload_n 3, 1) := dk_29 (dk_at dksX2_cut_6 3 rfl rfl)
theorem dX2_cut_145 : decode cX2_cut 145 = .ok (.iload_n 1, 1) := dk_27 (dk_at dksX2_cut_6 4 rfl rfl)
theorem dX2_cut_146 : decode cX2_cut 146 = .ok (.if_icmp .ge 49, 3) := dk_162 0 49 (dk_at dksX2_cut_6 5 rfl rfl)
theorem dX2_cut_149 : decode cX2_cut 149 = .ok (.aload_n 0, 1) := dk_42 (dk_at dksX2_cut_6 8 rfl rfl)
theorem dX2_cut_150 : decode cX2_cut 150 = .ok (.getfield 77, 3) := dk_180 0 77 (dk_at dksX2_cut_6 9 rfl rfl)
theorem dX2_cut_153 : decode cX2_cut 153 = .ok (.iload_n 3, 1) := dk_29 (dk_at dksX2_cut_6 12 rfl rfl)
theorem dX2_cut_154 : decode cX2_cut 154 = .ok (.iaload, 1) := dk_46 (dk_at dksX2_cut_6 13 rfl rfl)
theorem dX2_cut_155 : decode cX2_cut 155 = .ok (.invokestatic 117, 3) := dk_184 0 117 (dk_at dksX2_cut_6 14 rfl rfl)
theorem dX2_cut_158 : decode cX2_cut 158 = .ok (.ifCond .eq 37, 3) := dk_153 0 37 (dk_at dksX2_cut_6 17 rfl rfl)
theorem dX2_cut_161 : decode cX2_cut 161 = .ok (.iload_n 3, 1) := dk_29 (dk_at dksX2_cut_6 20 rfl rfl)
theorem dX2_cut_162 : decode cX2_cut 162 = .ok (.iload 5, 2) := dk_21 5 (dk_at dksX2_cut_6 21 rfl rfl)
theorem dX2_cut_164 : decode cX2_cut 164 = .ok (.isub, 1) := dk_100 (dk_at dksX2_cut_6 23 rfl rfl)
theorem dX2_cut_165 : decode cX2_cut 165 = .ok (.iconst 4, 1) := dk_7 (dk_at dksX2_cut_7 0 rfl rfl)
theorem dX2_cut_166 : decode cX2_cut 166 = .ok (.if_icmp .ge 23, 3) := dk_162 0 23 (dk_at dksX2_cut_7 1 rfl rfl)
theorem dX2_cut_169 : decode cX2_cut 169 = .ok (.ldc2_w 120, 3) := dk_20 0 120 (dk_at dksX2_cut_7 4 rfl rfl)
theorem dX2_cut_172 : decode cX2_cut 172 = .ok (.lload 6, 2) := dk_22 6 (dk_at dksX2_cut_7 7 rfl rfl)
theorem dX2_cut_174 : decode cX2_cut 174 = .ok (.lmul, 1) := dk_105 (dk_at dksX2_cut_7 9 rfl rfl)
theorem dX2_cut_175 : decode cX2_cut 175 = .ok (.aload_n 0, 1) := dk_42 (dk_at dksX2_cut_7 10 rfl rfl)
theorem dX2_cut_176 : decode cX2_cut 176 = .ok (.getfield 77, 3) := dk_180 0 77 (dk_at dksX2_cut_7 11 rfl rfl)
theorem dX2_cut_179 : decode cX2_cut 179 = .ok (.iload_n 3, 1) := dk_29 (dk_at dksX2_cut_7 14 rfl rfl)
theorem dX2_cut_180 : decode cX2_cut 180 = .ok (.iaload, 1) := dk_46 (dk_at dksX2_cut_7 15 rfl rfl)
theorem dX2_cut_181 : decode cX2_cut 181 = .ok (.i2l, 1) := dk_133 (dk_at dksX2_cut_7 16 rfl rfl)
theorem dX2_cut_182 : decode cX2_cut 182 = .ok (.ladd, 1) := dk_97 (dk_at dksX2_cut_7 17 rfl rfl)
theorem dX2_cut_183 : decode cX2_cut 183 = .ok (.ldc2_w 122, 3) := dk_20 0 122 (dk_at dksX2_cut_7 18 rfl rfl)
theorem dX2_cut_186 : decode cX2_cut 186 = .ok (.lsub, 1) := dk_101 (dk_at dksX2_cut_7 21 rfl rfl)
theorem dX2_cut_187 : decode cX2_cut 187 = .ok (.lstore 6, 2) := dk_55 6 (dk_at dksX2_cut_7 22 rfl rfl)
theorem dX2_cut_189 : decode cX2_cut 189 = .ok (.iinc 3 1, 3) := dk_132 3 1 (dk_at dksX2_cut_8 0 rfl rfl)
theorem dX2_cut_192 : decode cX2_cut 192 = .ok (.goto (-48), 3) := dk_167 255 208 (dk_at dksX2_cut_8 3 rfl rfl)
theorem dX2_cut_195 : decode cX2_cut 195 = .ok (.aload_n 0, 1) := dk_42 (dk_at dksX2_cut_8 6 rfl rfl)
theorem dX2_cut_196 : decode cX2_cut 196 = .ok (.getfield 81, 3) := dk_180 0 81 (dk_at dksX2_cut_8 7 rfl rfl)
theorem dX2_cut_199 : decode cX2_cut 199 = .ok (.iload_n 2, 1) := dk_28 (dk_at dksX2_cut_8 10 rfl rfl)
theorem dX2_cut_200 : decode cX2_cut 200 = .ok (.iload_n 3, 1) := dk_29 (dk_at dksX2_cut_8 11 rfl rfl)
theorem dX2_cut_201 : decode cX2_cut 201 = .ok (.iload 5, 2) := dk_21 5 (dk_at dksX2_cut_8 12 rfl rfl)
theorem dX2_cut_203 : decode cX2_cut 203 = .ok (.isub, 1) := dk_100 (dk_at dksX2_cut_8 14 rfl rfl)
theorem dX2_cut_204 : decode cX2_cut 204 = .ok (.iconst 4, 1) := dk_7 (dk_at dksX2_cut_8 15 rfl rfl)
theorem dX2_cut_205 : decode cX2_cut 205 = .ok (.if_icmp .le 7, 3) := dk_164 0 7 (dk_at dksX2_cut_8 16 rfl rfl)
theorem dX2_cut_208 : decode cX2_cut 208 = .ok (.iconst 4, 1) := dk_7 (dk_at dksX2_cut_8 19 rfl rfl)
theorem dX2_cut_209 : decode cX2_cut 209 = .ok (.goto 4, 3) := dk_167 0 4 (dk_at dksX2_cut_8 20 rfl rfl)
theorem dX2_cut_212 : decode cX2_cut 212 = .ok (.iconst 2, 1) := dk_5 (dk_at dksX2_cut_8 23 rfl rfl)
theorem dX2_cut_213 : decode cX2_cut 213 = .ok (.iastore, 1) := dk_79 (dk_at dksX2_cut_9 0 rfl rfl)
theorem dX2_cut_214 : decode cX2_cut 214 = .ok (.goto 32, 3) := dk_167 0 32 (dk_at dksX2_cut_9 1 rfl rfl)
theorem dX2_cut_217 : decode cX2_cut 217 = .ok (.iload 4, 2) := dk_21 4 (dk_at dksX2_cut_9 4 rfl rfl)
theorem dX2_cut_219 : decode cX2_cut 219 = .ok (.i2l, 1) := dk_133 (dk_at dksX2_cut_9 6 rfl rfl)
theorem dX2_cut_220 : decode cX2_cut 220 = .ok (.lstore 6, 2) := dk_55 6 (dk_at dksX2_cut_9 7 rfl rfl)
theorem dX2_cut_222 : decode cX2_cut 222 = .ok (.iinc 3 1, 3) := dk_132 3 1 (dk_at dksX2_cut_9 9 rfl rfl)
theorem dX2_cut_225 : decode cX2_cut 225 = .ok (.aload_n 0, 1) := dk_42 (dk_at dksX2_cut_9 12 rfl rfl)
theorem dX2_cut_226 : decode cX2_cut 226 = .ok (.getfield 81, 3) := dk_180 0 81 (dk_at dksX2_cut_9 13 rfl rfl)
theorem dX2_cut_229 : decode cX2_cut 229 = .ok (.iload_n 2, 1) := dk_28 (dk_at dksX2_cut_9 16 rfl rfl)
theorem dX2_cut_230 : decode cX2_cut 230 = .ok (.ldc 124, 2) := dk_18 124 (dk_at dksX2_cut_9 17 rfl rfl)
theorem dX2_cut_232 : decode cX2_cut 232 = .ok (.iload 4, 2) := dk_21 4 (dk_at dksX2_cut_9 19 rfl rfl)
theorem dX2_cut_234 : decode cX2_cut 234 = .ok (.invokevirtual 126, 3) := dk_182 0 126 (dk_at dksX2_cut_9 21 rfl rfl)
theorem dX2_cut_237 : decode cX2_cut 237 = .ok (.ifCond .lt 7, 3) := dk_155 0 7 (dk_at dksX2_cut_10 0 rfl rfl)
theorem dX2_cut_240 : decode cX2_cut 240 = .ok (.iconst 3, 1) := dk_6 (dk_at dksX2_cut_10 3 rfl rfl)
theorem dX2_cut_241 : decode cX2_cut 241 = .ok (.goto 4, 3) := dk_167 0 4 (dk_at dksX2_cut_10 4 rfl rfl)
theorem dX2_cut_244 : decode cX2_cut 244 = .ok (.iconst 4, 1) := dk_7 (dk_at dksX2_cut_10 7 rfl rfl)
theorem dX2_cut_245 : decode cX2_cut 245 = .ok (.iastore, 1) := dk_79 (dk_at dksX2_cut_10 8 rfl rfl)
theorem dX2_cut_246 : decode cX2_cut 246 = .ok (.aload_n 0, 1) := dk_42 (dk_at dksX2_cut_10 9 rfl rfl)
theorem dX2_cut_247 : decode cX2_cut 247 = .ok (.getfield 84, 3) := dk_180 0 84 (dk_at dksX2_cut_10 10 rfl rfl)
theorem dX2_cut_250 : decode cX2_cut 250 = .ok (.iload_n 2, 1) := dk_28 (dk_at dksX2_cut_10 13 rfl rfl)
theorem dX2_cut_251 : decode cX2_cut 251 = .ok (.lload 6, 2) := dk_22 6 (dk_at dksX2_cut_10 14 rfl rfl)
theorem dX2_cut_253 : decode cX2_cut 253 = .ok (.lastore, 1) := dk_80 (dk_at dksX2_cut_10 16 rfl rfl)
theorem dX2_cut_254 : decode cX2_cut 254 = .ok (.aload_n 0, 1) := dk_42 (dk_at dksX2_cut_10 17 rfl rfl)
theorem dX2_cut_255 : decode cX2_cut 255 = .ok (.getfield 88, 3) := dk_180 0 88 (dk_at dksX2_cut_10 18 rfl rfl)
theorem dX2_cut_258 : decode cX2_cut 258 = .ok (.iload_n 2, 1) := dk_28 (dk_at dksX2_cut_10 21 rfl rfl)
theorem dX2_cut_259 : decode cX2_cut 259 = .ok (.iload 5, 2) := dk_21 5 (dk_at dksX2_cut_10 22 rfl rfl)
theorem dX2_cut_261 : decode cX2_cut 261 = .ok (.iastore, 1) := dk_79 (dk_at dksX2_cut_11 0 rfl rfl)
theorem dX2_cut_262 : decode cX2_cut 262 = .ok (.iinc 2 1, 3) := dk_132 2 1 (dk_at dksX2_cut_11 1 rfl rfl)
theorem dX2_cut_265 : decode cX2_cut 265 = .ok (.goto (-251), 3) := dk_167 255 5 (dk_at dksX2_cut_11 4 rfl rfl)
theorem dX2_cut_268 : decode cX2_cut 268 = .ok (.aload_n 0, 1) := dk_42 (dk_at dksX2_cut_11 7 rfl rfl)
theorem dX2_cut_269 : decode cX2_cut 269 = .ok (.getfield 81, 3) := dk_180 0 81 (dk_at dksX2_cut_11 8 rfl rfl)
theorem dX2_cut_272 : decode cX2_cut 272 = .ok (.iload_n 2, 1) := dk_28 (dk_at dksX2_cut_11 11 rfl rfl)
theorem dX2_cut_273 : decode cX2_cut 273 = .ok (.iconst 0, 1) := dk_3 (dk_at dksX2_cut_11 12 rfl rfl)
theorem dX2_cut_274 : decode cX2_cut 274 = .ok (.iastore, 1) := dk_79 (dk_at dksX2_cut_11 13 rfl rfl)
theorem dX2_cut_275 : decode cX2_cut 275 = .ok (.aload_n 0, 1) := dk_42 (dk_at dksX2_cut_11 14 rfl rfl)
theorem dX2_cut_276 : decode cX2_cut 276 = .ok (.getfield 88, 3) := dk_180 0 88 (dk_at dksX2_cut_11 15 rfl rfl)
theorem dX2_cut_279 : decode cX2_cut 279 = .ok (.iload_n 2, 1) := dk_28 (dk_at dksX2_cut_11 18 rfl rfl)
theorem dX2_cut_280 : decode cX2_cut 280 = .ok (.iload_n 1, 1) := dk_27 (dk_at dksX2_cut_11 19 rfl rfl)
theorem dX2_cut_281 : decode cX2_cut 281 = .ok (.iastore, 1) := dk_79 (dk_at dksX2_cut_11 20 rfl rfl)
theorem dX2_cut_282 : decode cX2_cut 282 = .ok (.aload_n 0, 1) := dk_42 (dk_at dksX2_cut_11 21 rfl rfl)
theorem dX2_cut_283 : decode cX2_cut 283 = .ok (.iconst 0, 1) := dk_3 (dk_at dksX2_cut_11 22 rfl rfl)
theorem dX2_cut_284 : decode cX2_cut 284 = .ok (.putfield 130, 3) := dk_181 0 130 (dk_at dksX2_cut_12 0 rfl rfl)
theorem dX2_cut_287 : decode cX2_cut 287 = .ok (.return_, 1) := dk_177 (dk_at dksX2_cut_12 3 rfl rfl)
abbrev cX2_word : ByteArray := prog_20_method_3_code
abbrev yX2_word : MethodName := { cls := "WornSkin$Reader", name := "word", desc := "(Ljava/lang/String;)J" }
def dkwX2_word_1 : List UInt8 := [20, 0, 111, 101, 64, 132, 3, 1, 167, 255, 228, 31, 173]
abbrev dktX2_word_1 : List UInt8 := dkwX2_word_1 ++ []
def dkwX2_word_0 : List UInt8 := [9, 64, 3, 62, 29, 42, 182, 0, 101, 162, 0, 26, 20, 0, 105, 31, 105, 42, 29, 182, 0, 107, 133, 97]
abbrev dktX2_word_0 : List UInt8 := dkwX2_word_0 ++ dktX2_word_1
theorem dksX2_word_0 : cX2_word.data.toList.drop 0 = dktX2_word_0 := by decide +kernel
theorem dksX2_word_1 : cX2_word.data.toList.drop 24 = dktX2_word_1 := dk_seg dksX2_word_0 24 rfl rfl
theorem dX2_word_0 : decode cX2_word 0 = .ok (.lconst 0, 1) := dk_9 (dk_at dksX2_word_0 0 rfl rfl)
theorem dX2_word_1 : decode cX2_word 1 = .ok (.lstore_n 1, 1) := dk_64 (dk_at dksX2_word_0 1 rfl rfl)
theorem dX2_word_2 : decode cX2_word 2 = .ok (.iconst 0, 1) := dk_3 (dk_at dksX2_word_0 2 rfl rfl)
theorem dX2_word_3 : decode cX2_word 3 = .ok (.istore_n 3, 1) := dk_62 (dk_at dksX2_word_0 3 rfl rfl)
theorem dX2_word_4 : decode cX2_word 4 = .ok (.iload_n 3, 1) := dk_29 (dk_at dksX2_word_0 4 rfl rfl)
theorem dX2_word_5 : decode cX2_word 5 = .ok (.aload_n 0, 1) := dk_42 (dk_at dksX2_word_0 5 rfl rfl)
theorem dX2_word_6 : decode cX2_word 6 = .ok (.invokevirtual 101, 3) := dk_182 0 101 (dk_at dksX2_word_0 6 rfl rfl)
theorem dX2_word_9 : decode cX2_word 9 = .ok (.if_icmp .ge 26, 3) := dk_162 0 26 (dk_at dksX2_word_0 9 rfl rfl)
theorem dX2_word_12 : decode cX2_word 12 = .ok (.ldc2_w 105, 3) := dk_20 0 105 (dk_at dksX2_word_0 12 rfl rfl)
theorem dX2_word_15 : decode cX2_word 15 = .ok (.lload_n 1, 1) := dk_31 (dk_at dksX2_word_0 15 rfl rfl)
theorem dX2_word_16 : decode cX2_word 16 = .ok (.lmul, 1) := dk_105 (dk_at dksX2_word_0 16 rfl rfl)
theorem dX2_word_17 : decode cX2_word 17 = .ok (.aload_n 0, 1) := dk_42 (dk_at dksX2_word_0 17 rfl rfl)
theorem dX2_word_18 : decode cX2_word 18 = .ok (.iload_n 3, 1) := dk_29 (dk_at dksX2_word_0 18 rfl rfl)
theorem dX2_word_19 : decode cX2_word 19 = .ok (.invokevirtual 107, 3) := dk_182 0 107 (dk_at dksX2_word_0 19 rfl rfl)
theorem dX2_word_22 : decode cX2_word 22 = .ok (.i2l, 1) := dk_133 (dk_at dksX2_word_0 22 rfl rfl)
theorem dX2_word_23 : decode cX2_word 23 = .ok (.ladd, 1) := dk_97 (dk_at dksX2_word_0 23 rfl rfl)
theorem dX2_word_24 : decode cX2_word 24 = .ok (.ldc2_w 111, 3) := dk_20 0 111 (dk_at dksX2_word_1 0 rfl rfl)
theorem dX2_word_27 : decode cX2_word 27 = .ok (.lsub, 1) := dk_101 (dk_at dksX2_word_1 3 rfl rfl)
theorem dX2_word_28 : decode cX2_word 28 = .ok (.lstore_n 1, 1) := dk_64 (dk_at dksX2_word_1 4 rfl rfl)
theorem dX2_word_29 : decode cX2_word 29 = .ok (.iinc 3 1, 3) := dk_132 3 1 (dk_at dksX2_word_1 5 rfl rfl)
theorem dX2_word_32 : decode cX2_word 32 = .ok (.goto (-28), 3) := dk_167 255 228 (dk_at dksX2_word_1 8 rfl rfl)
theorem dX2_word_35 : decode cX2_word 35 = .ok (.lload_n 1, 1) := dk_31 (dk_at dksX2_word_1 11 rfl rfl)
theorem dX2_word_36 : decode cX2_word 36 = .ok (.lreturn, 1) := dk_173 (dk_at dksX2_word_1 12 rfl rfl)
abbrev cX2_isWord : ByteArray := prog_20_method_8_code
abbrev yX2_isWord : MethodName := { cls := "WornSkin$Reader", name := "isWord", desc := "(Ljava/lang/String;)Z" }
def dkwX2_isWord_1 : List UInt8 := [184, 0, 138, 148, 154, 0, 7, 4, 167, 0, 4, 3, 172]
abbrev dktX2_isWord_1 : List UInt8 := dkwX2_isWord_1 ++ []
def dkwX2_isWord_0 : List UInt8 := [42, 180, 0, 81, 42, 180, 0, 130, 46, 4, 160, 0, 24, 42, 180, 0, 84, 42, 180, 0, 130, 47, 43]
abbrev dktX2_isWord_0 : List UInt8 := dkwX2_isWord_0 ++ dktX2_isWord_1
theorem dksX2_isWord_0 : cX2_isWord.data.toList.drop 0 = dktX2_isWord_0 := by decide +kernel
theorem dksX2_isWord_1 : cX2_isWord.data.toList.drop 23 = dktX2_isWord_1 := dk_seg dksX2_isWord_0 23 rfl rfl
theorem dX2_isWord_0 : decode cX2_isWord 0 = .ok (.aload_n 0, 1) := dk_42 (dk_at dksX2_isWord_0 0 rfl rfl)
theorem dX2_isWord_1 : decode cX2_isWord 1 = .ok (.getfield 81, 3) := dk_180 0 81 (dk_at dksX2_isWord_0 1 rfl rfl)
theorem dX2_isWord_4 : decode cX2_isWord 4 = .ok (.aload_n 0, 1) := dk_42 (dk_at dksX2_isWord_0 4 rfl rfl)
theorem dX2_isWord_5 : decode cX2_isWord 5 = .ok (.getfield 130, 3) := dk_180 0 130 (dk_at dksX2_isWord_0 5 rfl rfl)
theorem dX2_isWord_8 : decode cX2_isWord 8 = .ok (.iaload, 1) := dk_46 (dk_at dksX2_isWord_0 8 rfl rfl)
theorem dX2_isWord_9 : decode cX2_isWord 9 = .ok (.iconst 1, 1) := dk_4 (dk_at dksX2_isWord_0 9 rfl rfl)
theorem dX2_isWord_10 : decode cX2_isWord 10 = .ok (.if_icmp .ne 24, 3) := dk_160 0 24 (dk_at dksX2_isWord_0 10 rfl rfl)
theorem dX2_isWord_13 : decode cX2_isWord 13 = .ok (.aload_n 0, 1) := dk_42 (dk_at dksX2_isWord_0 13 rfl rfl)
theorem dX2_isWord_14 : decode cX2_isWord 14 = .ok (.getfield 84, 3) := dk_180 0 84 (dk_at dksX2_isWord_0 14 rfl rfl)
theorem dX2_isWord_17 : decode cX2_isWord 17 = .ok (.aload_n 0, 1) := dk_42 (dk_at dksX2_isWord_0 17 rfl rfl)
theorem dX2_isWord_18 : decode cX2_isWord 18 = .ok (.getfield 130, 3) := dk_180 0 130 (dk_at dksX2_isWord_0 18 rfl rfl)
theorem dX2_isWord_21 : decode cX2_isWord 21 = .ok (.laload, 1) := dk_47 (dk_at dksX2_isWord_0 21 rfl rfl)
theorem dX2_isWord_22 : decode cX2_isWord 22 = .ok (.aload_n 1, 1) := dk_43 (dk_at dksX2_isWord_0 22 rfl rfl)
theorem dX2_isWord_23 : decode cX2_isWord 23 = .ok (.invokestatic 138, 3) := dk_184 0 138 (dk_at dksX2_isWord_1 0 rfl rfl)
theorem dX2_isWord_26 : decode cX2_isWord 26 = .ok (.lcmp, 1) := dk_148 (dk_at dksX2_isWord_1 3 rfl rfl)
theorem dX2_isWord_27 : decode cX2_isWord 27 = .ok (.ifCond .ne 7, 3) := dk_154 0 7 (dk_at dksX2_isWord_1 4 rfl rfl)
theorem dX2_isWord_30 : decode cX2_isWord 30 = .ok (.iconst 1, 1) := dk_4 (dk_at dksX2_isWord_1 7 rfl rfl)
theorem dX2_isWord_31 : decode cX2_isWord 31 = .ok (.goto 4, 3) := dk_167 0 4 (dk_at dksX2_isWord_1 8 rfl rfl)
theorem dX2_isWord_34 : decode cX2_isWord 34 = .ok (.iconst 0, 1) := dk_3 (dk_at dksX2_isWord_1 11 rfl rfl)
theorem dX2_isWord_35 : decode cX2_isWord 35 = .ok (.ireturn, 1) := dk_172 (dk_at dksX2_isWord_1 12 rfl rfl)
abbrev cX2_wrong : ByteArray := prog_20_method_7_code
abbrev yX2_wrong : MethodName := { cls := "WornSkin$Reader", name := "wrong", desc := "(I)LWornSkin$Wrong;" }
def dkwX2_wrong_0 : List UInt8 := [187, 0, 133, 89, 27, 16, 16, 42, 180, 0, 88, 42, 180, 0, 130, 46, 104, 96, 183, 0, 135, 176]
abbrev dktX2_wrong_0 : List UInt8 := dkwX2_wrong_0 ++ []
theorem dksX2_wrong_0 : cX2_wrong.data.toList.drop 0 = dktX2_wrong_0 := by decide +kernel
theorem dX2_wrong_0 : decode cX2_wrong 0 = .ok (.new 133, 3) := dk_187 0 133 (dk_at dksX2_wrong_0 0 rfl rfl)
theorem dX2_wrong_3 : decode cX2_wrong 3 = .ok (.dup, 1) := dk_89 (dk_at dksX2_wrong_0 3 rfl rfl)
theorem dX2_wrong_4 : decode cX2_wrong 4 = .ok (.iload_n 1, 1) := dk_27 (dk_at dksX2_wrong_0 4 rfl rfl)
theorem dX2_wrong_5 : decode cX2_wrong 5 = .ok (.bipush 16, 2) := dk_16 16 (dk_at dksX2_wrong_0 5 rfl rfl)
theorem dX2_wrong_7 : decode cX2_wrong 7 = .ok (.aload_n 0, 1) := dk_42 (dk_at dksX2_wrong_0 7 rfl rfl)
theorem dX2_wrong_8 : decode cX2_wrong 8 = .ok (.getfield 88, 3) := dk_180 0 88 (dk_at dksX2_wrong_0 8 rfl rfl)
theorem dX2_wrong_11 : decode cX2_wrong 11 = .ok (.aload_n 0, 1) := dk_42 (dk_at dksX2_wrong_0 11 rfl rfl)
theorem dX2_wrong_12 : decode cX2_wrong 12 = .ok (.getfield 130, 3) := dk_180 0 130 (dk_at dksX2_wrong_0 12 rfl rfl)
theorem dX2_wrong_15 : decode cX2_wrong 15 = .ok (.iaload, 1) := dk_46 (dk_at dksX2_wrong_0 15 rfl rfl)
theorem dX2_wrong_16 : decode cX2_wrong 16 = .ok (.imul, 1) := dk_104 (dk_at dksX2_wrong_0 16 rfl rfl)
theorem dX2_wrong_17 : decode cX2_wrong 17 = .ok (.iadd, 1) := dk_96 (dk_at dksX2_wrong_0 17 rfl rfl)
theorem dX2_wrong_18 : decode cX2_wrong 18 = .ok (.invokespecial 135, 3) := dk_183 0 135 (dk_at dksX2_wrong_0 18 rfl rfl)
theorem dX2_wrong_21 : decode cX2_wrong 21 = .ok (.areturn, 1) := dk_176 (dk_at dksX2_wrong_0 21 rfl rfl)
abbrev cX2_which : ByteArray := prog_20_method_10_code
abbrev yX2_which : MethodName := { cls := "WornSkin$Reader", name := "which", desc := "([Ljava/lang/String;)I" }
def dkwX2_which_1 : List UInt8 := [167, 255, 235, 2, 172]
abbrev dktX2_which_1 : List UInt8 := dkwX2_which_1 ++ []
def dkwX2_which_0 : List UInt8 := [3, 61, 28, 43, 190, 162, 0, 21, 42, 43, 28, 50, 182, 0, 142, 153, 0, 5, 28, 172, 132, 2, 1]
abbrev dktX2_which_0 : List UInt8 := dkwX2_which_0 ++ dktX2_which_1
theorem dksX2_which_0 : cX2_which.data.toList.drop 0 = dktX2_which_0 := by decide +kernel
theorem dksX2_which_1 : cX2_which.data.toList.drop 23 = dktX2_which_1 := dk_seg dksX2_which_0 23 rfl rfl
theorem dX2_which_0 : decode cX2_which 0 = .ok (.iconst 0, 1) := dk_3 (dk_at dksX2_which_0 0 rfl rfl)
theorem dX2_which_1 : decode cX2_which 1 = .ok (.istore_n 2, 1) := dk_61 (dk_at dksX2_which_0 1 rfl rfl)
theorem dX2_which_2 : decode cX2_which 2 = .ok (.iload_n 2, 1) := dk_28 (dk_at dksX2_which_0 2 rfl rfl)
theorem dX2_which_3 : decode cX2_which 3 = .ok (.aload_n 1, 1) := dk_43 (dk_at dksX2_which_0 3 rfl rfl)
theorem dX2_which_4 : decode cX2_which 4 = .ok (.arraylength, 1) := dk_190 (dk_at dksX2_which_0 4 rfl rfl)
theorem dX2_which_5 : decode cX2_which 5 = .ok (.if_icmp .ge 21, 3) := dk_162 0 21 (dk_at dksX2_which_0 5 rfl rfl)
theorem dX2_which_8 : decode cX2_which 8 = .ok (.aload_n 0, 1) := dk_42 (dk_at dksX2_which_0 8 rfl rfl)
theorem dX2_which_9 : decode cX2_which 9 = .ok (.aload_n 1, 1) := dk_43 (dk_at dksX2_which_0 9 rfl rfl)
theorem dX2_which_10 : decode cX2_which 10 = .ok (.iload_n 2, 1) := dk_28 (dk_at dksX2_which_0 10 rfl rfl)
theorem dX2_which_11 : decode cX2_which 11 = .ok (.aaload, 1) := dk_50 (dk_at dksX2_which_0 11 rfl rfl)
theorem dX2_which_12 : decode cX2_which 12 = .ok (.invokevirtual 142, 3) := dk_182 0 142 (dk_at dksX2_which_0 12 rfl rfl)
theorem dX2_which_15 : decode cX2_which 15 = .ok (.ifCond .eq 5, 3) := dk_153 0 5 (dk_at dksX2_which_0 15 rfl rfl)
theorem dX2_which_18 : decode cX2_which 18 = .ok (.iload_n 2, 1) := dk_28 (dk_at dksX2_which_0 18 rfl rfl)
theorem dX2_which_19 : decode cX2_which 19 = .ok (.ireturn, 1) := dk_172 (dk_at dksX2_which_0 19 rfl rfl)
theorem dX2_which_20 : decode cX2_which 20 = .ok (.iinc 2 1, 3) := dk_132 2 1 (dk_at dksX2_which_0 20 rfl rfl)
theorem dX2_which_23 : decode cX2_which 23 = .ok (.goto (-21), 3) := dk_167 255 235 (dk_at dksX2_which_1 0 rfl rfl)
theorem dX2_which_26 : decode cX2_which 26 = .ok (.iconst (-1), 1) := dk_2 (dk_at dksX2_which_1 3 rfl rfl)
theorem dX2_which_27 : decode cX2_which 27 = .ok (.ireturn, 1) := dk_172 (dk_at dksX2_which_1 4 rfl rfl)
abbrev cX2_isName : ByteArray := prog_20_method_15_code
abbrev yX2_isName : MethodName := { cls := "WornSkin$Reader", name := "isName", desc := "()Z" }
def dkwX2_isName_1 : List UInt8 := [160, 0, 19, 42, 42, 180, 0, 33, 182, 0, 156, 2, 160, 0, 7, 4, 167, 0, 4, 3, 172]
abbrev dktX2_isName_1 : List UInt8 := dkwX2_isName_1 ++ []
def dkwX2_isName_0 : List UInt8 := [42, 180, 0, 81, 42, 180, 0, 130, 46, 4, 160, 0, 31, 42, 42, 180, 0, 68, 182, 0, 156, 2]
abbrev dktX2_isName_0 : List UInt8 := dkwX2_isName_0 ++ dktX2_isName_1
theorem dksX2_isName_0 : cX2_isName.data.toList.drop 0 = dktX2_isName_0 := by decide +kernel
theorem dksX2_isName_1 : cX2_isName.data.toList.drop 22 = dktX2_isName_1 := dk_seg dksX2_isName_0 22 rfl rfl
theorem dX2_isName_0 : decode cX2_isName 0 = .ok (.aload_n 0, 1) := dk_42 (dk_at dksX2_isName_0 0 rfl rfl)
theorem dX2_isName_1 : decode cX2_isName 1 = .ok (.getfield 81, 3) := dk_180 0 81 (dk_at dksX2_isName_0 1 rfl rfl)
theorem dX2_isName_4 : decode cX2_isName 4 = .ok (.aload_n 0, 1) := dk_42 (dk_at dksX2_isName_0 4 rfl rfl)
theorem dX2_isName_5 : decode cX2_isName 5 = .ok (.getfield 130, 3) := dk_180 0 130 (dk_at dksX2_isName_0 5 rfl rfl)
theorem dX2_isName_8 : decode cX2_isName 8 = .ok (.iaload, 1) := dk_46 (dk_at dksX2_isName_0 8 rfl rfl)
theorem dX2_isName_9 : decode cX2_isName 9 = .ok (.iconst 1, 1) := dk_4 (dk_at dksX2_isName_0 9 rfl rfl)
theorem dX2_isName_10 : decode cX2_isName 10 = .ok (.if_icmp .ne 31, 3) := dk_160 0 31 (dk_at dksX2_isName_0 10 rfl rfl)
theorem dX2_isName_13 : decode cX2_isName 13 = .ok (.aload_n 0, 1) := dk_42 (dk_at dksX2_isName_0 13 rfl rfl)
theorem dX2_isName_14 : decode cX2_isName 14 = .ok (.aload_n 0, 1) := dk_42 (dk_at dksX2_isName_0 14 rfl rfl)
theorem dX2_isName_15 : decode cX2_isName 15 = .ok (.getfield 68, 3) := dk_180 0 68 (dk_at dksX2_isName_0 15 rfl rfl)
theorem dX2_isName_18 : decode cX2_isName 18 = .ok (.invokevirtual 156, 3) := dk_182 0 156 (dk_at dksX2_isName_0 18 rfl rfl)
theorem dX2_isName_21 : decode cX2_isName 21 = .ok (.iconst (-1), 1) := dk_2 (dk_at dksX2_isName_0 21 rfl rfl)
theorem dX2_isName_22 : decode cX2_isName 22 = .ok (.if_icmp .ne 19, 3) := dk_160 0 19 (dk_at dksX2_isName_1 0 rfl rfl)
theorem dX2_isName_25 : decode cX2_isName 25 = .ok (.aload_n 0, 1) := dk_42 (dk_at dksX2_isName_1 3 rfl rfl)
theorem dX2_isName_26 : decode cX2_isName 26 = .ok (.aload_n 0, 1) := dk_42 (dk_at dksX2_isName_1 4 rfl rfl)
theorem dX2_isName_27 : decode cX2_isName 27 = .ok (.getfield 33, 3) := dk_180 0 33 (dk_at dksX2_isName_1 5 rfl rfl)
theorem dX2_isName_30 : decode cX2_isName 30 = .ok (.invokevirtual 156, 3) := dk_182 0 156 (dk_at dksX2_isName_1 8 rfl rfl)
theorem dX2_isName_33 : decode cX2_isName 33 = .ok (.iconst (-1), 1) := dk_2 (dk_at dksX2_isName_1 11 rfl rfl)
theorem dX2_isName_34 : decode cX2_isName 34 = .ok (.if_icmp .ne 7, 3) := dk_160 0 7 (dk_at dksX2_isName_1 12 rfl rfl)
theorem dX2_isName_37 : decode cX2_isName 37 = .ok (.iconst 1, 1) := dk_4 (dk_at dksX2_isName_1 15 rfl rfl)
theorem dX2_isName_38 : decode cX2_isName 38 = .ok (.goto 4, 3) := dk_167 0 4 (dk_at dksX2_isName_1 16 rfl rfl)
theorem dX2_isName_41 : decode cX2_isName 41 = .ok (.iconst 0, 1) := dk_3 (dk_at dksX2_isName_1 19 rfl rfl)
theorem dX2_isName_42 : decode cX2_isName 42 = .ok (.ireturn, 1) := dk_172 (dk_at dksX2_isName_1 20 rfl rfl)
abbrev cX2_newName : ByteArray := prog_20_method_18_code
abbrev yX2_newName : MethodName := { cls := "WornSkin$Reader", name := "newName", desc := "(ZI)V" }
def dkwX2_newName_4 : List UInt8 := [182, 0, 209, 87, 42, 89, 180, 0, 130, 4, 96, 181, 0, 130, 177]
abbrev dktX2_newName_4 : List UInt8 := dkwX2_newName_4 ++ []
def dkwX2_newName_3 : List UInt8 := [42, 180, 0, 130, 47, 184, 0, 203, 182, 0, 209, 87, 42, 180, 0, 166, 180, 0, 215, 28, 184, 0, 218]
abbrev dktX2_newName_3 : List UInt8 := dkwX2_newName_3 ++ dktX2_newName_4
def dkwX2_newName_2 : List UInt8 := [182, 0, 195, 2, 159, 0, 9, 42, 6, 182, 0, 152, 191, 42, 180, 0, 166, 180, 0, 199, 42, 180, 0, 84]
abbrev dktX2_newName_2 : List UInt8 := dkwX2_newName_2 ++ dktX2_newName_3
def dkwX2_newName_1 : List UInt8 := [154, 0, 9, 42, 4, 182, 0, 152, 191, 42, 180, 0, 166, 42, 180, 0, 84, 42, 180, 0, 130, 47]
abbrev dktX2_newName_1 : List UInt8 := dkwX2_newName_1 ++ dktX2_newName_2
def dkwX2_newName_0 : List UInt8 := [27, 153, 0, 9, 42, 8, 182, 0, 152, 191, 42, 89, 180, 0, 130, 4, 96, 181, 0, 130, 42, 182, 0, 191]
abbrev dktX2_newName_0 : List UInt8 := dkwX2_newName_0 ++ dktX2_newName_1
theorem dksX2_newName_0 : cX2_newName.data.toList.drop 0 = dktX2_newName_0 := by decide +kernel
theorem dksX2_newName_1 : cX2_newName.data.toList.drop 24 = dktX2_newName_1 := dk_seg dksX2_newName_0 24 rfl rfl
theorem dksX2_newName_2 : cX2_newName.data.toList.drop 46 = dktX2_newName_2 := dk_seg dksX2_newName_1 22 rfl rfl
theorem dksX2_newName_3 : cX2_newName.data.toList.drop 70 = dktX2_newName_3 := dk_seg dksX2_newName_2 24 rfl rfl
theorem dksX2_newName_4 : cX2_newName.data.toList.drop 93 = dktX2_newName_4 := dk_seg dksX2_newName_3 23 rfl rfl
theorem dX2_newName_0 : decode cX2_newName 0 = .ok (.iload_n 1, 1) := dk_27 (dk_at dksX2_newName_0 0 rfl rfl)
theorem dX2_newName_1 : decode cX2_newName 1 = .ok (.ifCond .eq 9, 3) := dk_153 0 9 (dk_at dksX2_newName_0 1 rfl rfl)
theorem dX2_newName_4 : decode cX2_newName 4 = .ok (.aload_n 0, 1) := dk_42 (dk_at dksX2_newName_0 4 rfl rfl)
theorem dX2_newName_5 : decode cX2_newName 5 = .ok (.iconst 5, 1) := dk_8 (dk_at dksX2_newName_0 5 rfl rfl)
theorem dX2_newName_6 : decode cX2_newName 6 = .ok (.invokevirtual 152, 3) := dk_182 0 152 (dk_at dksX2_newName_0 6 rfl rfl)
theorem dX2_newName_9 : decode cX2_newName 9 = .ok (.athrow, 1) := dk_191 (dk_at dksX2_newName_0 9 rfl rfl)
theorem dX2_newName_10 : decode cX2_newName 10 = .ok (.aload_n 0, 1) := dk_42 (dk_at dksX2_newName_0 10 rfl rfl)
theorem dX2_newName_11 : decode cX2_newName 11 = .ok (.dup, 1) := dk_89 (dk_at dksX2_newName_0 11 rfl rfl)
theorem dX2_newName_12 : decode cX2_newName 12 = .ok (.getfield 130, 3) := dk_180 0 130 (dk_at dksX2_newName_0 12 rfl rfl)
theorem dX2_newName_15 : decode cX2_newName 15 = .ok (.iconst 1, 1) := dk_4 (dk_at dksX2_newName_0 15 rfl rfl)
theorem dX2_newName_16 : decode cX2_newName 16 = .ok (.iadd, 1) := dk_96 (dk_at dksX2_newName_0 16 rfl rfl)
theorem dX2_newName_17 : decode cX2_newName 17 = .ok (.putfield 130, 3) := dk_181 0 130 (dk_at dksX2_newName_0 17 rfl rfl)
theorem dX2_newName_20 : decode cX2_newName 20 = .ok (.aload_n 0, 1) := dk_42 (dk_at dksX2_newName_0 20 rfl rfl)
theorem dX2_newName_21 : decode cX2_newName 21 = .ok (.invokevirtual 191, 3) := dk_182 0 191 (dk_at dksX2_newName_0 21 rfl rfl)
theorem dX2_newName_24 : decode cX2_newName 24 = .ok (.ifCond .ne 9, 3) := dk_154 0 9 (dk_at dksX2_newName_1 0 rfl rfl)
theorem dX2_newName_27 : decode cX2_newName 27 = .ok (.aload_n 0, 1) := dk_42 (dk_at dksX2_newName_1 3 rfl rfl)
theorem dX2_newName_28 : decode cX2_newName 28 = .ok (.iconst 1, 1) := dk_4 (dk_at dksX2_newName_1 4 rfl rfl)
theorem dX2_newName_29 : decode cX2_newName 29 = .ok (.invokevirtual 152, 3) := dk_182 0 152 (dk_at dksX2_newName_1 5 rfl rfl)
theorem dX2_newName_32 : decode cX2_newName 32 = .ok (.athrow, 1) := dk_191 (dk_at dksX2_newName_1 8 rfl rfl)
theorem dX2_newName_33 : decode cX2_newName 33 = .ok (.aload_n 0, 1) := dk_42 (dk_at dksX2_newName_1 9 rfl rfl)
theorem dX2_newName_34 : decode cX2_newName 34 = .ok (.getfield 166, 3) := dk_180 0 166 (dk_at dksX2_newName_1 10 rfl rfl)
theorem dX2_newName_37 : decode cX2_newName 37 = .ok (.aload_n 0, 1) := dk_42 (dk_at dksX2_newName_1 13 rfl rfl)
theorem dX2_newName_38 : decode cX2_newName 38 = .ok (.getfield 84, 3) := dk_180 0 84 (dk_at dksX2_newName_1 14 rfl rfl)
theorem dX2_newName_41 : decode cX2_newName 41 = .ok (.aload_n 0, 1) := dk_42 (dk_at dksX2_newName_1 17 rfl rfl)
theorem dX2_newName_42 : decode cX2_newName 42 = .ok (.getfield 130, 3) := dk_180 0 130 (dk_at dksX2_newName_1 18 rfl rfl)
theorem dX2_newName_45 : decode cX2_newName 45 = .ok (.laload, 1) := dk_47 (dk_at dksX2_newName_1 21 rfl rfl)
theorem dX2_newName_46 : decode cX2_newName 46 = .ok (.invokevirtual 195, 3) := dk_182 0 195 (dk_at dksX2_newName_2 0 rfl rfl)
theorem dX2_newName_49 : decode cX2_newName 49 = .ok (.iconst (-1), 1) := dk_2 (dk_at dksX2_newName_2 3 rfl rfl)
theorem dX2_newName_50 : decode cX2_newName 50 = .ok (.if_icmp .eq 9, 3) := dk_159 0 9 (dk_at dksX2_newName_2 4 rfl rfl)
theorem dX2_newName_53 : decode cX2_newName 53 = .ok (.aload_n 0, 1) := dk_42 (dk_at dksX2_newName_2 7 rfl rfl)
theorem dX2_newName_54 : decode cX2_newName 54 = .ok (.iconst 3, 1) := dk_6 (dk_at dksX2_newName_2 8 rfl rfl)
theorem dX2_newName_55 : decode cX2_newName 55 = .ok (.invokevirtual 152, 3) := dk_182 0 152 (dk_at dksX2_newName_2 9 rfl rfl)
theorem dX2_newName_58 : decode cX2_newName 58 = .ok (.athrow, 1) := dk_191 (dk_at dksX2_newName_2 12 rfl rfl)
theorem dX2_newName_59 : decode cX2_newName 59 = .ok (.aload_n 0, 1) := dk_42 (dk_at dksX2_newName_2 13 rfl rfl)
theorem dX2_newName_60 : decode cX2_newName 60 = .ok (.getfield 166, 3) := dk_180 0 166 (dk_at dksX2_newName_2 14 rfl rfl)
theorem dX2_newName_63 : decode cX2_newName 63 = .ok (.getfield 199, 3) := dk_180 0 199 (dk_at dksX2_newName_2 17 rfl rfl)
theorem dX2_newName_66 : decode cX2_newName 66 = .ok (.aload_n 0, 1) := dk_42 (dk_at dksX2_newName_2 20 rfl rfl)
theorem dX2_newName_67 : decode cX2_newName 67 = .ok (.getfield 84, 3) := dk_180 0 84 (dk_at dksX2_newName_2 21 rfl rfl)
theorem dX2_newName_70 : decode cX2_newName 70 = .ok (.aload_n 0, 1) := dk_42 (dk_at dksX2_newName_3 0 rfl rfl)
theorem dX2_newName_71 : decode cX2_newName 71 = .ok (.getfield 130, 3) := dk_180 0 130 (dk_at dksX2_newName_3 1 rfl rfl)
theorem dX2_newName_74 : decode cX2_newName 74 = .ok (.laload, 1) := dk_47 (dk_at dksX2_newName_3 4 rfl rfl)
theorem dX2_newName_75 : decode cX2_newName 75 = .ok (.invokestatic 203, 3) := dk_184 0 203 (dk_at dksX2_newName_3 5 rfl rfl)
theorem dX2_newName_78 : decode cX2_newName 78 = .ok (.invokevirtual 209, 3) := dk_182 0 209 (dk_at dksX2_newName_3 8 rfl rfl)
theorem dX2_newName_81 : decode cX2_newName 81 = .ok (.pop, 1) := dk_87 (dk_at dksX2_newName_3 11 rfl rfl)
theorem dX2_newName_82 : decode cX2_newName 82 = .ok (.aload_n 0, 1) := dk_42 (dk_at dksX2_newName_3 12 rfl rfl)
theorem dX2_newName_83 : decode cX2_newName 83 = .ok (.getfield 166, 3) := dk_180 0 166 (dk_at dksX2_newName_3 13 rfl rfl)
theorem dX2_newName_86 : decode cX2_newName 86 = .ok (.getfield 215, 3) := dk_180 0 215 (dk_at dksX2_newName_3 16 rfl rfl)
theorem dX2_newName_89 : decode cX2_newName 89 = .ok (.iload_n 2, 1) := dk_28 (dk_at dksX2_newName_3 19 rfl rfl)
theorem dX2_newName_90 : decode cX2_newName 90 = .ok (.invokestatic 218, 3) := dk_184 0 218 (dk_at dksX2_newName_3 20 rfl rfl)
theorem dX2_newName_93 : decode cX2_newName 93 = .ok (.invokevirtual 209, 3) := dk_182 0 209 (dk_at dksX2_newName_4 0 rfl rfl)
theorem dX2_newName_96 : decode cX2_newName 96 = .ok (.pop, 1) := dk_87 (dk_at dksX2_newName_4 3 rfl rfl)
theorem dX2_newName_97 : decode cX2_newName 97 = .ok (.aload_n 0, 1) := dk_42 (dk_at dksX2_newName_4 4 rfl rfl)
theorem dX2_newName_98 : decode cX2_newName 98 = .ok (.dup, 1) := dk_89 (dk_at dksX2_newName_4 5 rfl rfl)
theorem dX2_newName_99 : decode cX2_newName 99 = .ok (.getfield 130, 3) := dk_180 0 130 (dk_at dksX2_newName_4 6 rfl rfl)
theorem dX2_newName_102 : decode cX2_newName 102 = .ok (.iconst 1, 1) := dk_4 (dk_at dksX2_newName_4 9 rfl rfl)
theorem dX2_newName_103 : decode cX2_newName 103 = .ok (.iadd, 1) := dk_96 (dk_at dksX2_newName_4 10 rfl rfl)
theorem dX2_newName_104 : decode cX2_newName 104 = .ok (.putfield 130, 3) := dk_181 0 130 (dk_at dksX2_newName_4 11 rfl rfl)
theorem dX2_newName_107 : decode cX2_newName 107 = .ok (.return_, 1) := dk_177 (dk_at dksX2_newName_4 14 rfl rfl)
abbrev cX2_hasWord : ByteArray := prog_20_method_9_code
abbrev yX2_hasWord : MethodName := { cls := "WornSkin$Reader", name := "hasWord", desc := "(Ljava/lang/String;)Z" }
def dkwX2_hasWord_0 : List UInt8 := [42, 43, 182, 0, 142, 61, 28, 153, 0, 13, 42, 89, 180, 0, 130, 4, 96, 181, 0, 130, 28, 172]
abbrev dktX2_hasWord_0 : List UInt8 := dkwX2_hasWord_0 ++ []
theorem dksX2_hasWord_0 : cX2_hasWord.data.toList.drop 0 = dktX2_hasWord_0 := by decide +kernel
theorem dX2_hasWord_0 : decode cX2_hasWord 0 = .ok (.aload_n 0, 1) := dk_42 (dk_at dksX2_hasWord_0 0 rfl rfl)
theorem dX2_hasWord_1 : decode cX2_hasWord 1 = .ok (.aload_n 1, 1) := dk_43 (dk_at dksX2_hasWord_0 1 rfl rfl)
theorem dX2_hasWord_2 : decode cX2_hasWord 2 = .ok (.invokevirtual 142, 3) := dk_182 0 142 (dk_at dksX2_hasWord_0 2 rfl rfl)
theorem dX2_hasWord_5 : decode cX2_hasWord 5 = .ok (.istore_n 2, 1) := dk_61 (dk_at dksX2_hasWord_0 5 rfl rfl)
theorem dX2_hasWord_6 : decode cX2_hasWord 6 = .ok (.iload_n 2, 1) := dk_28 (dk_at dksX2_hasWord_0 6 rfl rfl)
theorem dX2_hasWord_7 : decode cX2_hasWord 7 = .ok (.ifCond .eq 13, 3) := dk_153 0 13 (dk_at dksX2_hasWord_0 7 rfl rfl)
theorem dX2_hasWord_10 : decode cX2_hasWord 10 = .ok (.aload_n 0, 1) := dk_42 (dk_at dksX2_hasWord_0 10 rfl rfl)
theorem dX2_hasWord_11 : decode cX2_hasWord 11 = .ok (.dup, 1) := dk_89 (dk_at dksX2_hasWord_0 11 rfl rfl)
theorem dX2_hasWord_12 : decode cX2_hasWord 12 = .ok (.getfield 130, 3) := dk_180 0 130 (dk_at dksX2_hasWord_0 12 rfl rfl)
theorem dX2_hasWord_15 : decode cX2_hasWord 15 = .ok (.iconst 1, 1) := dk_4 (dk_at dksX2_hasWord_0 15 rfl rfl)
theorem dX2_hasWord_16 : decode cX2_hasWord 16 = .ok (.iadd, 1) := dk_96 (dk_at dksX2_hasWord_0 16 rfl rfl)
theorem dX2_hasWord_17 : decode cX2_hasWord 17 = .ok (.putfield 130, 3) := dk_181 0 130 (dk_at dksX2_hasWord_0 17 rfl rfl)
theorem dX2_hasWord_20 : decode cX2_hasWord 20 = .ok (.iload_n 2, 1) := dk_28 (dk_at dksX2_hasWord_0 20 rfl rfl)
theorem dX2_hasWord_21 : decode cX2_hasWord 21 = .ok (.ireturn, 1) := dk_172 (dk_at dksX2_hasWord_0 21 rfl rfl)
abbrev cX2_takeWord : ByteArray := prog_20_method_28_code
abbrev yX2_takeWord : MethodName := { cls := "WornSkin$Reader", name := "takeWord", desc := "(Ljava/lang/String;)V" }
def dkwX2_takeWord_0 : List UInt8 := [42, 43, 182, 1, 42, 154, 0, 9, 42, 4, 182, 0, 152, 191, 177]
abbrev dktX2_takeWord_0 : List UInt8 := dkwX2_takeWord_0 ++ []
theorem dksX2_takeWord_0 : cX2_takeWord.data.toList.drop 0 = dktX2_takeWord_0 := by decide +kernel
theorem dX2_takeWord_0 : decode cX2_takeWord 0 = .ok (.aload_n 0, 1) := dk_42 (dk_at dksX2_takeWord_0 0 rfl rfl)
theorem dX2_takeWord_1 : decode cX2_takeWord 1 = .ok (.aload_n 1, 1) := dk_43 (dk_at dksX2_takeWord_0 1 rfl rfl)
theorem dX2_takeWord_2 : decode cX2_takeWord 2 = .ok (.invokevirtual 298, 3) := dk_182 1 42 (dk_at dksX2_takeWord_0 2 rfl rfl)
theorem dX2_takeWord_5 : decode cX2_takeWord 5 = .ok (.ifCond .ne 9, 3) := dk_154 0 9 (dk_at dksX2_takeWord_0 5 rfl rfl)
theorem dX2_takeWord_8 : decode cX2_takeWord 8 = .ok (.aload_n 0, 1) := dk_42 (dk_at dksX2_takeWord_0 8 rfl rfl)
theorem dX2_takeWord_9 : decode cX2_takeWord 9 = .ok (.iconst 1, 1) := dk_4 (dk_at dksX2_takeWord_0 9 rfl rfl)
theorem dX2_takeWord_10 : decode cX2_takeWord 10 = .ok (.invokevirtual 152, 3) := dk_182 0 152 (dk_at dksX2_takeWord_0 10 rfl rfl)
theorem dX2_takeWord_13 : decode cX2_takeWord 13 = .ok (.athrow, 1) := dk_191 (dk_at dksX2_takeWord_0 13 rfl rfl)
theorem dX2_takeWord_14 : decode cX2_takeWord 14 = .ok (.return_, 1) := dk_177 (dk_at dksX2_takeWord_0 14 rfl rfl)
abbrev cX2_number_2 : ByteArray := prog_20_method_14_code
abbrev yX2_number_2 : MethodName := { cls := "WornSkin$Reader", name := "number", desc := "(II)I" }
def dkwX2_number_2_3 : List UInt8 := [180, 0, 130, 4, 100, 47, 136, 172]
abbrev dktX2_number_2_3 : List UInt8 := dkwX2_number_2_3 ++ []
def dkwX2_number_2_2 : List UInt8 := [158, 0, 9, 42, 7, 182, 0, 152, 191, 42, 89, 180, 0, 130, 4, 96, 181, 0, 130, 42, 180, 0, 84, 42]
abbrev dktX2_number_2_2 : List UInt8 := dkwX2_number_2_2 ++ dktX2_number_2_3
def dkwX2_number_2_1 : List UInt8 := [180, 0, 130, 47, 27, 133, 148, 155, 0, 18, 42, 180, 0, 84, 42, 180, 0, 130, 47, 28, 133, 148]
abbrev dktX2_number_2_1 : List UInt8 := dkwX2_number_2_1 ++ dktX2_number_2_2
def dkwX2_number_2_0 : List UInt8 := [42, 180, 0, 81, 42, 180, 0, 130, 46, 5, 159, 0, 9, 42, 4, 182, 0, 152, 191, 42, 180, 0, 84, 42]
abbrev dktX2_number_2_0 : List UInt8 := dkwX2_number_2_0 ++ dktX2_number_2_1
theorem dksX2_number_2_0 : cX2_number_2.data.toList.drop 0 = dktX2_number_2_0 := by decide +kernel
theorem dksX2_number_2_1 : cX2_number_2.data.toList.drop 24 = dktX2_number_2_1 := dk_seg dksX2_number_2_0 24 rfl rfl
theorem dksX2_number_2_2 : cX2_number_2.data.toList.drop 46 = dktX2_number_2_2 := dk_seg dksX2_number_2_1 22 rfl rfl
theorem dksX2_number_2_3 : cX2_number_2.data.toList.drop 70 = dktX2_number_2_3 := dk_seg dksX2_number_2_2 24 rfl rfl
theorem dX2_number_2_0 : decode cX2_number_2 0 = .ok (.aload_n 0, 1) := dk_42 (dk_at dksX2_number_2_0 0 rfl rfl)
theorem dX2_number_2_1 : decode cX2_number_2 1 = .ok (.getfield 81, 3) := dk_180 0 81 (dk_at dksX2_number_2_0 1 rfl rfl)
theorem dX2_number_2_4 : decode cX2_number_2 4 = .ok (.aload_n 0, 1) := dk_42 (dk_at dksX2_number_2_0 4 rfl rfl)
theorem dX2_number_2_5 : decode cX2_number_2 5 = .ok (.getfield 130, 3) := dk_180 0 130 (dk_at dksX2_number_2_0 5 rfl rfl)
theorem dX2_number_2_8 : decode cX2_number_2 8 = .ok (.iaload, 1) := dk_46 (dk_at dksX2_number_2_0 8 rfl rfl)
theorem dX2_number_2_9 : decode cX2_number_2 9 = .ok (.iconst 2, 1) := dk_5 (dk_at dksX2_number_2_0 9 rfl rfl)
theorem dX2_number_2_10 : decode cX2_number_2 10 = .ok (.if_icmp .eq 9, 3) := dk_159 0 9 (dk_at dksX2_number_2_0 10 rfl rfl)
theorem dX2_number_2_13 : decode cX2_number_2 13 = .ok (.aload_n 0, 1) := dk_42 (dk_at dksX2_number_2_0 13 rfl rfl)
theorem dX2_number_2_14 : decode cX2_number_2 14 = .ok (.iconst 1, 1) := dk_4 (dk_at dksX2_number_2_0 14 rfl rfl)
theorem dX2_number_2_15 : decode cX2_number_2 15 = .ok (.invokevirtual 152, 3) := dk_182 0 152 (dk_at dksX2_number_2_0 15 rfl rfl)
theorem dX2_number_2_18 : decode cX2_number_2 18 = .ok (.athrow, 1) := dk_191 (dk_at dksX2_number_2_0 18 rfl rfl)
theorem dX2_number_2_19 : decode cX2_number_2 19 = .ok (.aload_n 0, 1) := dk_42 (dk_at dksX2_number_2_0 19 rfl rfl)
theorem dX2_number_2_20 : decode cX2_number_2 20 = .ok (.getfield 84, 3) := dk_180 0 84 (dk_at dksX2_number_2_0 20 rfl rfl)
theorem dX2_number_2_23 : decode cX2_number_2 23 = .ok (.aload_n 0, 1) := dk_42 (dk_at dksX2_number_2_0 23 rfl rfl)
theorem dX2_number_2_24 : decode cX2_number_2 24 = .ok (.getfield 130, 3) := dk_180 0 130 (dk_at dksX2_number_2_1 0 rfl rfl)
theorem dX2_number_2_27 : decode cX2_number_2 27 = .ok (.laload, 1) := dk_47 (dk_at dksX2_number_2_1 3 rfl rfl)
theorem dX2_number_2_28 : decode cX2_number_2 28 = .ok (.iload_n 1, 1) := dk_27 (dk_at dksX2_number_2_1 4 rfl rfl)
theorem dX2_number_2_29 : decode cX2_number_2 29 = .ok (.i2l, 1) := dk_133 (dk_at dksX2_number_2_1 5 rfl rfl)
theorem dX2_number_2_30 : decode cX2_number_2 30 = .ok (.lcmp, 1) := dk_148 (dk_at dksX2_number_2_1 6 rfl rfl)
theorem dX2_number_2_31 : decode cX2_number_2 31 = .ok (.ifCond .lt 18, 3) := dk_155 0 18 (dk_at dksX2_number_2_1 7 rfl rfl)
theorem dX2_number_2_34 : decode cX2_number_2 34 = .ok (.aload_n 0, 1) := dk_42 (dk_at dksX2_number_2_1 10 rfl rfl)
theorem dX2_number_2_35 : decode cX2_number_2 35 = .ok (.getfield 84, 3) := dk_180 0 84 (dk_at dksX2_number_2_1 11 rfl rfl)
theorem dX2_number_2_38 : decode cX2_number_2 38 = .ok (.aload_n 0, 1) := dk_42 (dk_at dksX2_number_2_1 14 rfl rfl)
theorem dX2_number_2_39 : decode cX2_number_2 39 = .ok (.getfield 130, 3) := dk_180 0 130 (dk_at dksX2_number_2_1 15 rfl rfl)
theorem dX2_number_2_42 : decode cX2_number_2 42 = .ok (.laload, 1) := dk_47 (dk_at dksX2_number_2_1 18 rfl rfl)
theorem dX2_number_2_43 : decode cX2_number_2 43 = .ok (.iload_n 2, 1) := dk_28 (dk_at dksX2_number_2_1 19 rfl rfl)
theorem dX2_number_2_44 : decode cX2_number_2 44 = .ok (.i2l, 1) := dk_133 (dk_at dksX2_number_2_1 20 rfl rfl)
theorem dX2_number_2_45 : decode cX2_number_2 45 = .ok (.lcmp, 1) := dk_148 (dk_at dksX2_number_2_1 21 rfl rfl)
theorem dX2_number_2_46 : decode cX2_number_2 46 = .ok (.ifCond .le 9, 3) := dk_158 0 9 (dk_at dksX2_number_2_2 0 rfl rfl)
theorem dX2_number_2_49 : decode cX2_number_2 49 = .ok (.aload_n 0, 1) := dk_42 (dk_at dksX2_number_2_2 3 rfl rfl)
theorem dX2_number_2_50 : decode cX2_number_2 50 = .ok (.iconst 4, 1) := dk_7 (dk_at dksX2_number_2_2 4 rfl rfl)
theorem dX2_number_2_51 : decode cX2_number_2 51 = .ok (.invokevirtual 152, 3) := dk_182 0 152 (dk_at dksX2_number_2_2 5 rfl rfl)
theorem dX2_number_2_54 : decode cX2_number_2 54 = .ok (.athrow, 1) := dk_191 (dk_at dksX2_number_2_2 8 rfl rfl)
theorem dX2_number_2_55 : decode cX2_number_2 55 = .ok (.aload_n 0, 1) := dk_42 (dk_at dksX2_number_2_2 9 rfl rfl)
theorem dX2_number_2_56 : decode cX2_number_2 56 = .ok (.dup, 1) := dk_89 (dk_at dksX2_number_2_2 10 rfl rfl)
theorem dX2_number_2_57 : decode cX2_number_2 57 = .ok (.getfield 130, 3) := dk_180 0 130 (dk_at dksX2_number_2_2 11 rfl rfl)
theorem dX2_number_2_60 : decode cX2_number_2 60 = .ok (.iconst 1, 1) := dk_4 (dk_at dksX2_number_2_2 14 rfl rfl)
theorem dX2_number_2_61 : decode cX2_number_2 61 = .ok (.iadd, 1) := dk_96 (dk_at dksX2_number_2_2 15 rfl rfl)
theorem dX2_number_2_62 : decode cX2_number_2 62 = .ok (.putfield 130, 3) := dk_181 0 130 (dk_at dksX2_number_2_2 16 rfl rfl)
theorem dX2_number_2_65 : decode cX2_number_2 65 = .ok (.aload_n 0, 1) := dk_42 (dk_at dksX2_number_2_2 19 rfl rfl)
theorem dX2_number_2_66 : decode cX2_number_2 66 = .ok (.getfield 84, 3) := dk_180 0 84 (dk_at dksX2_number_2_2 20 rfl rfl)
theorem dX2_number_2_69 : decode cX2_number_2 69 = .ok (.aload_n 0, 1) := dk_42 (dk_at dksX2_number_2_2 23 rfl rfl)
theorem dX2_number_2_70 : decode cX2_number_2 70 = .ok (.getfield 130, 3) := dk_180 0 130 (dk_at dksX2_number_2_3 0 rfl rfl)
theorem dX2_number_2_73 : decode cX2_number_2 73 = .ok (.iconst 1, 1) := dk_4 (dk_at dksX2_number_2_3 3 rfl rfl)
theorem dX2_number_2_74 : decode cX2_number_2 74 = .ok (.isub, 1) := dk_100 (dk_at dksX2_number_2_3 4 rfl rfl)
theorem dX2_number_2_75 : decode cX2_number_2 75 = .ok (.laload, 1) := dk_47 (dk_at dksX2_number_2_3 5 rfl rfl)
theorem dX2_number_2_76 : decode cX2_number_2 76 = .ok (.l2i, 1) := dk_136 (dk_at dksX2_number_2_3 6 rfl rfl)
theorem dX2_number_2_77 : decode cX2_number_2 77 = .ok (.ireturn, 1) := dk_172 (dk_at dksX2_number_2_3 7 rfl rfl)
abbrev cX2_number : ByteArray := prog_20_method_17_code
abbrev yX2_number : MethodName := { cls := "WornSkin$Reader", name := "number", desc := "(Ljava/lang/String;II)I" }
def dkwX2_number_0 : List UInt8 := [42, 43, 182, 0, 183, 42, 28, 29, 182, 0, 187, 172]
abbrev dktX2_number_0 : List UInt8 := dkwX2_number_0 ++ []
theorem dksX2_number_0 : cX2_number.data.toList.drop 0 = dktX2_number_0 := by decide +kernel
theorem dX2_number_0 : decode cX2_number 0 = .ok (.aload_n 0, 1) := dk_42 (dk_at dksX2_number_0 0 rfl rfl)
theorem dX2_number_1 : decode cX2_number 1 = .ok (.aload_n 1, 1) := dk_43 (dk_at dksX2_number_0 1 rfl rfl)
theorem dX2_number_2 : decode cX2_number 2 = .ok (.invokevirtual 183, 3) := dk_182 0 183 (dk_at dksX2_number_0 2 rfl rfl)
theorem dX2_number_5 : decode cX2_number 5 = .ok (.aload_n 0, 1) := dk_42 (dk_at dksX2_number_0 5 rfl rfl)
theorem dX2_number_6 : decode cX2_number 6 = .ok (.iload_n 2, 1) := dk_28 (dk_at dksX2_number_0 6 rfl rfl)
theorem dX2_number_7 : decode cX2_number 7 = .ok (.iload_n 3, 1) := dk_29 (dk_at dksX2_number_0 7 rfl rfl)
theorem dX2_number_8 : decode cX2_number 8 = .ok (.invokevirtual 187, 3) := dk_182 0 187 (dk_at dksX2_number_0 8 rfl rfl)
theorem dX2_number_11 : decode cX2_number 11 = .ok (.ireturn, 1) := dk_172 (dk_at dksX2_number_0 11 rfl rfl)
abbrev cX2_skin : ByteArray := prog_20_method_20_code
abbrev yX2_skin : MethodName := { cls := "WornSkin$Reader", name := "skin", desc := "()V" }
def dkwX2_skin_2 : List UInt8 := [28, 42, 18, 40, 4, 16, 30, 182, 0, 233, 183, 0, 238, 182, 0, 209, 87, 177]
abbrev dktX2_skin_2 : List UInt8 := dkwX2_skin_2 ++ []
def dkwX2_skin_1 : List UInt8 := [182, 0, 229, 42, 18, 38, 4, 16, 6, 182, 0, 233, 61, 42, 180, 0, 166, 180, 0, 223, 187, 0, 236, 89]
abbrev dktX2_skin_1 : List UInt8 := dkwX2_skin_1 ++ dktX2_skin_2
def dkwX2_skin_0 : List UInt8 := [42, 180, 0, 166, 180, 0, 223, 182, 0, 226, 60, 42, 27, 6, 160, 0, 7, 4, 167, 0, 4, 3, 27]
abbrev dktX2_skin_0 : List UInt8 := dkwX2_skin_0 ++ dktX2_skin_1
theorem dksX2_skin_0 : cX2_skin.data.toList.drop 0 = dktX2_skin_0 := by decide +kernel
theorem dksX2_skin_1 : cX2_skin.data.toList.drop 23 = dktX2_skin_1 := dk_seg dksX2_skin_0 23 rfl rfl
theorem dksX2_skin_2 : cX2_skin.data.toList.drop 47 = dktX2_skin_2 := dk_seg dksX2_skin_1 24 rfl rfl
theorem dX2_skin_0 : decode cX2_skin 0 = .ok (.aload_n 0, 1) := dk_42 (dk_at dksX2_skin_0 0 rfl rfl)
theorem dX2_skin_1 : decode cX2_skin 1 = .ok (.getfield 166, 3) := dk_180 0 166 (dk_at dksX2_skin_0 1 rfl rfl)
theorem dX2_skin_4 : decode cX2_skin 4 = .ok (.getfield 223, 3) := dk_180 0 223 (dk_at dksX2_skin_0 4 rfl rfl)
theorem dX2_skin_7 : decode cX2_skin 7 = .ok (.invokevirtual 226, 3) := dk_182 0 226 (dk_at dksX2_skin_0 7 rfl rfl)
theorem dX2_skin_10 : decode cX2_skin 10 = .ok (.istore_n 1, 1) := dk_60 (dk_at dksX2_skin_0 10 rfl rfl)
theorem dX2_skin_11 : decode cX2_skin 11 = .ok (.aload_n 0, 1) := dk_42 (dk_at dksX2_skin_0 11 rfl rfl)
theorem dX2_skin_12 : decode cX2_skin 12 = .ok (.iload_n 1, 1) := dk_27 (dk_at dksX2_skin_0 12 rfl rfl)
theorem dX2_skin_13 : decode cX2_skin 13 = .ok (.iconst 3, 1) := dk_6 (dk_at dksX2_skin_0 13 rfl rfl)
theorem dX2_skin_14 : decode cX2_skin 14 = .ok (.if_icmp .ne 7, 3) := dk_160 0 7 (dk_at dksX2_skin_0 14 rfl rfl)
theorem dX2_skin_17 : decode cX2_skin 17 = .ok (.iconst 1, 1) := dk_4 (dk_at dksX2_skin_0 17 rfl rfl)
theorem dX2_skin_18 : decode cX2_skin 18 = .ok (.goto 4, 3) := dk_167 0 4 (dk_at dksX2_skin_0 18 rfl rfl)
theorem dX2_skin_21 : decode cX2_skin 21 = .ok (.iconst 0, 1) := dk_3 (dk_at dksX2_skin_0 21 rfl rfl)
theorem dX2_skin_22 : decode cX2_skin 22 = .ok (.iload_n 1, 1) := dk_27 (dk_at dksX2_skin_0 22 rfl rfl)
theorem dX2_skin_23 : decode cX2_skin 23 = .ok (.invokevirtual 229, 3) := dk_182 0 229 (dk_at dksX2_skin_1 0 rfl rfl)
theorem dX2_skin_26 : decode cX2_skin 26 = .ok (.aload_n 0, 1) := dk_42 (dk_at dksX2_skin_1 3 rfl rfl)
theorem dX2_skin_27 : decode cX2_skin 27 = .ok (.ldc 38, 2) := dk_18 38 (dk_at dksX2_skin_1 4 rfl rfl)
theorem dX2_skin_29 : decode cX2_skin 29 = .ok (.iconst 1, 1) := dk_4 (dk_at dksX2_skin_1 6 rfl rfl)
theorem dX2_skin_30 : decode cX2_skin 30 = .ok (.bipush 6, 2) := dk_16 6 (dk_at dksX2_skin_1 7 rfl rfl)
theorem dX2_skin_32 : decode cX2_skin 32 = .ok (.invokevirtual 233, 3) := dk_182 0 233 (dk_at dksX2_skin_1 9 rfl rfl)
theorem dX2_skin_35 : decode cX2_skin 35 = .ok (.istore_n 2, 1) := dk_61 (dk_at dksX2_skin_1 12 rfl rfl)
theorem dX2_skin_36 : decode cX2_skin 36 = .ok (.aload_n 0, 1) := dk_42 (dk_at dksX2_skin_1 13 rfl rfl)
theorem dX2_skin_37 : decode cX2_skin 37 = .ok (.getfield 166, 3) := dk_180 0 166 (dk_at dksX2_skin_1 14 rfl rfl)
theorem dX2_skin_40 : decode cX2_skin 40 = .ok (.getfield 223, 3) := dk_180 0 223 (dk_at dksX2_skin_1 17 rfl rfl)
theorem dX2_skin_43 : decode cX2_skin 43 = .ok (.new 236, 3) := dk_187 0 236 (dk_at dksX2_skin_1 20 rfl rfl)
theorem dX2_skin_46 : decode cX2_skin 46 = .ok (.dup, 1) := dk_89 (dk_at dksX2_skin_1 23 rfl rfl)
theorem dX2_skin_47 : decode cX2_skin 47 = .ok (.iload_n 2, 1) := dk_28 (dk_at dksX2_skin_2 0 rfl rfl)
theorem dX2_skin_48 : decode cX2_skin 48 = .ok (.aload_n 0, 1) := dk_42 (dk_at dksX2_skin_2 1 rfl rfl)
theorem dX2_skin_49 : decode cX2_skin 49 = .ok (.ldc 40, 2) := dk_18 40 (dk_at dksX2_skin_2 2 rfl rfl)
theorem dX2_skin_51 : decode cX2_skin 51 = .ok (.iconst 1, 1) := dk_4 (dk_at dksX2_skin_2 4 rfl rfl)
theorem dX2_skin_52 : decode cX2_skin 52 = .ok (.bipush 30, 2) := dk_16 30 (dk_at dksX2_skin_2 5 rfl rfl)
theorem dX2_skin_54 : decode cX2_skin 54 = .ok (.invokevirtual 233, 3) := dk_182 0 233 (dk_at dksX2_skin_2 7 rfl rfl)
theorem dX2_skin_57 : decode cX2_skin 57 = .ok (.invokespecial 238, 3) := dk_183 0 238 (dk_at dksX2_skin_2 10 rfl rfl)
theorem dX2_skin_60 : decode cX2_skin 60 = .ok (.invokevirtual 209, 3) := dk_182 0 209 (dk_at dksX2_skin_2 13 rfl rfl)
theorem dX2_skin_63 : decode cX2_skin 63 = .ok (.pop, 1) := dk_87 (dk_at dksX2_skin_2 16 rfl rfl)
theorem dX2_skin_64 : decode cX2_skin 64 = .ok (.return_, 1) := dk_177 (dk_at dksX2_skin_2 17 rfl rfl)
abbrev cX2_told : ByteArray := prog_20_method_19_code
abbrev yX2_told : MethodName := { cls := "WornSkin$Reader", name := "told", desc := "(I)I" }
def dkwX2_told_2 : List UInt8 := [182, 0, 152, 191, 42, 89, 180, 0, 130, 4, 96, 181, 0, 130, 28, 172]
abbrev dktX2_told_2 : List UInt8 := dkwX2_told_2 ++ []
def dkwX2_told_1 : List UInt8 := [180, 0, 130, 47, 182, 0, 195, 27, 100, 61, 28, 3, 16, 19, 184, 0, 93, 154, 0, 9, 42, 5]
abbrev dktX2_told_1 : List UInt8 := dkwX2_told_1 ++ dktX2_told_2
def dkwX2_told_0 : List UInt8 := [42, 182, 0, 191, 154, 0, 9, 42, 4, 182, 0, 152, 191, 42, 180, 0, 166, 42, 180, 0, 84, 42]
abbrev dktX2_told_0 : List UInt8 := dkwX2_told_0 ++ dktX2_told_1
theorem dksX2_told_0 : cX2_told.data.toList.drop 0 = dktX2_told_0 := by decide +kernel
theorem dksX2_told_1 : cX2_told.data.toList.drop 22 = dktX2_told_1 := dk_seg dksX2_told_0 22 rfl rfl
theorem dksX2_told_2 : cX2_told.data.toList.drop 44 = dktX2_told_2 := dk_seg dksX2_told_1 22 rfl rfl
theorem dX2_told_0 : decode cX2_told 0 = .ok (.aload_n 0, 1) := dk_42 (dk_at dksX2_told_0 0 rfl rfl)
theorem dX2_told_1 : decode cX2_told 1 = .ok (.invokevirtual 191, 3) := dk_182 0 191 (dk_at dksX2_told_0 1 rfl rfl)
theorem dX2_told_4 : decode cX2_told 4 = .ok (.ifCond .ne 9, 3) := dk_154 0 9 (dk_at dksX2_told_0 4 rfl rfl)
theorem dX2_told_7 : decode cX2_told 7 = .ok (.aload_n 0, 1) := dk_42 (dk_at dksX2_told_0 7 rfl rfl)
theorem dX2_told_8 : decode cX2_told 8 = .ok (.iconst 1, 1) := dk_4 (dk_at dksX2_told_0 8 rfl rfl)
theorem dX2_told_9 : decode cX2_told 9 = .ok (.invokevirtual 152, 3) := dk_182 0 152 (dk_at dksX2_told_0 9 rfl rfl)
theorem dX2_told_12 : decode cX2_told 12 = .ok (.athrow, 1) := dk_191 (dk_at dksX2_told_0 12 rfl rfl)
theorem dX2_told_13 : decode cX2_told 13 = .ok (.aload_n 0, 1) := dk_42 (dk_at dksX2_told_0 13 rfl rfl)
theorem dX2_told_14 : decode cX2_told 14 = .ok (.getfield 166, 3) := dk_180 0 166 (dk_at dksX2_told_0 14 rfl rfl)
theorem dX2_told_17 : decode cX2_told 17 = .ok (.aload_n 0, 1) := dk_42 (dk_at dksX2_told_0 17 rfl rfl)
theorem dX2_told_18 : decode cX2_told 18 = .ok (.getfield 84, 3) := dk_180 0 84 (dk_at dksX2_told_0 18 rfl rfl)
theorem dX2_told_21 : decode cX2_told 21 = .ok (.aload_n 0, 1) := dk_42 (dk_at dksX2_told_0 21 rfl rfl)
theorem dX2_told_22 : decode cX2_told 22 = .ok (.getfield 130, 3) := dk_180 0 130 (dk_at dksX2_told_1 0 rfl rfl)
theorem dX2_told_25 : decode cX2_told 25 = .ok (.laload, 1) := dk_47 (dk_at dksX2_told_1 3 rfl rfl)
theorem dX2_told_26 : decode cX2_told 26 = .ok (.invokevirtual 195, 3) := dk_182 0 195 (dk_at dksX2_told_1 4 rfl rfl)
theorem dX2_told_29 : decode cX2_told 29 = .ok (.iload_n 1, 1) := dk_27 (dk_at dksX2_told_1 7 rfl rfl)
theorem dX2_told_30 : decode cX2_told 30 = .ok (.isub, 1) := dk_100 (dk_at dksX2_told_1 8 rfl rfl)
theorem dX2_told_31 : decode cX2_told 31 = .ok (.istore_n 2, 1) := dk_61 (dk_at dksX2_told_1 9 rfl rfl)
theorem dX2_told_32 : decode cX2_told 32 = .ok (.iload_n 2, 1) := dk_28 (dk_at dksX2_told_1 10 rfl rfl)
theorem dX2_told_33 : decode cX2_told 33 = .ok (.iconst 0, 1) := dk_3 (dk_at dksX2_told_1 11 rfl rfl)
theorem dX2_told_34 : decode cX2_told 34 = .ok (.bipush 19, 2) := dk_16 19 (dk_at dksX2_told_1 12 rfl rfl)
theorem dX2_told_36 : decode cX2_told 36 = .ok (.invokestatic 93, 3) := dk_184 0 93 (dk_at dksX2_told_1 14 rfl rfl)
theorem dX2_told_39 : decode cX2_told 39 = .ok (.ifCond .ne 9, 3) := dk_154 0 9 (dk_at dksX2_told_1 17 rfl rfl)
theorem dX2_told_42 : decode cX2_told 42 = .ok (.aload_n 0, 1) := dk_42 (dk_at dksX2_told_1 20 rfl rfl)
theorem dX2_told_43 : decode cX2_told 43 = .ok (.iconst 2, 1) := dk_5 (dk_at dksX2_told_1 21 rfl rfl)
theorem dX2_told_44 : decode cX2_told 44 = .ok (.invokevirtual 152, 3) := dk_182 0 152 (dk_at dksX2_told_2 0 rfl rfl)
theorem dX2_told_47 : decode cX2_told 47 = .ok (.athrow, 1) := dk_191 (dk_at dksX2_told_2 3 rfl rfl)
theorem dX2_told_48 : decode cX2_told 48 = .ok (.aload_n 0, 1) := dk_42 (dk_at dksX2_told_2 4 rfl rfl)
theorem dX2_told_49 : decode cX2_told 49 = .ok (.dup, 1) := dk_89 (dk_at dksX2_told_2 5 rfl rfl)
theorem dX2_told_50 : decode cX2_told 50 = .ok (.getfield 130, 3) := dk_180 0 130 (dk_at dksX2_told_2 6 rfl rfl)
theorem dX2_told_53 : decode cX2_told 53 = .ok (.iconst 1, 1) := dk_4 (dk_at dksX2_told_2 9 rfl rfl)
theorem dX2_told_54 : decode cX2_told 54 = .ok (.iadd, 1) := dk_96 (dk_at dksX2_told_2 10 rfl rfl)
theorem dX2_told_55 : decode cX2_told 55 = .ok (.putfield 130, 3) := dk_181 0 130 (dk_at dksX2_told_2 11 rfl rfl)
theorem dX2_told_58 : decode cX2_told 58 = .ok (.iload_n 2, 1) := dk_28 (dk_at dksX2_told_2 14 rfl rfl)
theorem dX2_told_59 : decode cX2_told 59 = .ok (.ireturn, 1) := dk_172 (dk_at dksX2_told_2 15 rfl rfl)
abbrev cX2_hole : ByteArray := prog_20_method_21_code
abbrev yX2_hole : MethodName := { cls := "WornSkin$Reader", name := "hole", desc := "()V" }
def dkwX2_hole_3 : List UInt8 := [180, 0, 250, 4, 28, 120, 128, 181, 0, 250, 177]
abbrev dktX2_hole_3 : List UInt8 := dkwX2_hole_3 ++ []
def dkwX2_hole_2 : List UInt8 := [184, 0, 253, 153, 0, 19, 42, 89, 180, 0, 130, 4, 100, 181, 0, 130, 42, 6, 182, 0, 152, 191, 43, 89]
abbrev dktX2_hole_2 : List UInt8 := dkwX2_hole_2 ++ dktX2_hole_3
def dkwX2_hole_1 : List UInt8 := [182, 0, 244, 192, 0, 236, 76, 42, 3, 43, 180, 0, 248, 4, 100, 182, 0, 187, 61, 43, 180, 0, 250, 28]
abbrev dktX2_hole_1 : List UInt8 := dkwX2_hole_1 ++ dktX2_hole_2
def dkwX2_hole_0 : List UInt8 := [42, 89, 180, 0, 130, 4, 96, 181, 0, 130, 42, 180, 0, 166, 180, 0, 223, 42, 3, 182, 0, 241]
abbrev dktX2_hole_0 : List UInt8 := dkwX2_hole_0 ++ dktX2_hole_1
theorem dksX2_hole_0 : cX2_hole.data.toList.drop 0 = dktX2_hole_0 := by decide +kernel
theorem dksX2_hole_1 : cX2_hole.data.toList.drop 22 = dktX2_hole_1 := dk_seg dksX2_hole_0 22 rfl rfl
theorem dksX2_hole_2 : cX2_hole.data.toList.drop 46 = dktX2_hole_2 := dk_seg dksX2_hole_1 24 rfl rfl
theorem dksX2_hole_3 : cX2_hole.data.toList.drop 70 = dktX2_hole_3 := dk_seg dksX2_hole_2 24 rfl rfl
theorem dX2_hole_0 : decode cX2_hole 0 = .ok (.aload_n 0, 1) := dk_42 (dk_at dksX2_hole_0 0 rfl rfl)
theorem dX2_hole_1 : decode cX2_hole 1 = .ok (.dup, 1) := dk_89 (dk_at dksX2_hole_0 1 rfl rfl)
theorem dX2_hole_2 : decode cX2_hole 2 = .ok (.getfield 130, 3) := dk_180 0 130 (dk_at dksX2_hole_0 2 rfl rfl)
theorem dX2_hole_5 : decode cX2_hole 5 = .ok (.iconst 1, 1) := dk_4 (dk_at dksX2_hole_0 5 rfl rfl)
theorem dX2_hole_6 : decode cX2_hole 6 = .ok (.iadd, 1) := dk_96 (dk_at dksX2_hole_0 6 rfl rfl)
theorem dX2_hole_7 : decode cX2_hole 7 = .ok (.putfield 130, 3) := dk_181 0 130 (dk_at dksX2_hole_0 7 rfl rfl)
theorem dX2_hole_10 : decode cX2_hole 10 = .ok (.aload_n 0, 1) := dk_42 (dk_at dksX2_hole_0 10 rfl rfl)
theorem dX2_hole_11 : decode cX2_hole 11 = .ok (.getfield 166, 3) := dk_180 0 166 (dk_at dksX2_hole_0 11 rfl rfl)
theorem dX2_hole_14 : decode cX2_hole 14 = .ok (.getfield 223, 3) := dk_180 0 223 (dk_at dksX2_hole_0 14 rfl rfl)
theorem dX2_hole_17 : decode cX2_hole 17 = .ok (.aload_n 0, 1) := dk_42 (dk_at dksX2_hole_0 17 rfl rfl)
theorem dX2_hole_18 : decode cX2_hole 18 = .ok (.iconst 0, 1) := dk_3 (dk_at dksX2_hole_0 18 rfl rfl)
theorem dX2_hole_19 : decode cX2_hole 19 = .ok (.invokevirtual 241, 3) := dk_182 0 241 (dk_at dksX2_hole_0 19 rfl rfl)
theorem dX2_hole_22 : decode cX2_hole 22 = .ok (.invokevirtual 244, 3) := dk_182 0 244 (dk_at dksX2_hole_1 0 rfl rfl)
theorem dX2_hole_25 : decode cX2_hole 25 = .ok (.checkcast 236, 3) := dk_192 0 236 (dk_at dksX2_hole_1 3 rfl rfl)
theorem dX2_hole_28 : decode cX2_hole 28 = .ok (.astore_n 1, 1) := dk_76 (dk_at dksX2_hole_1 6 rfl rfl)
theorem dX2_hole_29 : decode cX2_hole 29 = .ok (.aload_n 0, 1) := dk_42 (dk_at dksX2_hole_1 7 rfl rfl)
theorem dX2_hole_30 : decode cX2_hole 30 = .ok (.iconst 0, 1) := dk_3 (dk_at dksX2_hole_1 8 rfl rfl)
theorem dX2_hole_31 : decode cX2_hole 31 = .ok (.aload_n 1, 1) := dk_43 (dk_at dksX2_hole_1 9 rfl rfl)
theorem dX2_hole_32 : decode cX2_hole 32 = .ok (.getfield 248, 3) := dk_180 0 248 (dk_at dksX2_hole_1 10 rfl rfl)
theorem dX2_hole_35 : decode cX2_hole 35 = .ok (.iconst 1, 1) := dk_4 (dk_at dksX2_hole_1 13 rfl rfl)
theorem dX2_hole_36 : decode cX2_hole 36 = .ok (.isub, 1) := dk_100 (dk_at dksX2_hole_1 14 rfl rfl)
theorem dX2_hole_37 : decode cX2_hole 37 = .ok (.invokevirtual 187, 3) := dk_182 0 187 (dk_at dksX2_hole_1 15 rfl rfl)
theorem dX2_hole_40 : decode cX2_hole 40 = .ok (.istore_n 2, 1) := dk_61 (dk_at dksX2_hole_1 18 rfl rfl)
theorem dX2_hole_41 : decode cX2_hole 41 = .ok (.aload_n 1, 1) := dk_43 (dk_at dksX2_hole_1 19 rfl rfl)
theorem dX2_hole_42 : decode cX2_hole 42 = .ok (.getfield 250, 3) := dk_180 0 250 (dk_at dksX2_hole_1 20 rfl rfl)
theorem dX2_hole_45 : decode cX2_hole 45 = .ok (.iload_n 2, 1) := dk_28 (dk_at dksX2_hole_1 23 rfl rfl)
theorem dX2_hole_46 : decode cX2_hole 46 = .ok (.invokestatic 253, 3) := dk_184 0 253 (dk_at dksX2_hole_2 0 rfl rfl)
theorem dX2_hole_49 : decode cX2_hole 49 = .ok (.ifCond .eq 19, 3) := dk_153 0 19 (dk_at dksX2_hole_2 3 rfl rfl)
theorem dX2_hole_52 : decode cX2_hole 52 = .ok (.aload_n 0, 1) := dk_42 (dk_at dksX2_hole_2 6 rfl rfl)
theorem dX2_hole_53 : decode cX2_hole 53 = .ok (.dup, 1) := dk_89 (dk_at dksX2_hole_2 7 rfl rfl)
theorem dX2_hole_54 : decode cX2_hole 54 = .ok (.getfield 130, 3) := dk_180 0 130 (dk_at dksX2_hole_2 8 rfl rfl)
theorem dX2_hole_57 : decode cX2_hole 57 = .ok (.iconst 1, 1) := dk_4 (dk_at dksX2_hole_2 11 rfl rfl)
theorem dX2_hole_58 : decode cX2_hole 58 = .ok (.isub, 1) := dk_100 (dk_at dksX2_hole_2 12 rfl rfl)
theorem dX2_hole_59 : decode cX2_hole 59 = .ok (.putfield 130, 3) := dk_181 0 130 (dk_at dksX2_hole_2 13 rfl rfl)
theorem dX2_hole_62 : decode cX2_hole 62 = .ok (.aload_n 0, 1) := dk_42 (dk_at dksX2_hole_2 16 rfl rfl)
theorem dX2_hole_63 : decode cX2_hole 63 = .ok (.iconst 3, 1) := dk_6 (dk_at dksX2_hole_2 17 rfl rfl)
theorem dX2_hole_64 : decode cX2_hole 64 = .ok (.invokevirtual 152, 3) := dk_182 0 152 (dk_at dksX2_hole_2 18 rfl rfl)
theorem dX2_hole_67 : decode cX2_hole 67 = .ok (.athrow, 1) := dk_191 (dk_at dksX2_hole_2 21 rfl rfl)
theorem dX2_hole_68 : decode cX2_hole 68 = .ok (.aload_n 1, 1) := dk_43 (dk_at dksX2_hole_2 22 rfl rfl)
theorem dX2_hole_69 : decode cX2_hole 69 = .ok (.dup, 1) := dk_89 (dk_at dksX2_hole_2 23 rfl rfl)
theorem dX2_hole_70 : decode cX2_hole 70 = .ok (.getfield 250, 3) := dk_180 0 250 (dk_at dksX2_hole_3 0 rfl rfl)
theorem dX2_hole_73 : decode cX2_hole 73 = .ok (.iconst 1, 1) := dk_4 (dk_at dksX2_hole_3 3 rfl rfl)
theorem dX2_hole_74 : decode cX2_hole 74 = .ok (.iload_n 2, 1) := dk_28 (dk_at dksX2_hole_3 4 rfl rfl)
theorem dX2_hole_75 : decode cX2_hole 75 = .ok (.ishl, 1) := dk_120 (dk_at dksX2_hole_3 5 rfl rfl)
theorem dX2_hole_76 : decode cX2_hole 76 = .ok (.ior, 1) := dk_128 (dk_at dksX2_hole_3 6 rfl rfl)
theorem dX2_hole_77 : decode cX2_hole 77 = .ok (.putfield 250, 3) := dk_181 0 250 (dk_at dksX2_hole_3 7 rfl rfl)
theorem dX2_hole_80 : decode cX2_hole 80 = .ok (.return_, 1) := dk_177 (dk_at dksX2_hole_3 10 rfl rfl)
abbrev cX2_one : ByteArray := prog_20_method_22_code
abbrev yX2_one : MethodName := { cls := "WornSkin$Reader", name := "one", desc := "([Ljava/lang/String;)I" }
def dkwX2_one_1 : List UInt8 := [181, 0, 130, 28, 172]
abbrev dktX2_one_1 : List UInt8 := dkwX2_one_1 ++ []
def dkwX2_one_0 : List UInt8 := [42, 43, 182, 0, 156, 61, 28, 2, 160, 0, 9, 42, 4, 182, 0, 152, 191, 42, 89, 180, 0, 130, 4, 96]
abbrev dktX2_one_0 : List UInt8 := dkwX2_one_0 ++ dktX2_one_1
theorem dksX2_one_0 : cX2_one.data.toList.drop 0 = dktX2_one_0 := by decide +kernel
theorem dksX2_one_1 : cX2_one.data.toList.drop 24 = dktX2_one_1 := dk_seg dksX2_one_0 24 rfl rfl
theorem dX2_one_0 : decode cX2_one 0 = .ok (.aload_n 0, 1) := dk_42 (dk_at dksX2_one_0 0 rfl rfl)
theorem dX2_one_1 : decode cX2_one 1 = .ok (.aload_n 1, 1) := dk_43 (dk_at dksX2_one_0 1 rfl rfl)
theorem dX2_one_2 : decode cX2_one 2 = .ok (.invokevirtual 156, 3) := dk_182 0 156 (dk_at dksX2_one_0 2 rfl rfl)
theorem dX2_one_5 : decode cX2_one 5 = .ok (.istore_n 2, 1) := dk_61 (dk_at dksX2_one_0 5 rfl rfl)
theorem dX2_one_6 : decode cX2_one 6 = .ok (.iload_n 2, 1) := dk_28 (dk_at dksX2_one_0 6 rfl rfl)
theorem dX2_one_7 : decode cX2_one 7 = .ok (.iconst (-1), 1) := dk_2 (dk_at dksX2_one_0 7 rfl rfl)
theorem dX2_one_8 : decode cX2_one 8 = .ok (.if_icmp .ne 9, 3) := dk_160 0 9 (dk_at dksX2_one_0 8 rfl rfl)
theorem dX2_one_11 : decode cX2_one 11 = .ok (.aload_n 0, 1) := dk_42 (dk_at dksX2_one_0 11 rfl rfl)
theorem dX2_one_12 : decode cX2_one 12 = .ok (.iconst 1, 1) := dk_4 (dk_at dksX2_one_0 12 rfl rfl)
theorem dX2_one_13 : decode cX2_one 13 = .ok (.invokevirtual 152, 3) := dk_182 0 152 (dk_at dksX2_one_0 13 rfl rfl)
theorem dX2_one_16 : decode cX2_one 16 = .ok (.athrow, 1) := dk_191 (dk_at dksX2_one_0 16 rfl rfl)
theorem dX2_one_17 : decode cX2_one 17 = .ok (.aload_n 0, 1) := dk_42 (dk_at dksX2_one_0 17 rfl rfl)
theorem dX2_one_18 : decode cX2_one 18 = .ok (.dup, 1) := dk_89 (dk_at dksX2_one_0 18 rfl rfl)
theorem dX2_one_19 : decode cX2_one 19 = .ok (.getfield 130, 3) := dk_180 0 130 (dk_at dksX2_one_0 19 rfl rfl)
theorem dX2_one_22 : decode cX2_one 22 = .ok (.iconst 1, 1) := dk_4 (dk_at dksX2_one_0 22 rfl rfl)
theorem dX2_one_23 : decode cX2_one 23 = .ok (.iadd, 1) := dk_96 (dk_at dksX2_one_0 23 rfl rfl)
theorem dX2_one_24 : decode cX2_one 24 = .ok (.putfield 130, 3) := dk_181 0 130 (dk_at dksX2_one_1 0 rfl rfl)
theorem dX2_one_27 : decode cX2_one 27 = .ok (.iload_n 2, 1) := dk_28 (dk_at dksX2_one_1 3 rfl rfl)
theorem dX2_one_28 : decode cX2_one 28 = .ok (.ireturn, 1) := dk_172 (dk_at dksX2_one_1 4 rfl rfl)
abbrev cX2_text : ByteArray := prog_20_method_23_code
abbrev yX2_text : MethodName := { cls := "WornSkin$Reader", name := "text", desc := "()V" }
def dkwX2_text_3 : List UInt8 := [16, 6, 182, 0, 233, 184, 1, 7, 182, 0, 209, 87, 177]
abbrev dktX2_text_3 : List UInt8 := dkwX2_text_3 ++ []
def dkwX2_text_2 : List UInt8 := [4, 160, 0, 7, 4, 167, 0, 4, 3, 62, 42, 180, 0, 166, 180, 1, 1, 28, 29, 42, 18, 38, 4]
abbrev dktX2_text_2 : List UInt8 := dkwX2_text_2 ++ dktX2_text_3
def dkwX2_text_1 : List UInt8 := [16, 20, 27, 96, 182, 0, 229, 42, 42, 180, 0, 33, 182, 1, 4, 61, 42, 42, 180, 0, 71, 182, 1, 4]
abbrev dktX2_text_1 : List UInt8 := dkwX2_text_1 ++ dktX2_text_2
def dkwX2_text_0 : List UInt8 := [42, 180, 0, 166, 180, 1, 1, 182, 0, 226, 60, 42, 27, 16, 6, 160, 0, 7, 4, 167, 0, 4, 3]
abbrev dktX2_text_0 : List UInt8 := dkwX2_text_0 ++ dktX2_text_1
theorem dksX2_text_0 : cX2_text.data.toList.drop 0 = dktX2_text_0 := by decide +kernel
theorem dksX2_text_1 : cX2_text.data.toList.drop 23 = dktX2_text_1 := dk_seg dksX2_text_0 23 rfl rfl
theorem dksX2_text_2 : cX2_text.data.toList.drop 47 = dktX2_text_2 := dk_seg dksX2_text_1 24 rfl rfl
theorem dksX2_text_3 : cX2_text.data.toList.drop 70 = dktX2_text_3 := dk_seg dksX2_text_2 23 rfl rfl
theorem dX2_text_0 : decode cX2_text 0 = .ok (.aload_n 0, 1) := dk_42 (dk_at dksX2_text_0 0 rfl rfl)
theorem dX2_text_1 : decode cX2_text 1 = .ok (.getfield 166, 3) := dk_180 0 166 (dk_at dksX2_text_0 1 rfl rfl)
theorem dX2_text_4 : decode cX2_text 4 = .ok (.getfield 257, 3) := dk_180 1 1 (dk_at dksX2_text_0 4 rfl rfl)
theorem dX2_text_7 : decode cX2_text 7 = .ok (.invokevirtual 226, 3) := dk_182 0 226 (dk_at dksX2_text_0 7 rfl rfl)
theorem dX2_text_10 : decode cX2_text 10 = .ok (.istore_n 1, 1) := dk_60 (dk_at dksX2_text_0 10 rfl rfl)
theorem dX2_text_11 : decode cX2_text 11 = .ok (.aload_n 0, 1) := dk_42 (dk_at dksX2_text_0 11 rfl rfl)
theorem dX2_text_12 : decode cX2_text 12 = .ok (.iload_n 1, 1) := dk_27 (dk_at dksX2_text_0 12 rfl rfl)
theorem dX2_text_13 : decode cX2_text 13 = .ok (.bipush 6, 2) := dk_16 6 (dk_at dksX2_text_0 13 rfl rfl)
theorem dX2_text_15 : decode cX2_text 15 = .ok (.if_icmp .ne 7, 3) := dk_160 0 7 (dk_at dksX2_text_0 15 rfl rfl)
theorem dX2_text_18 : decode cX2_text 18 = .ok (.iconst 1, 1) := dk_4 (dk_at dksX2_text_0 18 rfl rfl)
theorem dX2_text_19 : decode cX2_text 19 = .ok (.goto 4, 3) := dk_167 0 4 (dk_at dksX2_text_0 19 rfl rfl)
theorem dX2_text_22 : decode cX2_text 22 = .ok (.iconst 0, 1) := dk_3 (dk_at dksX2_text_0 22 rfl rfl)
theorem dX2_text_23 : decode cX2_text 23 = .ok (.bipush 20, 2) := dk_16 20 (dk_at dksX2_text_1 0 rfl rfl)
theorem dX2_text_25 : decode cX2_text 25 = .ok (.iload_n 1, 1) := dk_27 (dk_at dksX2_text_1 2 rfl rfl)
theorem dX2_text_26 : decode cX2_text 26 = .ok (.iadd, 1) := dk_96 (dk_at dksX2_text_1 3 rfl rfl)
theorem dX2_text_27 : decode cX2_text 27 = .ok (.invokevirtual 229, 3) := dk_182 0 229 (dk_at dksX2_text_1 4 rfl rfl)
theorem dX2_text_30 : decode cX2_text 30 = .ok (.aload_n 0, 1) := dk_42 (dk_at dksX2_text_1 7 rfl rfl)
theorem dX2_text_31 : decode cX2_text 31 = .ok (.aload_n 0, 1) := dk_42 (dk_at dksX2_text_1 8 rfl rfl)
theorem dX2_text_32 : decode cX2_text 32 = .ok (.getfield 33, 3) := dk_180 0 33 (dk_at dksX2_text_1 9 rfl rfl)
theorem dX2_text_35 : decode cX2_text 35 = .ok (.invokevirtual 260, 3) := dk_182 1 4 (dk_at dksX2_text_1 12 rfl rfl)
theorem dX2_text_38 : decode cX2_text 38 = .ok (.istore_n 2, 1) := dk_61 (dk_at dksX2_text_1 15 rfl rfl)
theorem dX2_text_39 : decode cX2_text 39 = .ok (.aload_n 0, 1) := dk_42 (dk_at dksX2_text_1 16 rfl rfl)
theorem dX2_text_40 : decode cX2_text 40 = .ok (.aload_n 0, 1) := dk_42 (dk_at dksX2_text_1 17 rfl rfl)
theorem dX2_text_41 : decode cX2_text 41 = .ok (.getfield 71, 3) := dk_180 0 71 (dk_at dksX2_text_1 18 rfl rfl)
theorem dX2_text_44 : decode cX2_text 44 = .ok (.invokevirtual 260, 3) := dk_182 1 4 (dk_at dksX2_text_1 21 rfl rfl)
theorem dX2_text_47 : decode cX2_text 47 = .ok (.iconst 1, 1) := dk_4 (dk_at dksX2_text_2 0 rfl rfl)
theorem dX2_text_48 : decode cX2_text 48 = .ok (.if_icmp .ne 7, 3) := dk_160 0 7 (dk_at dksX2_text_2 1 rfl rfl)
theorem dX2_text_51 : decode cX2_text 51 = .ok (.iconst 1, 1) := dk_4 (dk_at dksX2_text_2 4 rfl rfl)
theorem dX2_text_52 : decode cX2_text 52 = .ok (.goto 4, 3) := dk_167 0 4 (dk_at dksX2_text_2 5 rfl rfl)
theorem dX2_text_55 : decode cX2_text 55 = .ok (.iconst 0, 1) := dk_3 (dk_at dksX2_text_2 8 rfl rfl)
theorem dX2_text_56 : decode cX2_text 56 = .ok (.istore_n 3, 1) := dk_62 (dk_at dksX2_text_2 9 rfl rfl)
theorem dX2_text_57 : decode cX2_text 57 = .ok (.aload_n 0, 1) := dk_42 (dk_at dksX2_text_2 10 rfl rfl)
theorem dX2_text_58 : decode cX2_text 58 = .ok (.getfield 166, 3) := dk_180 0 166 (dk_at dksX2_text_2 11 rfl rfl)
theorem dX2_text_61 : decode cX2_text 61 = .ok (.getfield 257, 3) := dk_180 1 1 (dk_at dksX2_text_2 14 rfl rfl)
theorem dX2_text_64 : decode cX2_text 64 = .ok (.iload_n 2, 1) := dk_28 (dk_at dksX2_text_2 17 rfl rfl)
theorem dX2_text_65 : decode cX2_text 65 = .ok (.iload_n 3, 1) := dk_29 (dk_at dksX2_text_2 18 rfl rfl)
theorem dX2_text_66 : decode cX2_text 66 = .ok (.aload_n 0, 1) := dk_42 (dk_at dksX2_text_2 19 rfl rfl)
theorem dX2_text_67 : decode cX2_text 67 = .ok (.ldc 38, 2) := dk_18 38 (dk_at dksX2_text_2 20 rfl rfl)
theorem dX2_text_69 : decode cX2_text 69 = .ok (.iconst 1, 1) := dk_4 (dk_at dksX2_text_2 22 rfl rfl)
theorem dX2_text_70 : decode cX2_text 70 = .ok (.bipush 6, 2) := dk_16 6 (dk_at dksX2_text_3 0 rfl rfl)
theorem dX2_text_72 : decode cX2_text 72 = .ok (.invokevirtual 233, 3) := dk_182 0 233 (dk_at dksX2_text_3 2 rfl rfl)
theorem dX2_text_75 : decode cX2_text 75 = .ok (.invokestatic 263, 3) := dk_184 1 7 (dk_at dksX2_text_3 5 rfl rfl)
theorem dX2_text_78 : decode cX2_text 78 = .ok (.invokevirtual 209, 3) := dk_182 0 209 (dk_at dksX2_text_3 8 rfl rfl)
theorem dX2_text_81 : decode cX2_text 81 = .ok (.pop, 1) := dk_87 (dk_at dksX2_text_3 11 rfl rfl)
theorem dX2_text_82 : decode cX2_text 82 = .ok (.return_, 1) := dk_177 (dk_at dksX2_text_3 12 rfl rfl)
abbrev cX2_damp : ByteArray := prog_20_method_24_code
abbrev yX2_damp : MethodName := { cls := "WornSkin$Reader", name := "damp", desc := "()V" }
def dkwX2_damp_4 : List UInt8 := [180, 0, 166, 27, 182, 1, 14, 167, 255, 199, 177]
abbrev dktX2_damp_4 : List UInt8 := dkwX2_damp_4 ++ []
def dkwX2_damp_3 : List UInt8 := [16, 12, 160, 0, 19, 42, 89, 180, 0, 130, 4, 100, 181, 0, 130, 42, 8, 182, 0, 152, 191, 42]
abbrev dktX2_damp_3 : List UInt8 := dkwX2_damp_3 ++ dktX2_damp_4
def dkwX2_damp_2 : List UInt8 := [180, 0, 130, 46, 5, 160, 0, 50, 42, 3, 16, 9, 182, 0, 187, 60, 42, 180, 0, 166, 180, 1, 11]
abbrev dktX2_damp_2 : List UInt8 := dkwX2_damp_2 ++ dktX2_damp_3
def dkwX2_damp_1 : List UInt8 := [181, 0, 130, 42, 180, 0, 166, 42, 3, 16, 9, 182, 0, 187, 182, 1, 14, 42, 180, 0, 81, 42]
abbrev dktX2_damp_1 : List UInt8 := dkwX2_damp_1 ++ dktX2_damp_2
def dkwX2_damp_0 : List UInt8 := [42, 180, 0, 166, 180, 1, 11, 158, 0, 9, 42, 6, 182, 0, 152, 191, 42, 89, 180, 0, 130, 4, 96]
abbrev dktX2_damp_0 : List UInt8 := dkwX2_damp_0 ++ dktX2_damp_1
theorem dksX2_damp_0 : cX2_damp.data.toList.drop 0 = dktX2_damp_0 := by decide +kernel
theorem dksX2_damp_1 : cX2_damp.data.toList.drop 23 = dktX2_damp_1 := dk_seg dksX2_damp_0 23 rfl rfl
theorem dksX2_damp_2 : cX2_damp.data.toList.drop 45 = dktX2_damp_2 := dk_seg dksX2_damp_1 22 rfl rfl
theorem dksX2_damp_3 : cX2_damp.data.toList.drop 68 = dktX2_damp_3 := dk_seg dksX2_damp_2 23 rfl rfl
theorem dksX2_damp_4 : cX2_damp.data.toList.drop 90 = dktX2_damp_4 := dk_seg dksX2_damp_3 22 rfl rfl
theorem dX2_damp_0 : decode cX2_damp 0 = .ok (.aload_n 0, 1) := dk_42 (dk_at dksX2_damp_0 0 rfl rfl)
theorem dX2_damp_1 : decode cX2_damp 1 = .ok (.getfield 166, 3) := dk_180 0 166 (dk_at dksX2_damp_0 1 rfl rfl)
theorem dX2_damp_4 : decode cX2_damp 4 = .ok (.getfield 267, 3) := dk_180 1 11 (dk_at dksX2_damp_0 4 rfl rfl)
theorem dX2_damp_7 : decode cX2_damp 7 = .ok (.ifCond .le 9, 3) := dk_158 0 9 (dk_at dksX2_damp_0 7 rfl rfl)
theorem dX2_damp_10 : decode cX2_damp 10 = .ok (.aload_n 0, 1) := dk_42 (dk_at dksX2_damp_0 10 rfl rfl)
theorem dX2_damp_11 : decode cX2_damp 11 = .ok (.iconst 3, 1) := dk_6 (dk_at dksX2_damp_0 11 rfl rfl)
theorem dX2_damp_12 : decode cX2_damp 12 = .ok (.invokevirtual 152, 3) := dk_182 0 152 (dk_at dksX2_damp_0 12 rfl rfl)
theorem dX2_damp_15 : decode cX2_damp 15 = .ok (.athrow, 1) := dk_191 (dk_at dksX2_damp_0 15 rfl rfl)
theorem dX2_damp_16 : decode cX2_damp 16 = .ok (.aload_n 0, 1) := dk_42 (dk_at dksX2_damp_0 16 rfl rfl)
theorem dX2_damp_17 : decode cX2_damp 17 = .ok (.dup, 1) := dk_89 (dk_at dksX2_damp_0 17 rfl rfl)
theorem dX2_damp_18 : decode cX2_damp 18 = .ok (.getfield 130, 3) := dk_180 0 130 (dk_at dksX2_damp_0 18 rfl rfl)
theorem dX2_damp_21 : decode cX2_damp 21 = .ok (.iconst 1, 1) := dk_4 (dk_at dksX2_damp_0 21 rfl rfl)
theorem dX2_damp_22 : decode cX2_damp 22 = .ok (.iadd, 1) := dk_96 (dk_at dksX2_damp_0 22 rfl rfl)
theorem dX2_damp_23 : decode cX2_damp 23 = .ok (.putfield 130, 3) := dk_181 0 130 (dk_at dksX2_damp_1 0 rfl rfl)
theorem dX2_damp_26 : decode cX2_damp 26 = .ok (.aload_n 0, 1) := dk_42 (dk_at dksX2_damp_1 3 rfl rfl)
theorem dX2_damp_27 : decode cX2_damp 27 = .ok (.getfield 166, 3) := dk_180 0 166 (dk_at dksX2_damp_1 4 rfl rfl)
theorem dX2_damp_30 : decode cX2_damp 30 = .ok (.aload_n 0, 1) := dk_42 (dk_at dksX2_damp_1 7 rfl rfl)
theorem dX2_damp_31 : decode cX2_damp 31 = .ok (.iconst 0, 1) := dk_3 (dk_at dksX2_damp_1 8 rfl rfl)
theorem dX2_damp_32 : decode cX2_damp 32 = .ok (.bipush 9, 2) := dk_16 9 (dk_at dksX2_damp_1 9 rfl rfl)
theorem dX2_damp_34 : decode cX2_damp 34 = .ok (.invokevirtual 187, 3) := dk_182 0 187 (dk_at dksX2_damp_1 11 rfl rfl)
theorem dX2_damp_37 : decode cX2_damp 37 = .ok (.invokevirtual 270, 3) := dk_182 1 14 (dk_at dksX2_damp_1 14 rfl rfl)
theorem dX2_damp_40 : decode cX2_damp 40 = .ok (.aload_n 0, 1) := dk_42 (dk_at dksX2_damp_1 17 rfl rfl)
theorem dX2_damp_41 : decode cX2_damp 41 = .ok (.getfield 81, 3) := dk_180 0 81 (dk_at dksX2_damp_1 18 rfl rfl)
theorem dX2_damp_44 : decode cX2_damp 44 = .ok (.aload_n 0, 1) := dk_42 (dk_at dksX2_damp_1 21 rfl rfl)
theorem dX2_damp_45 : decode cX2_damp 45 = .ok (.getfield 130, 3) := dk_180 0 130 (dk_at dksX2_damp_2 0 rfl rfl)
theorem dX2_damp_48 : decode cX2_damp 48 = .ok (.iaload, 1) := dk_46 (dk_at dksX2_damp_2 3 rfl rfl)
theorem dX2_damp_49 : decode cX2_damp 49 = .ok (.iconst 2, 1) := dk_5 (dk_at dksX2_damp_2 4 rfl rfl)
theorem dX2_damp_50 : decode cX2_damp 50 = .ok (.if_icmp .ne 50, 3) := dk_160 0 50 (dk_at dksX2_damp_2 5 rfl rfl)
theorem dX2_damp_53 : decode cX2_damp 53 = .ok (.aload_n 0, 1) := dk_42 (dk_at dksX2_damp_2 8 rfl rfl)
theorem dX2_damp_54 : decode cX2_damp 54 = .ok (.iconst 0, 1) := dk_3 (dk_at dksX2_damp_2 9 rfl rfl)
theorem dX2_damp_55 : decode cX2_damp 55 = .ok (.bipush 9, 2) := dk_16 9 (dk_at dksX2_damp_2 10 rfl rfl)
theorem dX2_damp_57 : decode cX2_damp 57 = .ok (.invokevirtual 187, 3) := dk_182 0 187 (dk_at dksX2_damp_2 12 rfl rfl)
theorem dX2_damp_60 : decode cX2_damp 60 = .ok (.istore_n 1, 1) := dk_60 (dk_at dksX2_damp_2 15 rfl rfl)
theorem dX2_damp_61 : decode cX2_damp 61 = .ok (.aload_n 0, 1) := dk_42 (dk_at dksX2_damp_2 16 rfl rfl)
theorem dX2_damp_62 : decode cX2_damp 62 = .ok (.getfield 166, 3) := dk_180 0 166 (dk_at dksX2_damp_2 17 rfl rfl)
theorem dX2_damp_65 : decode cX2_damp 65 = .ok (.getfield 267, 3) := dk_180 1 11 (dk_at dksX2_damp_2 20 rfl rfl)
theorem dX2_damp_68 : decode cX2_damp 68 = .ok (.bipush 12, 2) := dk_16 12 (dk_at dksX2_damp_3 0 rfl rfl)
theorem dX2_damp_70 : decode cX2_damp 70 = .ok (.if_icmp .ne 19, 3) := dk_160 0 19 (dk_at dksX2_damp_3 2 rfl rfl)
theorem dX2_damp_73 : decode cX2_damp 73 = .ok (.aload_n 0, 1) := dk_42 (dk_at dksX2_damp_3 5 rfl rfl)
theorem dX2_damp_74 : decode cX2_damp 74 = .ok (.dup, 1) := dk_89 (dk_at dksX2_damp_3 6 rfl rfl)
theorem dX2_damp_75 : decode cX2_damp 75 = .ok (.getfield 130, 3) := dk_180 0 130 (dk_at dksX2_damp_3 7 rfl rfl)
theorem dX2_damp_78 : decode cX2_damp 78 = .ok (.iconst 1, 1) := dk_4 (dk_at dksX2_damp_3 10 rfl rfl)
theorem dX2_damp_79 : decode cX2_damp 79 = .ok (.isub, 1) := dk_100 (dk_at dksX2_damp_3 11 rfl rfl)
theorem dX2_damp_80 : decode cX2_damp 80 = .ok (.putfield 130, 3) := dk_181 0 130 (dk_at dksX2_damp_3 12 rfl rfl)
theorem dX2_damp_83 : decode cX2_damp 83 = .ok (.aload_n 0, 1) := dk_42 (dk_at dksX2_damp_3 15 rfl rfl)
theorem dX2_damp_84 : decode cX2_damp 84 = .ok (.iconst 5, 1) := dk_8 (dk_at dksX2_damp_3 16 rfl rfl)
theorem dX2_damp_85 : decode cX2_damp 85 = .ok (.invokevirtual 152, 3) := dk_182 0 152 (dk_at dksX2_damp_3 17 rfl rfl)
theorem dX2_damp_88 : decode cX2_damp 88 = .ok (.athrow, 1) := dk_191 (dk_at dksX2_damp_3 20 rfl rfl)
theorem dX2_damp_89 : decode cX2_damp 89 = .ok (.aload_n 0, 1) := dk_42 (dk_at dksX2_damp_3 21 rfl rfl)
theorem dX2_damp_90 : decode cX2_damp 90 = .ok (.getfield 166, 3) := dk_180 0 166 (dk_at dksX2_damp_4 0 rfl rfl)
theorem dX2_damp_93 : decode cX2_damp 93 = .ok (.iload_n 1, 1) := dk_27 (dk_at dksX2_damp_4 3 rfl rfl)
theorem dX2_damp_94 : decode cX2_damp 94 = .ok (.invokevirtual 270, 3) := dk_182 1 14 (dk_at dksX2_damp_4 4 rfl rfl)
theorem dX2_damp_97 : decode cX2_damp 97 = .ok (.goto (-57), 3) := dk_167 255 199 (dk_at dksX2_damp_4 7 rfl rfl)
theorem dX2_damp_100 : decode cX2_damp 100 = .ok (.return_, 1) := dk_177 (dk_at dksX2_damp_4 10 rfl rfl)
abbrev cX2_isSign : ByteArray := prog_20_method_11_code
abbrev yX2_isSign : MethodName := { cls := "WornSkin$Reader", name := "isSign", desc := "(I)Z" }
def dkwX2_isSign_1 : List UInt8 := [148, 154, 0, 7, 4, 167, 0, 4, 3, 172]
abbrev dktX2_isSign_1 : List UInt8 := dkwX2_isSign_1 ++ []
def dkwX2_isSign_0 : List UInt8 := [42, 180, 0, 81, 42, 180, 0, 130, 46, 6, 160, 0, 22, 42, 180, 0, 84, 42, 180, 0, 130, 47, 27, 133]
abbrev dktX2_isSign_0 : List UInt8 := dkwX2_isSign_0 ++ dktX2_isSign_1
theorem dksX2_isSign_0 : cX2_isSign.data.toList.drop 0 = dktX2_isSign_0 := by decide +kernel
theorem dksX2_isSign_1 : cX2_isSign.data.toList.drop 24 = dktX2_isSign_1 := dk_seg dksX2_isSign_0 24 rfl rfl
theorem dX2_isSign_0 : decode cX2_isSign 0 = .ok (.aload_n 0, 1) := dk_42 (dk_at dksX2_isSign_0 0 rfl rfl)
theorem dX2_isSign_1 : decode cX2_isSign 1 = .ok (.getfield 81, 3) := dk_180 0 81 (dk_at dksX2_isSign_0 1 rfl rfl)
theorem dX2_isSign_4 : decode cX2_isSign 4 = .ok (.aload_n 0, 1) := dk_42 (dk_at dksX2_isSign_0 4 rfl rfl)
theorem dX2_isSign_5 : decode cX2_isSign 5 = .ok (.getfield 130, 3) := dk_180 0 130 (dk_at dksX2_isSign_0 5 rfl rfl)
theorem dX2_isSign_8 : decode cX2_isSign 8 = .ok (.iaload, 1) := dk_46 (dk_at dksX2_isSign_0 8 rfl rfl)
theorem dX2_isSign_9 : decode cX2_isSign 9 = .ok (.iconst 3, 1) := dk_6 (dk_at dksX2_isSign_0 9 rfl rfl)
theorem dX2_isSign_10 : decode cX2_isSign 10 = .ok (.if_icmp .ne 22, 3) := dk_160 0 22 (dk_at dksX2_isSign_0 10 rfl rfl)
theorem dX2_isSign_13 : decode cX2_isSign 13 = .ok (.aload_n 0, 1) := dk_42 (dk_at dksX2_isSign_0 13 rfl rfl)
theorem dX2_isSign_14 : decode cX2_isSign 14 = .ok (.getfield 84, 3) := dk_180 0 84 (dk_at dksX2_isSign_0 14 rfl rfl)
theorem dX2_isSign_17 : decode cX2_isSign 17 = .ok (.aload_n 0, 1) := dk_42 (dk_at dksX2_isSign_0 17 rfl rfl)
theorem dX2_isSign_18 : decode cX2_isSign 18 = .ok (.getfield 130, 3) := dk_180 0 130 (dk_at dksX2_isSign_0 18 rfl rfl)
theorem dX2_isSign_21 : decode cX2_isSign 21 = .ok (.laload, 1) := dk_47 (dk_at dksX2_isSign_0 21 rfl rfl)
theorem dX2_isSign_22 : decode cX2_isSign 22 = .ok (.iload_n 1, 1) := dk_27 (dk_at dksX2_isSign_0 22 rfl rfl)
theorem dX2_isSign_23 : decode cX2_isSign 23 = .ok (.i2l, 1) := dk_133 (dk_at dksX2_isSign_0 23 rfl rfl)
theorem dX2_isSign_24 : decode cX2_isSign 24 = .ok (.lcmp, 1) := dk_148 (dk_at dksX2_isSign_1 0 rfl rfl)
theorem dX2_isSign_25 : decode cX2_isSign 25 = .ok (.ifCond .ne 7, 3) := dk_154 0 7 (dk_at dksX2_isSign_1 1 rfl rfl)
theorem dX2_isSign_28 : decode cX2_isSign 28 = .ok (.iconst 1, 1) := dk_4 (dk_at dksX2_isSign_1 4 rfl rfl)
theorem dX2_isSign_29 : decode cX2_isSign 29 = .ok (.goto 4, 3) := dk_167 0 4 (dk_at dksX2_isSign_1 5 rfl rfl)
theorem dX2_isSign_32 : decode cX2_isSign 32 = .ok (.iconst 0, 1) := dk_3 (dk_at dksX2_isSign_1 8 rfl rfl)
theorem dX2_isSign_33 : decode cX2_isSign 33 = .ok (.ireturn, 1) := dk_172 (dk_at dksX2_isSign_1 9 rfl rfl)
abbrev cX2_hasSign : ByteArray := prog_20_method_12_code
abbrev yX2_hasSign : MethodName := { cls := "WornSkin$Reader", name := "hasSign", desc := "(I)Z" }
def dkwX2_hasSign_0 : List UInt8 := [42, 27, 182, 0, 146, 61, 28, 153, 0, 13, 42, 89, 180, 0, 130, 4, 96, 181, 0, 130, 28, 172]
abbrev dktX2_hasSign_0 : List UInt8 := dkwX2_hasSign_0 ++ []
theorem dksX2_hasSign_0 : cX2_hasSign.data.toList.drop 0 = dktX2_hasSign_0 := by decide +kernel
theorem dX2_hasSign_0 : decode cX2_hasSign 0 = .ok (.aload_n 0, 1) := dk_42 (dk_at dksX2_hasSign_0 0 rfl rfl)
theorem dX2_hasSign_1 : decode cX2_hasSign 1 = .ok (.iload_n 1, 1) := dk_27 (dk_at dksX2_hasSign_0 1 rfl rfl)
theorem dX2_hasSign_2 : decode cX2_hasSign 2 = .ok (.invokevirtual 146, 3) := dk_182 0 146 (dk_at dksX2_hasSign_0 2 rfl rfl)
theorem dX2_hasSign_5 : decode cX2_hasSign 5 = .ok (.istore_n 2, 1) := dk_61 (dk_at dksX2_hasSign_0 5 rfl rfl)
theorem dX2_hasSign_6 : decode cX2_hasSign 6 = .ok (.iload_n 2, 1) := dk_28 (dk_at dksX2_hasSign_0 6 rfl rfl)
theorem dX2_hasSign_7 : decode cX2_hasSign 7 = .ok (.ifCond .eq 13, 3) := dk_153 0 13 (dk_at dksX2_hasSign_0 7 rfl rfl)
theorem dX2_hasSign_10 : decode cX2_hasSign 10 = .ok (.aload_n 0, 1) := dk_42 (dk_at dksX2_hasSign_0 10 rfl rfl)
theorem dX2_hasSign_11 : decode cX2_hasSign 11 = .ok (.dup, 1) := dk_89 (dk_at dksX2_hasSign_0 11 rfl rfl)
theorem dX2_hasSign_12 : decode cX2_hasSign 12 = .ok (.getfield 130, 3) := dk_180 0 130 (dk_at dksX2_hasSign_0 12 rfl rfl)
theorem dX2_hasSign_15 : decode cX2_hasSign 15 = .ok (.iconst 1, 1) := dk_4 (dk_at dksX2_hasSign_0 15 rfl rfl)
theorem dX2_hasSign_16 : decode cX2_hasSign 16 = .ok (.iadd, 1) := dk_96 (dk_at dksX2_hasSign_0 16 rfl rfl)
theorem dX2_hasSign_17 : decode cX2_hasSign 17 = .ok (.putfield 130, 3) := dk_181 0 130 (dk_at dksX2_hasSign_0 17 rfl rfl)
theorem dX2_hasSign_20 : decode cX2_hasSign 20 = .ok (.iload_n 2, 1) := dk_28 (dk_at dksX2_hasSign_0 20 rfl rfl)
theorem dX2_hasSign_21 : decode cX2_hasSign 21 = .ok (.ireturn, 1) := dk_172 (dk_at dksX2_hasSign_0 21 rfl rfl)
abbrev cX2_sign : ByteArray := prog_20_method_13_code
abbrev yX2_sign : MethodName := { cls := "WornSkin$Reader", name := "sign", desc := "(I)V" }
def dkwX2_sign_0 : List UInt8 := [42, 27, 182, 0, 149, 154, 0, 9, 42, 4, 182, 0, 152, 191, 177]
abbrev dktX2_sign_0 : List UInt8 := dkwX2_sign_0 ++ []
theorem dksX2_sign_0 : cX2_sign.data.toList.drop 0 = dktX2_sign_0 := by decide +kernel
theorem dX2_sign_0 : decode cX2_sign 0 = .ok (.aload_n 0, 1) := dk_42 (dk_at dksX2_sign_0 0 rfl rfl)
theorem dX2_sign_1 : decode cX2_sign 1 = .ok (.iload_n 1, 1) := dk_27 (dk_at dksX2_sign_0 1 rfl rfl)
theorem dX2_sign_2 : decode cX2_sign 2 = .ok (.invokevirtual 149, 3) := dk_182 0 149 (dk_at dksX2_sign_0 2 rfl rfl)
theorem dX2_sign_5 : decode cX2_sign 5 = .ok (.ifCond .ne 9, 3) := dk_154 0 9 (dk_at dksX2_sign_0 5 rfl rfl)
theorem dX2_sign_8 : decode cX2_sign 8 = .ok (.aload_n 0, 1) := dk_42 (dk_at dksX2_sign_0 8 rfl rfl)
theorem dX2_sign_9 : decode cX2_sign 9 = .ok (.iconst 1, 1) := dk_4 (dk_at dksX2_sign_0 9 rfl rfl)
theorem dX2_sign_10 : decode cX2_sign 10 = .ok (.invokevirtual 152, 3) := dk_182 0 152 (dk_at dksX2_sign_0 10 rfl rfl)
theorem dX2_sign_13 : decode cX2_sign 13 = .ok (.athrow, 1) := dk_191 (dk_at dksX2_sign_0 13 rfl rfl)
theorem dX2_sign_14 : decode cX2_sign 14 = .ok (.return_, 1) := dk_177 (dk_at dksX2_sign_0 14 rfl rfl)
abbrev cX2_chain : ByteArray := prog_20_method_30_code
abbrev yX2_chain : MethodName := { cls := "WornSkin$Reader", name := "chain", desc := "(LWornSkin$Expression;LWornSkin$Chain;)LWornSkin$Chain;" }
def dkwX2_chain_0 : List UInt8 := [43, 199, 0, 14, 187, 1, 50, 89, 42, 183, 1, 52, 167, 0, 4, 43, 176]
abbrev dktX2_chain_0 : List UInt8 := dkwX2_chain_0 ++ []
theorem dksX2_chain_0 : cX2_chain.data.toList.drop 0 = dktX2_chain_0 := by decide +kernel
theorem dX2_chain_0 : decode cX2_chain 0 = .ok (.aload_n 1, 1) := dk_43 (dk_at dksX2_chain_0 0 rfl rfl)
theorem dX2_chain_1 : decode cX2_chain 1 = .ok (.ifnonnull 14, 3) := dk_199 0 14 (dk_at dksX2_chain_0 1 rfl rfl)
theorem dX2_chain_4 : decode cX2_chain 4 = .ok (.new 306, 3) := dk_187 1 50 (dk_at dksX2_chain_0 4 rfl rfl)
theorem dX2_chain_7 : decode cX2_chain 7 = .ok (.dup, 1) := dk_89 (dk_at dksX2_chain_0 7 rfl rfl)
theorem dX2_chain_8 : decode cX2_chain 8 = .ok (.aload_n 0, 1) := dk_42 (dk_at dksX2_chain_0 8 rfl rfl)
theorem dX2_chain_9 : decode cX2_chain 9 = .ok (.invokespecial 308, 3) := dk_183 1 52 (dk_at dksX2_chain_0 9 rfl rfl)
theorem dX2_chain_12 : decode cX2_chain 12 = .ok (.goto 4, 3) := dk_167 0 4 (dk_at dksX2_chain_0 12 rfl rfl)
theorem dX2_chain_15 : decode cX2_chain 15 = .ok (.aload_n 1, 1) := dk_43 (dk_at dksX2_chain_0 15 rfl rfl)
theorem dX2_chain_16 : decode cX2_chain 16 = .ok (.areturn, 1) := dk_176 (dk_at dksX2_chain_0 16 rfl rfl)
abbrev cX2_line : ByteArray := prog_20_method_27_code
abbrev yX2_line : MethodName := { cls := "WornSkin$Reader", name := "line", desc := "(I)LWornSkin$Line;" }
def dkwX2_line_2 : List UInt8 := [42, 3, 182, 0, 241, 62, 187, 1, 37, 89, 28, 29, 42, 3, 8, 182, 0, 187, 183, 1, 39, 176]
abbrev dktX2_line_2 : List UInt8 := dkwX2_line_2 ++ []
def dkwX2_line_1 : List UInt8 := [182, 0, 241, 27, 5, 160, 0, 7, 4, 167, 0, 4, 3, 183, 1, 34, 176, 42, 16, 20, 182, 0, 241, 61]
abbrev dktX2_line_1 : List UInt8 := dkwX2_line_1 ++ dktX2_line_2
def dkwX2_line_0 : List UInt8 := [27, 6, 160, 0, 11, 187, 1, 29, 89, 183, 1, 31, 176, 27, 158, 0, 26, 187, 1, 32, 89, 42, 3]
abbrev dktX2_line_0 : List UInt8 := dkwX2_line_0 ++ dktX2_line_1
theorem dksX2_line_0 : cX2_line.data.toList.drop 0 = dktX2_line_0 := by decide +kernel
theorem dksX2_line_1 : cX2_line.data.toList.drop 23 = dktX2_line_1 := dk_seg dksX2_line_0 23 rfl rfl
theorem dksX2_line_2 : cX2_line.data.toList.drop 47 = dktX2_line_2 := dk_seg dksX2_line_1 24 rfl rfl
theorem dX2_line_0 : decode cX2_line 0 = .ok (.iload_n 1, 1) := dk_27 (dk_at dksX2_line_0 0 rfl rfl)
theorem dX2_line_1 : decode cX2_line 1 = .ok (.iconst 3, 1) := dk_6 (dk_at dksX2_line_0 1 rfl rfl)
theorem dX2_line_2 : decode cX2_line 2 = .ok (.if_icmp .ne 11, 3) := dk_160 0 11 (dk_at dksX2_line_0 2 rfl rfl)
theorem dX2_line_5 : decode cX2_line 5 = .ok (.new 285, 3) := dk_187 1 29 (dk_at dksX2_line_0 5 rfl rfl)
theorem dX2_line_8 : decode cX2_line 8 = .ok (.dup, 1) := dk_89 (dk_at dksX2_line_0 8 rfl rfl)
theorem dX2_line_9 : decode cX2_line 9 = .ok (.invokespecial 287, 3) := dk_183 1 31 (dk_at dksX2_line_0 9 rfl rfl)
theorem dX2_line_12 : decode cX2_line 12 = .ok (.areturn, 1) := dk_176 (dk_at dksX2_line_0 12 rfl rfl)
theorem dX2_line_13 : decode cX2_line 13 = .ok (.iload_n 1, 1) := dk_27 (dk_at dksX2_line_0 13 rfl rfl)
theorem dX2_line_14 : decode cX2_line 14 = .ok (.ifCond .le 26, 3) := dk_158 0 26 (dk_at dksX2_line_0 14 rfl rfl)
theorem dX2_line_17 : decode cX2_line 17 = .ok (.new 288, 3) := dk_187 1 32 (dk_at dksX2_line_0 17 rfl rfl)
theorem dX2_line_20 : decode cX2_line 20 = .ok (.dup, 1) := dk_89 (dk_at dksX2_line_0 20 rfl rfl)
theorem dX2_line_21 : decode cX2_line 21 = .ok (.aload_n 0, 1) := dk_42 (dk_at dksX2_line_0 21 rfl rfl)
theorem dX2_line_22 : decode cX2_line 22 = .ok (.iconst 0, 1) := dk_3 (dk_at dksX2_line_0 22 rfl rfl)
theorem dX2_line_23 : decode cX2_line 23 = .ok (.invokevirtual 241, 3) := dk_182 0 241 (dk_at dksX2_line_1 0 rfl rfl)
theorem dX2_line_26 : decode cX2_line 26 = .ok (.iload_n 1, 1) := dk_27 (dk_at dksX2_line_1 3 rfl rfl)
theorem dX2_line_27 : decode cX2_line 27 = .ok (.iconst 2, 1) := dk_5 (dk_at dksX2_line_1 4 rfl rfl)
theorem dX2_line_28 : decode cX2_line 28 = .ok (.if_icmp .ne 7, 3) := dk_160 0 7 (dk_at dksX2_line_1 5 rfl rfl)
theorem dX2_line_31 : decode cX2_line 31 = .ok (.iconst 1, 1) := dk_4 (dk_at dksX2_line_1 8 rfl rfl)
theorem dX2_line_32 : decode cX2_line 32 = .ok (.goto 4, 3) := dk_167 0 4 (dk_at dksX2_line_1 9 rfl rfl)
theorem dX2_line_35 : decode cX2_line 35 = .ok (.iconst 0, 1) := dk_3 (dk_at dksX2_line_1 12 rfl rfl)
theorem dX2_line_36 : decode cX2_line 36 = .ok (.invokespecial 290, 3) := dk_183 1 34 (dk_at dksX2_line_1 13 rfl rfl)
theorem dX2_line_39 : decode cX2_line 39 = .ok (.areturn, 1) := dk_176 (dk_at dksX2_line_1 16 rfl rfl)
theorem dX2_line_40 : decode cX2_line 40 = .ok (.aload_n 0, 1) := dk_42 (dk_at dksX2_line_1 17 rfl rfl)
theorem dX2_line_41 : decode cX2_line 41 = .ok (.bipush 20, 2) := dk_16 20 (dk_at dksX2_line_1 18 rfl rfl)
theorem dX2_line_43 : decode cX2_line 43 = .ok (.invokevirtual 241, 3) := dk_182 0 241 (dk_at dksX2_line_1 20 rfl rfl)
theorem dX2_line_46 : decode cX2_line 46 = .ok (.istore_n 2, 1) := dk_61 (dk_at dksX2_line_1 23 rfl rfl)
theorem dX2_line_47 : decode cX2_line 47 = .ok (.aload_n 0, 1) := dk_42 (dk_at dksX2_line_2 0 rfl rfl)
theorem dX2_line_48 : decode cX2_line 48 = .ok (.iconst 0, 1) := dk_3 (dk_at dksX2_line_2 1 rfl rfl)
theorem dX2_line_49 : decode cX2_line 49 = .ok (.invokevirtual 241, 3) := dk_182 0 241 (dk_at dksX2_line_2 2 rfl rfl)
theorem dX2_line_52 : decode cX2_line 52 = .ok (.istore_n 3, 1) := dk_62 (dk_at dksX2_line_2 5 rfl rfl)
theorem dX2_line_53 : decode cX2_line 53 = .ok (.new 293, 3) := dk_187 1 37 (dk_at dksX2_line_2 6 rfl rfl)
theorem dX2_line_56 : decode cX2_line 56 = .ok (.dup, 1) := dk_89 (dk_at dksX2_line_2 9 rfl rfl)
theorem dX2_line_57 : decode cX2_line 57 = .ok (.iload_n 2, 1) := dk_28 (dk_at dksX2_line_2 10 rfl rfl)
theorem dX2_line_58 : decode cX2_line 58 = .ok (.iload_n 3, 1) := dk_29 (dk_at dksX2_line_2 11 rfl rfl)
theorem dX2_line_59 : decode cX2_line 59 = .ok (.aload_n 0, 1) := dk_42 (dk_at dksX2_line_2 12 rfl rfl)
theorem dX2_line_60 : decode cX2_line 60 = .ok (.iconst 0, 1) := dk_3 (dk_at dksX2_line_2 13 rfl rfl)
theorem dX2_line_61 : decode cX2_line 61 = .ok (.iconst 5, 1) := dk_8 (dk_at dksX2_line_2 14 rfl rfl)
theorem dX2_line_62 : decode cX2_line 62 = .ok (.invokevirtual 187, 3) := dk_182 0 187 (dk_at dksX2_line_2 15 rfl rfl)
theorem dX2_line_65 : decode cX2_line 65 = .ok (.invokespecial 295, 3) := dk_183 1 39 (dk_at dksX2_line_2 18 rfl rfl)
theorem dX2_line_68 : decode cX2_line 68 = .ok (.areturn, 1) := dk_176 (dk_at dksX2_line_2 21 rfl rfl)
abbrev cX2_year : ByteArray := prog_20_method_26_code
abbrev yX2_year : MethodName := { cls := "WornSkin$Reader", name := "year", desc := "(LWornSkin$Library;)Ljava/util/ArrayList;" }
def dkwX2_year_4 : List UInt8 := [44, 176]
abbrev dktX2_year_4 : List UInt8 := dkwX2_year_4 ++ []
def dkwX2_year_3 : List UInt8 := [4, 96, 181, 0, 130, 44, 42, 29, 182, 1, 25, 182, 0, 209, 87, 42, 16, 59, 182, 0, 180, 167, 255, 183]
abbrev dktX2_year_3 : List UInt8 := dkwX2_year_3 ++ dktX2_year_4
def dkwX2_year_2 : List UInt8 := [182, 0, 152, 191, 44, 182, 0, 226, 16, 40, 160, 0, 9, 42, 8, 182, 0, 152, 191, 42, 89, 180, 0, 130]
abbrev dktX2_year_2 : List UInt8 := dkwX2_year_2 ++ dktX2_year_3
def dkwX2_year_1 : List UInt8 := [180, 0, 130, 46, 153, 0, 67, 42, 42, 180, 0, 74, 182, 0, 156, 62, 29, 2, 160, 0, 9, 42, 4]
abbrev dktX2_year_1 : List UInt8 := dkwX2_year_1 ++ dktX2_year_2
def dkwX2_year_0 : List UInt8 := [42, 182, 0, 160, 42, 43, 181, 0, 166, 187, 0, 210, 89, 5, 183, 1, 24, 77, 42, 180, 0, 81, 42]
abbrev dktX2_year_0 : List UInt8 := dkwX2_year_0 ++ dktX2_year_1
theorem dksX2_year_0 : cX2_year.data.toList.drop 0 = dktX2_year_0 := by decide +kernel
theorem dksX2_year_1 : cX2_year.data.toList.drop 23 = dktX2_year_1 := dk_seg dksX2_year_0 23 rfl rfl
theorem dksX2_year_2 : cX2_year.data.toList.drop 46 = dktX2_year_2 := dk_seg dksX2_year_1 23 rfl rfl
theorem dksX2_year_3 : cX2_year.data.toList.drop 70 = dktX2_year_3 := dk_seg dksX2_year_2 24 rfl rfl
theorem dksX2_year_4 : cX2_year.data.toList.drop 94 = dktX2_year_4 := dk_seg dksX2_year_3 24 rfl rfl
theorem dX2_year_0 : decode cX2_year 0 = .ok (.aload_n 0, 1) := dk_42 (dk_at dksX2_year_0 0 rfl rfl)
theorem dX2_year_1 : decode cX2_year 1 = .ok (.invokevirtual 160, 3) := dk_182 0 160 (dk_at dksX2_year_0 1 rfl rfl)
theorem dX2_year_4 : decode cX2_year 4 = .ok (.aload_n 0, 1) := dk_42 (dk_at dksX2_year_0 4 rfl rfl)
theorem dX2_year_5 : decode cX2_year 5 = .ok (.aload_n 1, 1) := dk_43 (dk_at dksX2_year_0 5 rfl rfl)
theorem dX2_year_6 : decode cX2_year 6 = .ok (.putfield 166, 3) := dk_181 0 166 (dk_at dksX2_year_0 6 rfl rfl)
theorem dX2_year_9 : decode cX2_year 9 = .ok (.new 210, 3) := dk_187 0 210 (dk_at dksX2_year_0 9 rfl rfl)
theorem dX2_year_12 : decode cX2_year 12 = .ok (.dup, 1) := dk_89 (dk_at dksX2_year_0 12 rfl rfl)
theorem dX2_year_13 : decode cX2_year 13 = .ok (.iconst 2, 1) := dk_5 (dk_at dksX2_year_0 13 rfl rfl)
theorem dX2_year_14 : decode cX2_year 14 = .ok (.invokespecial 280, 3) := dk_183 1 24 (dk_at dksX2_year_0 14 rfl rfl)
theorem dX2_year_17 : decode cX2_year 17 = .ok (.astore_n 2, 1) := dk_77 (dk_at dksX2_year_0 17 rfl rfl)
theorem dX2_year_18 : decode cX2_year 18 = .ok (.aload_n 0, 1) := dk_42 (dk_at dksX2_year_0 18 rfl rfl)
theorem dX2_year_19 : decode cX2_year 19 = .ok (.getfield 81, 3) := dk_180 0 81 (dk_at dksX2_year_0 19 rfl rfl)
theorem dX2_year_22 : decode cX2_year 22 = .ok (.aload_n 0, 1) := dk_42 (dk_at dksX2_year_0 22 rfl rfl)
theorem dX2_year_23 : decode cX2_year 23 = .ok (.getfield 130, 3) := dk_180 0 130 (dk_at dksX2_year_1 0 rfl rfl)
theorem dX2_year_26 : decode cX2_year 26 = .ok (.iaload, 1) := dk_46 (dk_at dksX2_year_1 3 rfl rfl)
theorem dX2_year_27 : decode cX2_year 27 = .ok (.ifCond .eq 67, 3) := dk_153 0 67 (dk_at dksX2_year_1 4 rfl rfl)
theorem dX2_year_30 : decode cX2_year 30 = .ok (.aload_n 0, 1) := dk_42 (dk_at dksX2_year_1 7 rfl rfl)
theorem dX2_year_31 : decode cX2_year 31 = .ok (.aload_n 0, 1) := dk_42 (dk_at dksX2_year_1 8 rfl rfl)
theorem dX2_year_32 : decode cX2_year 32 = .ok (.getfield 74, 3) := dk_180 0 74 (dk_at dksX2_year_1 9 rfl rfl)
theorem dX2_year_35 : decode cX2_year 35 = .ok (.invokevirtual 156, 3) := dk_182 0 156 (dk_at dksX2_year_1 12 rfl rfl)
theorem dX2_year_38 : decode cX2_year 38 = .ok (.istore_n 3, 1) := dk_62 (dk_at dksX2_year_1 15 rfl rfl)
theorem dX2_year_39 : decode cX2_year 39 = .ok (.iload_n 3, 1) := dk_29 (dk_at dksX2_year_1 16 rfl rfl)
theorem dX2_year_40 : decode cX2_year 40 = .ok (.iconst (-1), 1) := dk_2 (dk_at dksX2_year_1 17 rfl rfl)
theorem dX2_year_41 : decode cX2_year 41 = .ok (.if_icmp .ne 9, 3) := dk_160 0 9 (dk_at dksX2_year_1 18 rfl rfl)
theorem dX2_year_44 : decode cX2_year 44 = .ok (.aload_n 0, 1) := dk_42 (dk_at dksX2_year_1 21 rfl rfl)
theorem dX2_year_45 : decode cX2_year 45 = .ok (.iconst 1, 1) := dk_4 (dk_at dksX2_year_1 22 rfl rfl)
theorem dX2_year_46 : decode cX2_year 46 = .ok (.invokevirtual 152, 3) := dk_182 0 152 (dk_at dksX2_year_2 0 rfl rfl)
theorem dX2_year_49 : decode cX2_year 49 = .ok (.athrow, 1) := dk_191 (dk_at dksX2_year_2 3 rfl rfl)
theorem dX2_year_50 : decode cX2_year 50 = .ok (.aload_n 2, 1) := dk_44 (dk_at dksX2_year_2 4 rfl rfl)
theorem dX2_year_51 : decode cX2_year 51 = .ok (.invokevirtual 226, 3) := dk_182 0 226 (dk_at dksX2_year_2 5 rfl rfl)
theorem dX2_year_54 : decode cX2_year 54 = .ok (.bipush 40, 2) := dk_16 40 (dk_at dksX2_year_2 8 rfl rfl)
theorem dX2_year_56 : decode cX2_year 56 = .ok (.if_icmp .ne 9, 3) := dk_160 0 9 (dk_at dksX2_year_2 10 rfl rfl)
theorem dX2_year_59 : decode cX2_year 59 = .ok (.aload_n 0, 1) := dk_42 (dk_at dksX2_year_2 13 rfl rfl)
theorem dX2_year_60 : decode cX2_year 60 = .ok (.iconst 5, 1) := dk_8 (dk_at dksX2_year_2 14 rfl rfl)
theorem dX2_year_61 : decode cX2_year 61 = .ok (.invokevirtual 152, 3) := dk_182 0 152 (dk_at dksX2_year_2 15 rfl rfl)
theorem dX2_year_64 : decode cX2_year 64 = .ok (.athrow, 1) := dk_191 (dk_at dksX2_year_2 18 rfl rfl)
theorem dX2_year_65 : decode cX2_year 65 = .ok (.aload_n 0, 1) := dk_42 (dk_at dksX2_year_2 19 rfl rfl)
theorem dX2_year_66 : decode cX2_year 66 = .ok (.dup, 1) := dk_89 (dk_at dksX2_year_2 20 rfl rfl)
theorem dX2_year_67 : decode cX2_year 67 = .ok (.getfield 130, 3) := dk_180 0 130 (dk_at dksX2_year_2 21 rfl rfl)
theorem dX2_year_70 : decode cX2_year 70 = .ok (.iconst 1, 1) := dk_4 (dk_at dksX2_year_3 0 rfl rfl)
theorem dX2_year_71 : decode cX2_year 71 = .ok (.iadd, 1) := dk_96 (dk_at dksX2_year_3 1 rfl rfl)
theorem dX2_year_72 : decode cX2_year 72 = .ok (.putfield 130, 3) := dk_181 0 130 (dk_at dksX2_year_3 2 rfl rfl)
theorem dX2_year_75 : decode cX2_year 75 = .ok (.aload_n 2, 1) := dk_44 (dk_at dksX2_year_3 5 rfl rfl)
theorem dX2_year_76 : decode cX2_year 76 = .ok (.aload_n 0, 1) := dk_42 (dk_at dksX2_year_3 6 rfl rfl)
theorem dX2_year_77 : decode cX2_year 77 = .ok (.iload_n 3, 1) := dk_29 (dk_at dksX2_year_3 7 rfl rfl)
theorem dX2_year_78 : decode cX2_year 78 = .ok (.invokevirtual 281, 3) := dk_182 1 25 (dk_at dksX2_year_3 8 rfl rfl)
theorem dX2_year_81 : decode cX2_year 81 = .ok (.invokevirtual 209, 3) := dk_182 0 209 (dk_at dksX2_year_3 11 rfl rfl)
theorem dX2_year_84 : decode cX2_year 84 = .ok (.pop, 1) := dk_87 (dk_at dksX2_year_3 14 rfl rfl)
theorem dX2_year_85 : decode cX2_year 85 = .ok (.aload_n 0, 1) := dk_42 (dk_at dksX2_year_3 15 rfl rfl)
theorem dX2_year_86 : decode cX2_year 86 = .ok (.bipush 59, 2) := dk_16 59 (dk_at dksX2_year_3 16 rfl rfl)
theorem dX2_year_88 : decode cX2_year 88 = .ok (.invokevirtual 180, 3) := dk_182 0 180 (dk_at dksX2_year_3 18 rfl rfl)
theorem dX2_year_91 : decode cX2_year 91 = .ok (.goto (-73), 3) := dk_167 255 183 (dk_at dksX2_year_3 21 rfl rfl)
theorem dX2_year_94 : decode cX2_year 94 = .ok (.aload_n 2, 1) := dk_44 (dk_at dksX2_year_4 0 rfl rfl)
theorem dX2_year_95 : decode cX2_year 95 = .ok (.areturn, 1) := dk_176 (dk_at dksX2_year_4 1 rfl rfl)
abbrev cX2_all : ByteArray := prog_20_method_31_code
abbrev yX2_all : MethodName := { cls := "WornSkin$Reader", name := "all", desc := "()LWornSkin$Expression;" }
def dkwX2_all_4 : List UInt8 := [199, 0, 7, 43, 167, 0, 4, 44, 176]
abbrev dktX2_all_4 : List UInt8 := dkwX2_all_4 ++ []
def dkwX2_all_3 : List UInt8 := [183, 1, 67, 167, 0, 12, 187, 1, 68, 89, 25, 4, 183, 1, 70, 182, 0, 209, 87, 167, 255, 176, 44]
abbrev dktX2_all_3 : List UInt8 := dkwX2_all_3 ++ dktX2_all_4
def dkwX2_all_2 : List UInt8 := [58, 4, 43, 44, 184, 1, 58, 77, 44, 180, 1, 62, 29, 153, 0, 15, 187, 1, 65, 89, 25, 4]
abbrev dktX2_all_2 : List UInt8 := dkwX2_all_2 ++ dktX2_all_3
def dkwX2_all_1 : List UInt8 := [153, 0, 68, 42, 18, 64, 182, 0, 142, 62, 42, 89, 180, 0, 130, 4, 96, 181, 0, 130, 42, 182, 1, 55]
abbrev dktX2_all_1 : List UInt8 := dkwX2_all_1 ++ dktX2_all_2
def dkwX2_all_0 : List UInt8 := [42, 182, 1, 55, 76, 1, 77, 42, 18, 64, 182, 0, 142, 154, 0, 12, 42, 18, 66, 182, 0, 142]
abbrev dktX2_all_0 : List UInt8 := dkwX2_all_0 ++ dktX2_all_1
theorem dksX2_all_0 : cX2_all.data.toList.drop 0 = dktX2_all_0 := by decide +kernel
theorem dksX2_all_1 : cX2_all.data.toList.drop 22 = dktX2_all_1 := dk_seg dksX2_all_0 22 rfl rfl
theorem dksX2_all_2 : cX2_all.data.toList.drop 46 = dktX2_all_2 := dk_seg dksX2_all_1 24 rfl rfl
theorem dksX2_all_3 : cX2_all.data.toList.drop 68 = dktX2_all_3 := dk_seg dksX2_all_2 22 rfl rfl
theorem dksX2_all_4 : cX2_all.data.toList.drop 91 = dktX2_all_4 := dk_seg dksX2_all_3 23 rfl rfl
theorem dX2_all_0 : decode cX2_all 0 = .ok (.aload_n 0, 1) := dk_42 (dk_at dksX2_all_0 0 rfl rfl)
theorem dX2_all_1 : decode cX2_all 1 = .ok (.invokevirtual 311, 3) := dk_182 1 55 (dk_at dksX2_all_0 1 rfl rfl)
theorem dX2_all_4 : decode cX2_all 4 = .ok (.astore_n 1, 1) := dk_76 (dk_at dksX2_all_0 4 rfl rfl)
theorem dX2_all_5 : decode cX2_all 5 = .ok (.aconst_null, 1) := dk_1 (dk_at dksX2_all_0 5 rfl rfl)
theorem dX2_all_6 : decode cX2_all 6 = .ok (.astore_n 2, 1) := dk_77 (dk_at dksX2_all_0 6 rfl rfl)
theorem dX2_all_7 : decode cX2_all 7 = .ok (.aload_n 0, 1) := dk_42 (dk_at dksX2_all_0 7 rfl rfl)
theorem dX2_all_8 : decode cX2_all 8 = .ok (.ldc 64, 2) := dk_18 64 (dk_at dksX2_all_0 8 rfl rfl)
theorem dX2_all_10 : decode cX2_all 10 = .ok (.invokevirtual 142, 3) := dk_182 0 142 (dk_at dksX2_all_0 10 rfl rfl)
theorem dX2_all_13 : decode cX2_all 13 = .ok (.ifCond .ne 12, 3) := dk_154 0 12 (dk_at dksX2_all_0 13 rfl rfl)
theorem dX2_all_16 : decode cX2_all 16 = .ok (.aload_n 0, 1) := dk_42 (dk_at dksX2_all_0 16 rfl rfl)
theorem dX2_all_17 : decode cX2_all 17 = .ok (.ldc 66, 2) := dk_18 66 (dk_at dksX2_all_0 17 rfl rfl)
theorem dX2_all_19 : decode cX2_all 19 = .ok (.invokevirtual 142, 3) := dk_182 0 142 (dk_at dksX2_all_0 19 rfl rfl)
theorem dX2_all_22 : decode cX2_all 22 = .ok (.ifCond .eq 68, 3) := dk_153 0 68 (dk_at dksX2_all_1 0 rfl rfl)
theorem dX2_all_25 : decode cX2_all 25 = .ok (.aload_n 0, 1) := dk_42 (dk_at dksX2_all_1 3 rfl rfl)
theorem dX2_all_26 : decode cX2_all 26 = .ok (.ldc 64, 2) := dk_18 64 (dk_at dksX2_all_1 4 rfl rfl)
theorem dX2_all_28 : decode cX2_all 28 = .ok (.invokevirtual 142, 3) := dk_182 0 142 (dk_at dksX2_all_1 6 rfl rfl)
theorem dX2_all_31 : decode cX2_all 31 = .ok (.istore_n 3, 1) := dk_62 (dk_at dksX2_all_1 9 rfl rfl)
theorem dX2_all_32 : decode cX2_all 32 = .ok (.aload_n 0, 1) := dk_42 (dk_at dksX2_all_1 10 rfl rfl)
theorem dX2_all_33 : decode cX2_all 33 = .ok (.dup, 1) := dk_89 (dk_at dksX2_all_1 11 rfl rfl)
theorem dX2_all_34 : decode cX2_all 34 = .ok (.getfield 130, 3) := dk_180 0 130 (dk_at dksX2_all_1 12 rfl rfl)
theorem dX2_all_37 : decode cX2_all 37 = .ok (.iconst 1, 1) := dk_4 (dk_at dksX2_all_1 15 rfl rfl)
theorem dX2_all_38 : decode cX2_all 38 = .ok (.iadd, 1) := dk_96 (dk_at dksX2_all_1 16 rfl rfl)
theorem dX2_all_39 : decode cX2_all 39 = .ok (.putfield 130, 3) := dk_181 0 130 (dk_at dksX2_all_1 17 rfl rfl)
theorem dX2_all_42 : decode cX2_all 42 = .ok (.aload_n 0, 1) := dk_42 (dk_at dksX2_all_1 20 rfl rfl)
theorem dX2_all_43 : decode cX2_all 43 = .ok (.invokevirtual 311, 3) := dk_182 1 55 (dk_at dksX2_all_1 21 rfl rfl)
theorem dX2_all_46 : decode cX2_all 46 = .ok (.astore 4, 2) := dk_58 4 (dk_at dksX2_all_2 0 rfl rfl)
theorem dX2_all_48 : decode cX2_all 48 = .ok (.aload_n 1, 1) := dk_43 (dk_at dksX2_all_2 2 rfl rfl)
theorem dX2_all_49 : decode cX2_all 49 = .ok (.aload_n 2, 1) := dk_44 (dk_at dksX2_all_2 3 rfl rfl)
theorem dX2_all_50 : decode cX2_all 50 = .ok (.invokestatic 314, 3) := dk_184 1 58 (dk_at dksX2_all_2 4 rfl rfl)
theorem dX2_all_53 : decode cX2_all 53 = .ok (.astore_n 2, 1) := dk_77 (dk_at dksX2_all_2 7 rfl rfl)
theorem dX2_all_54 : decode cX2_all 54 = .ok (.aload_n 2, 1) := dk_44 (dk_at dksX2_all_2 8 rfl rfl)
theorem dX2_all_55 : decode cX2_all 55 = .ok (.getfield 318, 3) := dk_180 1 62 (dk_at dksX2_all_2 9 rfl rfl)
theorem dX2_all_58 : decode cX2_all 58 = .ok (.iload_n 3, 1) := dk_29 (dk_at dksX2_all_2 12 rfl rfl)
theorem dX2_all_59 : decode cX2_all 59 = .ok (.ifCond .eq 15, 3) := dk_153 0 15 (dk_at dksX2_all_2 13 rfl rfl)
theorem dX2_all_62 : decode cX2_all 62 = .ok (.new 321, 3) := dk_187 1 65 (dk_at dksX2_all_2 16 rfl rfl)
theorem dX2_all_65 : decode cX2_all 65 = .ok (.dup, 1) := dk_89 (dk_at dksX2_all_2 19 rfl rfl)
theorem dX2_all_66 : decode cX2_all 66 = .ok (.aload 4, 2) := dk_25 4 (dk_at dksX2_all_2 20 rfl rfl)
theorem dX2_all_68 : decode cX2_all 68 = .ok (.invokespecial 323, 3) := dk_183 1 67 (dk_at dksX2_all_3 0 rfl rfl)
theorem dX2_all_71 : decode cX2_all 71 = .ok (.goto 12, 3) := dk_167 0 12 (dk_at dksX2_all_3 3 rfl rfl)
theorem dX2_all_74 : decode cX2_all 74 = .ok (.new 324, 3) := dk_187 1 68 (dk_at dksX2_all_3 6 rfl rfl)
theorem dX2_all_77 : decode cX2_all 77 = .ok (.dup, 1) := dk_89 (dk_at dksX2_all_3 9 rfl rfl)
theorem dX2_all_78 : decode cX2_all 78 = .ok (.aload 4, 2) := dk_25 4 (dk_at dksX2_all_3 10 rfl rfl)
theorem dX2_all_80 : decode cX2_all 80 = .ok (.invokespecial 326, 3) := dk_183 1 70 (dk_at dksX2_all_3 12 rfl rfl)
theorem dX2_all_83 : decode cX2_all 83 = .ok (.invokevirtual 209, 3) := dk_182 0 209 (dk_at dksX2_all_3 15 rfl rfl)
theorem dX2_all_86 : decode cX2_all 86 = .ok (.pop, 1) := dk_87 (dk_at dksX2_all_3 18 rfl rfl)
theorem dX2_all_87 : decode cX2_all 87 = .ok (.goto (-80), 3) := dk_167 255 176 (dk_at dksX2_all_3 19 rfl rfl)
theorem dX2_all_90 : decode cX2_all 90 = .ok (.aload_n 2, 1) := dk_44 (dk_at dksX2_all_3 22 rfl rfl)
theorem dX2_all_91 : decode cX2_all 91 = .ok (.ifnonnull 7, 3) := dk_199 0 7 (dk_at dksX2_all_4 0 rfl rfl)
theorem dX2_all_94 : decode cX2_all 94 = .ok (.aload_n 1, 1) := dk_43 (dk_at dksX2_all_4 3 rfl rfl)
theorem dX2_all_95 : decode cX2_all 95 = .ok (.goto 4, 3) := dk_167 0 4 (dk_at dksX2_all_4 4 rfl rfl)
theorem dX2_all_98 : decode cX2_all 98 = .ok (.aload_n 2, 1) := dk_44 (dk_at dksX2_all_4 7 rfl rfl)
theorem dX2_all_99 : decode cX2_all 99 = .ok (.areturn, 1) := dk_176 (dk_at dksX2_all_4 8 rfl rfl)
abbrev cX2_whole : ByteArray := prog_20_method_29_code
abbrev yX2_whole : MethodName := { cls := "WornSkin$Reader", name := "whole", desc := "()LWornSkin$Expression;" }
def dkwX2_whole_0 : List UInt8 := [42, 3, 181, 1, 45, 42, 182, 1, 47, 176]
abbrev dktX2_whole_0 : List UInt8 := dkwX2_whole_0 ++ []
theorem dksX2_whole_0 : cX2_whole.data.toList.drop 0 = dktX2_whole_0 := by decide +kernel
theorem dX2_whole_0 : decode cX2_whole 0 = .ok (.aload_n 0, 1) := dk_42 (dk_at dksX2_whole_0 0 rfl rfl)
theorem dX2_whole_1 : decode cX2_whole 1 = .ok (.iconst 0, 1) := dk_3 (dk_at dksX2_whole_0 1 rfl rfl)
theorem dX2_whole_2 : decode cX2_whole 2 = .ok (.putfield 301, 3) := dk_181 1 45 (dk_at dksX2_whole_0 2 rfl rfl)
theorem dX2_whole_5 : decode cX2_whole 5 = .ok (.aload_n 0, 1) := dk_42 (dk_at dksX2_whole_0 5 rfl rfl)
theorem dX2_whole_6 : decode cX2_whole 6 = .ok (.invokevirtual 303, 3) := dk_182 1 47 (dk_at dksX2_whole_0 6 rfl rfl)
theorem dX2_whole_9 : decode cX2_whole 9 = .ok (.areturn, 1) := dk_176 (dk_at dksX2_whole_0 9 rfl rfl)
abbrev cX2_shows : ByteArray := prog_20_method_25_code
abbrev yX2_shows : MethodName := { cls := "WornSkin$Reader", name := "shows", desc := "()V" }
def dkwX2_shows_2 : List UInt8 := [182, 1, 20, 181, 1, 17, 177]
abbrev dktX2_shows_2 : List UInt8 := dkwX2_shows_2 ++ []
def dkwX2_shows_1 : List UInt8 := [198, 0, 9, 42, 6, 182, 0, 152, 191, 42, 89, 180, 0, 130, 4, 96, 181, 0, 130, 42, 180, 0, 166, 42]
abbrev dktX2_shows_1 : List UInt8 := dkwX2_shows_1 ++ dktX2_shows_2
def dkwX2_shows_0 : List UInt8 := [42, 18, 48, 182, 0, 142, 154, 0, 9, 42, 4, 182, 0, 152, 191, 42, 180, 0, 166, 180, 1, 17]
abbrev dktX2_shows_0 : List UInt8 := dkwX2_shows_0 ++ dktX2_shows_1
theorem dksX2_shows_0 : cX2_shows.data.toList.drop 0 = dktX2_shows_0 := by decide +kernel
theorem dksX2_shows_1 : cX2_shows.data.toList.drop 22 = dktX2_shows_1 := dk_seg dksX2_shows_0 22 rfl rfl
theorem dksX2_shows_2 : cX2_shows.data.toList.drop 46 = dktX2_shows_2 := dk_seg dksX2_shows_1 24 rfl rfl
theorem dX2_shows_0 : decode cX2_shows 0 = .ok (.aload_n 0, 1) := dk_42 (dk_at dksX2_shows_0 0 rfl rfl)
theorem dX2_shows_1 : decode cX2_shows 1 = .ok (.ldc 48, 2) := dk_18 48 (dk_at dksX2_shows_0 1 rfl rfl)
theorem dX2_shows_3 : decode cX2_shows 3 = .ok (.invokevirtual 142, 3) := dk_182 0 142 (dk_at dksX2_shows_0 3 rfl rfl)
theorem dX2_shows_6 : decode cX2_shows 6 = .ok (.ifCond .ne 9, 3) := dk_154 0 9 (dk_at dksX2_shows_0 6 rfl rfl)
theorem dX2_shows_9 : decode cX2_shows 9 = .ok (.aload_n 0, 1) := dk_42 (dk_at dksX2_shows_0 9 rfl rfl)
theorem dX2_shows_10 : decode cX2_shows 10 = .ok (.iconst 1, 1) := dk_4 (dk_at dksX2_shows_0 10 rfl rfl)
theorem dX2_shows_11 : decode cX2_shows 11 = .ok (.invokevirtual 152, 3) := dk_182 0 152 (dk_at dksX2_shows_0 11 rfl rfl)
theorem dX2_shows_14 : decode cX2_shows 14 = .ok (.athrow, 1) := dk_191 (dk_at dksX2_shows_0 14 rfl rfl)
theorem dX2_shows_15 : decode cX2_shows 15 = .ok (.aload_n 0, 1) := dk_42 (dk_at dksX2_shows_0 15 rfl rfl)
theorem dX2_shows_16 : decode cX2_shows 16 = .ok (.getfield 166, 3) := dk_180 0 166 (dk_at dksX2_shows_0 16 rfl rfl)
theorem dX2_shows_19 : decode cX2_shows 19 = .ok (.getfield 273, 3) := dk_180 1 17 (dk_at dksX2_shows_0 19 rfl rfl)
theorem dX2_shows_22 : decode cX2_shows 22 = .ok (.ifnull 9, 3) := dk_198 0 9 (dk_at dksX2_shows_1 0 rfl rfl)
theorem dX2_shows_25 : decode cX2_shows 25 = .ok (.aload_n 0, 1) := dk_42 (dk_at dksX2_shows_1 3 rfl rfl)
theorem dX2_shows_26 : decode cX2_shows 26 = .ok (.iconst 3, 1) := dk_6 (dk_at dksX2_shows_1 4 rfl rfl)
theorem dX2_shows_27 : decode cX2_shows 27 = .ok (.invokevirtual 152, 3) := dk_182 0 152 (dk_at dksX2_shows_1 5 rfl rfl)
theorem dX2_shows_30 : decode cX2_shows 30 = .ok (.athrow, 1) := dk_191 (dk_at dksX2_shows_1 8 rfl rfl)
theorem dX2_shows_31 : decode cX2_shows 31 = .ok (.aload_n 0, 1) := dk_42 (dk_at dksX2_shows_1 9 rfl rfl)
theorem dX2_shows_32 : decode cX2_shows 32 = .ok (.dup, 1) := dk_89 (dk_at dksX2_shows_1 10 rfl rfl)
theorem dX2_shows_33 : decode cX2_shows 33 = .ok (.getfield 130, 3) := dk_180 0 130 (dk_at dksX2_shows_1 11 rfl rfl)
theorem dX2_shows_36 : decode cX2_shows 36 = .ok (.iconst 1, 1) := dk_4 (dk_at dksX2_shows_1 14 rfl rfl)
theorem dX2_shows_37 : decode cX2_shows 37 = .ok (.iadd, 1) := dk_96 (dk_at dksX2_shows_1 15 rfl rfl)
theorem dX2_shows_38 : decode cX2_shows 38 = .ok (.putfield 130, 3) := dk_181 0 130 (dk_at dksX2_shows_1 16 rfl rfl)
theorem dX2_shows_41 : decode cX2_shows 41 = .ok (.aload_n 0, 1) := dk_42 (dk_at dksX2_shows_1 19 rfl rfl)
theorem dX2_shows_42 : decode cX2_shows 42 = .ok (.getfield 166, 3) := dk_180 0 166 (dk_at dksX2_shows_1 20 rfl rfl)
theorem dX2_shows_45 : decode cX2_shows 45 = .ok (.aload_n 0, 1) := dk_42 (dk_at dksX2_shows_1 23 rfl rfl)
theorem dX2_shows_46 : decode cX2_shows 46 = .ok (.invokevirtual 276, 3) := dk_182 1 20 (dk_at dksX2_shows_2 0 rfl rfl)
theorem dX2_shows_49 : decode cX2_shows 49 = .ok (.putfield 273, 3) := dk_181 1 17 (dk_at dksX2_shows_2 3 rfl rfl)
theorem dX2_shows_52 : decode cX2_shows 52 = .ok (.return_, 1) := dk_177 (dk_at dksX2_shows_2 6 rfl rfl)
abbrev cX2_library : ByteArray := prog_20_method_16_code
abbrev yX2_library : MethodName := { cls := "WornSkin$Reader", name := "library", desc := "()LWornSkin$Library;" }
def dkwX2_library_4 : List UInt8 := [182, 0, 178, 42, 16, 59, 182, 0, 180, 167, 255, 170, 42, 180, 0, 166, 176]
abbrev dktX2_library_4 : List UInt8 := dkwX2_library_4 ++ []
def dkwX2_library_3 : List UInt8 := [182, 0, 174, 167, 0, 23, 42, 18, 46, 182, 0, 142, 153, 0, 10, 42, 182, 0, 176, 167, 0, 7, 42]
abbrev dktX2_library_3 : List UInt8 := dkwX2_library_3 ++ dktX2_library_4
def dkwX2_library_2 : List UInt8 := [182, 0, 142, 153, 0, 10, 42, 182, 0, 172, 167, 0, 39, 42, 18, 44, 182, 0, 142, 153, 0, 10, 42]
abbrev dktX2_library_2 : List UInt8 := dkwX2_library_2 ++ dktX2_library_3
def dkwX2_library_1 : List UInt8 := [153, 0, 80, 42, 18, 36, 182, 0, 142, 153, 0, 10, 42, 182, 0, 170, 167, 0, 55, 42, 18, 42]
abbrev dktX2_library_1 : List UInt8 := dkwX2_library_1 ++ dktX2_library_2
def dkwX2_library_0 : List UInt8 := [42, 182, 0, 160, 42, 187, 0, 163, 89, 183, 0, 165, 181, 0, 166, 42, 180, 0, 81, 42, 180, 0, 130, 46]
abbrev dktX2_library_0 : List UInt8 := dkwX2_library_0 ++ dktX2_library_1
theorem dksX2_library_0 : cX2_library.data.toList.drop 0 = dktX2_library_0 := by decide +kernel
theorem dksX2_library_1 : cX2_library.data.toList.drop 24 = dktX2_library_1 := dk_seg dksX2_library_0 24 rfl rfl
theorem dksX2_library_2 : cX2_library.data.toList.drop 46 = dktX2_library_2 := dk_seg dksX2_library_1 22 rfl rfl
theorem dksX2_library_3 : cX2_library.data.toList.drop 69 = dktX2_library_3 := dk_seg dksX2_library_2 23 rfl rfl
theorem dksX2_library_4 : cX2_library.data.toList.drop 92 = dktX2_library_4 := dk_seg dksX2_library_3 23 rfl rfl
theorem dX2_library_0 : decode cX2_library 0 = .ok (.aload_n 0, 1) := dk_42 (dk_at dksX2_library_0 0 rfl rfl)
theorem dX2_library_1 : decode cX2_library 1 = .ok (.invokevirtual 160, 3) := dk_182 0 160 (dk_at dksX2_library_0 1 rfl rfl)
theorem dX2_library_4 : decode cX2_library 4 = .ok (.aload_n 0, 1) := dk_42 (dk_at dksX2_library_0 4 rfl rfl)
theorem dX2_library_5 : decode cX2_library 5 = .ok (.new 163, 3) := dk_187 0 163 (dk_at dksX2_library_0 5 rfl rfl)
theorem dX2_library_8 : decode cX2_library 8 = .ok (.dup, 1) := dk_89 (dk_at dksX2_library_0 8 rfl rfl)
theorem dX2_library_9 : decode cX2_library 9 = .ok (.invokespecial 165, 3) := dk_183 0 165 (dk_at dksX2_library_0 9 rfl rfl)
theorem dX2_library_12 : decode cX2_library 12 = .ok (.putfield 166, 3) := dk_181 0 166 (dk_at dksX2_library_0 12 rfl rfl)
theorem dX2_library_15 : decode cX2_library 15 = .ok (.aload_n 0, 1) := dk_42 (dk_at dksX2_library_0 15 rfl rfl)
theorem dX2_library_16 : decode cX2_library 16 = .ok (.getfield 81, 3) := dk_180 0 81 (dk_at dksX2_library_0 16 rfl rfl)
theorem dX2_library_19 : decode cX2_library 19 = .ok (.aload_n 0, 1) := dk_42 (dk_at dksX2_library_0 19 rfl rfl)
theorem dX2_library_20 : decode cX2_library 20 = .ok (.getfield 130, 3) := dk_180 0 130 (dk_at dksX2_library_0 20 rfl rfl)
theorem dX2_library_23 : decode cX2_library 23 = .ok (.iaload, 1) := dk_46 (dk_at dksX2_library_0 23 rfl rfl)
theorem dX2_library_24 : decode cX2_library 24 = .ok (.ifCond .eq 80, 3) := dk_153 0 80 (dk_at dksX2_library_1 0 rfl rfl)
theorem dX2_library_27 : decode cX2_library 27 = .ok (.aload_n 0, 1) := dk_42 (dk_at dksX2_library_1 3 rfl rfl)
theorem dX2_library_28 : decode cX2_library 28 = .ok (.ldc 36, 2) := dk_18 36 (dk_at dksX2_library_1 4 rfl rfl)
theorem dX2_library_30 : decode cX2_library 30 = .ok (.invokevirtual 142, 3) := dk_182 0 142 (dk_at dksX2_library_1 6 rfl rfl)
theorem dX2_library_33 : decode cX2_library 33 = .ok (.ifCond .eq 10, 3) := dk_153 0 10 (dk_at dksX2_library_1 9 rfl rfl)
theorem dX2_library_36 : decode cX2_library 36 = .ok (.aload_n 0, 1) := dk_42 (dk_at dksX2_library_1 12 rfl rfl)
theorem dX2_library_37 : decode cX2_library 37 = .ok (.invokevirtual 170, 3) := dk_182 0 170 (dk_at dksX2_library_1 13 rfl rfl)
theorem dX2_library_40 : decode cX2_library 40 = .ok (.goto 55, 3) := dk_167 0 55 (dk_at dksX2_library_1 16 rfl rfl)
theorem dX2_library_43 : decode cX2_library 43 = .ok (.aload_n 0, 1) := dk_42 (dk_at dksX2_library_1 19 rfl rfl)
theorem dX2_library_44 : decode cX2_library 44 = .ok (.ldc 42, 2) := dk_18 42 (dk_at dksX2_library_1 20 rfl rfl)
theorem dX2_library_46 : decode cX2_library 46 = .ok (.invokevirtual 142, 3) := dk_182 0 142 (dk_at dksX2_library_2 0 rfl rfl)
theorem dX2_library_49 : decode cX2_library 49 = .ok (.ifCond .eq 10, 3) := dk_153 0 10 (dk_at dksX2_library_2 3 rfl rfl)
theorem dX2_library_52 : decode cX2_library 52 = .ok (.aload_n 0, 1) := dk_42 (dk_at dksX2_library_2 6 rfl rfl)
theorem dX2_library_53 : decode cX2_library 53 = .ok (.invokevirtual 172, 3) := dk_182 0 172 (dk_at dksX2_library_2 7 rfl rfl)
theorem dX2_library_56 : decode cX2_library 56 = .ok (.goto 39, 3) := dk_167 0 39 (dk_at dksX2_library_2 10 rfl rfl)
theorem dX2_library_59 : decode cX2_library 59 = .ok (.aload_n 0, 1) := dk_42 (dk_at dksX2_library_2 13 rfl rfl)
theorem dX2_library_60 : decode cX2_library 60 = .ok (.ldc 44, 2) := dk_18 44 (dk_at dksX2_library_2 14 rfl rfl)
theorem dX2_library_62 : decode cX2_library 62 = .ok (.invokevirtual 142, 3) := dk_182 0 142 (dk_at dksX2_library_2 16 rfl rfl)
theorem dX2_library_65 : decode cX2_library 65 = .ok (.ifCond .eq 10, 3) := dk_153 0 10 (dk_at dksX2_library_2 19 rfl rfl)
theorem dX2_library_68 : decode cX2_library 68 = .ok (.aload_n 0, 1) := dk_42 (dk_at dksX2_library_2 22 rfl rfl)
theorem dX2_library_69 : decode cX2_library 69 = .ok (.invokevirtual 174, 3) := dk_182 0 174 (dk_at dksX2_library_3 0 rfl rfl)
theorem dX2_library_72 : decode cX2_library 72 = .ok (.goto 23, 3) := dk_167 0 23 (dk_at dksX2_library_3 3 rfl rfl)
theorem dX2_library_75 : decode cX2_library 75 = .ok (.aload_n 0, 1) := dk_42 (dk_at dksX2_library_3 6 rfl rfl)
theorem dX2_library_76 : decode cX2_library 76 = .ok (.ldc 46, 2) := dk_18 46 (dk_at dksX2_library_3 7 rfl rfl)
theorem dX2_library_78 : decode cX2_library 78 = .ok (.invokevirtual 142, 3) := dk_182 0 142 (dk_at dksX2_library_3 9 rfl rfl)
theorem dX2_library_81 : decode cX2_library 81 = .ok (.ifCond .eq 10, 3) := dk_153 0 10 (dk_at dksX2_library_3 12 rfl rfl)
theorem dX2_library_84 : decode cX2_library 84 = .ok (.aload_n 0, 1) := dk_42 (dk_at dksX2_library_3 15 rfl rfl)
theorem dX2_library_85 : decode cX2_library 85 = .ok (.invokevirtual 176, 3) := dk_182 0 176 (dk_at dksX2_library_3 16 rfl rfl)
theorem dX2_library_88 : decode cX2_library 88 = .ok (.goto 7, 3) := dk_167 0 7 (dk_at dksX2_library_3 19 rfl rfl)
theorem dX2_library_91 : decode cX2_library 91 = .ok (.aload_n 0, 1) := dk_42 (dk_at dksX2_library_3 22 rfl rfl)
theorem dX2_library_92 : decode cX2_library 92 = .ok (.invokevirtual 178, 3) := dk_182 0 178 (dk_at dksX2_library_4 0 rfl rfl)
theorem dX2_library_95 : decode cX2_library 95 = .ok (.aload_n 0, 1) := dk_42 (dk_at dksX2_library_4 3 rfl rfl)
theorem dX2_library_96 : decode cX2_library 96 = .ok (.bipush 59, 2) := dk_16 59 (dk_at dksX2_library_4 4 rfl rfl)
theorem dX2_library_98 : decode cX2_library 98 = .ok (.invokevirtual 180, 3) := dk_182 0 180 (dk_at dksX2_library_4 6 rfl rfl)
theorem dX2_library_101 : decode cX2_library 101 = .ok (.goto (-86), 3) := dk_167 255 170 (dk_at dksX2_library_4 9 rfl rfl)
theorem dX2_library_104 : decode cX2_library 104 = .ok (.aload_n 0, 1) := dk_42 (dk_at dksX2_library_4 12 rfl rfl)
theorem dX2_library_105 : decode cX2_library 105 = .ok (.getfield 166, 3) := dk_180 0 166 (dk_at dksX2_library_4 13 rfl rfl)
theorem dX2_library_108 : decode cX2_library 108 = .ok (.areturn, 1) := dk_176 (dk_at dksX2_library_4 16 rfl rfl)
abbrev cX6_init : ByteArray := prog_7_method_1_code
abbrev yX6_init : MethodName := { cls := "WornSkin$Lays", name := "<init>", desc := "(LWornSkin;)V" }
def dkwX6_init_1 : List UInt8 := [181, 0, 19, 177]
abbrev dktX6_init_1 : List UInt8 := dkwX6_init_1 ++ []
def dkwX6_init_0 : List UInt8 := [42, 43, 181, 0, 3, 42, 183, 0, 9, 42, 16, 6, 188, 10, 181, 0, 15, 42, 16, 6, 188, 10]
abbrev dktX6_init_0 : List UInt8 := dkwX6_init_0 ++ dktX6_init_1
theorem dksX6_init_0 : cX6_init.data.toList.drop 0 = dktX6_init_0 := by decide +kernel
theorem dksX6_init_1 : cX6_init.data.toList.drop 22 = dktX6_init_1 := dk_seg dksX6_init_0 22 rfl rfl
theorem dX6_init_0 : decode cX6_init 0 = .ok (.aload_n 0, 1) := dk_42 (dk_at dksX6_init_0 0 rfl rfl)
theorem dX6_init_1 : decode cX6_init 1 = .ok (.aload_n 1, 1) := dk_43 (dk_at dksX6_init_0 1 rfl rfl)
theorem dX6_init_2 : decode cX6_init 2 = .ok (.putfield 3, 3) := dk_181 0 3 (dk_at dksX6_init_0 2 rfl rfl)
theorem dX6_init_5 : decode cX6_init 5 = .ok (.aload_n 0, 1) := dk_42 (dk_at dksX6_init_0 5 rfl rfl)
theorem dX6_init_6 : decode cX6_init 6 = .ok (.invokespecial 9, 3) := dk_183 0 9 (dk_at dksX6_init_0 6 rfl rfl)
theorem dX6_init_9 : decode cX6_init 9 = .ok (.aload_n 0, 1) := dk_42 (dk_at dksX6_init_0 9 rfl rfl)
theorem dX6_init_10 : decode cX6_init 10 = .ok (.bipush 6, 2) := dk_16 6 (dk_at dksX6_init_0 10 rfl rfl)
theorem dX6_init_12 : decode cX6_init 12 = .ok (.newarray .int, 2) := dk_188_10 (dk_at dksX6_init_0 12 rfl rfl)
theorem dX6_init_14 : decode cX6_init 14 = .ok (.putfield 15, 3) := dk_181 0 15 (dk_at dksX6_init_0 14 rfl rfl)
theorem dX6_init_17 : decode cX6_init 17 = .ok (.aload_n 0, 1) := dk_42 (dk_at dksX6_init_0 17 rfl rfl)
theorem dX6_init_18 : decode cX6_init 18 = .ok (.bipush 6, 2) := dk_16 6 (dk_at dksX6_init_0 18 rfl rfl)
theorem dX6_init_20 : decode cX6_init 20 = .ok (.newarray .int, 2) := dk_188_10 (dk_at dksX6_init_0 20 rfl rfl)
theorem dX6_init_22 : decode cX6_init 22 = .ok (.putfield 19, 3) := dk_181 0 19 (dk_at dksX6_init_1 0 rfl rfl)
theorem dX6_init_25 : decode cX6_init 25 = .ok (.return_, 1) := dk_177 (dk_at dksX6_init_1 3 rfl rfl)
abbrev cX6_takes : ByteArray := prog_7_method_4_code
abbrev yX6_takes : MethodName := { cls := "WornSkin$Lays", name := "takes", desc := "(II)V" }
def dkwX6_takes_4 : List UInt8 := [167, 255, 165, 177]
abbrev dktX6_takes_4 : List UInt8 := dkwX6_takes_4 ++ []
def dkwX6_takes_3 : List UInt8 := [180, 0, 3, 180, 0, 26, 89, 180, 0, 82, 4, 29, 120, 2, 130, 126, 181, 0, 82, 132, 3, 1]
abbrev dktX6_takes_3 : List UInt8 := dkwX6_takes_3 ++ dktX6_takes_4
def dkwX6_takes_2 : List UInt8 := [180, 0, 3, 180, 0, 26, 180, 0, 79, 29, 42, 180, 0, 3, 180, 0, 30, 180, 0, 79, 29, 46, 79, 42]
abbrev dktX6_takes_2 : List UInt8 := dkwX6_takes_2 ++ dktX6_takes_3
def dkwX6_takes_1 : List UInt8 := [180, 0, 3, 180, 0, 26, 180, 0, 76, 29, 42, 180, 0, 3, 180, 0, 30, 180, 0, 76, 29, 46, 79, 42]
abbrev dktX6_takes_1 : List UInt8 := dkwX6_takes_1 ++ dktX6_takes_2
def dkwX6_takes_0 : List UInt8 := [28, 62, 29, 28, 42, 180, 0, 3, 180, 0, 26, 27, 182, 0, 67, 180, 0, 71, 96, 162, 0, 77, 42]
abbrev dktX6_takes_0 : List UInt8 := dkwX6_takes_0 ++ dktX6_takes_1
theorem dksX6_takes_0 : cX6_takes.data.toList.drop 0 = dktX6_takes_0 := by decide +kernel
theorem dksX6_takes_1 : cX6_takes.data.toList.drop 23 = dktX6_takes_1 := dk_seg dksX6_takes_0 23 rfl rfl
theorem dksX6_takes_2 : cX6_takes.data.toList.drop 47 = dktX6_takes_2 := dk_seg dksX6_takes_1 24 rfl rfl
theorem dksX6_takes_3 : cX6_takes.data.toList.drop 71 = dktX6_takes_3 := dk_seg dksX6_takes_2 24 rfl rfl
theorem dksX6_takes_4 : cX6_takes.data.toList.drop 93 = dktX6_takes_4 := dk_seg dksX6_takes_3 22 rfl rfl
theorem dX6_takes_0 : decode cX6_takes 0 = .ok (.iload_n 2, 1) := dk_28 (dk_at dksX6_takes_0 0 rfl rfl)
theorem dX6_takes_1 : decode cX6_takes 1 = .ok (.istore_n 3, 1) := dk_62 (dk_at dksX6_takes_0 1 rfl rfl)
theorem dX6_takes_2 : decode cX6_takes 2 = .ok (.iload_n 3, 1) := dk_29 (dk_at dksX6_takes_0 2 rfl rfl)
theorem dX6_takes_3 : decode cX6_takes 3 = .ok (.iload_n 2, 1) := dk_28 (dk_at dksX6_takes_0 3 rfl rfl)
theorem dX6_takes_4 : decode cX6_takes 4 = .ok (.aload_n 0, 1) := dk_42 (dk_at dksX6_takes_0 4 rfl rfl)
theorem dX6_takes_5 : decode cX6_takes 5 = .ok (.getfield 3, 3) := dk_180 0 3 (dk_at dksX6_takes_0 5 rfl rfl)
theorem dX6_takes_8 : decode cX6_takes 8 = .ok (.getfield 26, 3) := dk_180 0 26 (dk_at dksX6_takes_0 8 rfl rfl)
theorem dX6_takes_11 : decode cX6_takes 11 = .ok (.iload_n 1, 1) := dk_27 (dk_at dksX6_takes_0 11 rfl rfl)
theorem dX6_takes_12 : decode cX6_takes 12 = .ok (.invokevirtual 67, 3) := dk_182 0 67 (dk_at dksX6_takes_0 12 rfl rfl)
theorem dX6_takes_15 : decode cX6_takes 15 = .ok (.getfield 71, 3) := dk_180 0 71 (dk_at dksX6_takes_0 15 rfl rfl)
theorem dX6_takes_18 : decode cX6_takes 18 = .ok (.iadd, 1) := dk_96 (dk_at dksX6_takes_0 18 rfl rfl)
theorem dX6_takes_19 : decode cX6_takes 19 = .ok (.if_icmp .ge 77, 3) := dk_162 0 77 (dk_at dksX6_takes_0 19 rfl rfl)
theorem dX6_takes_22 : decode cX6_takes 22 = .ok (.aload_n 0, 1) := dk_42 (dk_at dksX6_takes_0 22 rfl rfl)
theorem dX6_takes_23 : decode cX6_takes 23 = .ok (.getfield 3, 3) := dk_180 0 3 (dk_at dksX6_takes_1 0 rfl rfl)
theorem dX6_takes_26 : decode cX6_takes 26 = .ok (.getfield 26, 3) := dk_180 0 26 (dk_at dksX6_takes_1 3 rfl rfl)
theorem dX6_takes_29 : decode cX6_takes 29 = .ok (.getfield 76, 3) := dk_180 0 76 (dk_at dksX6_takes_1 6 rfl rfl)
theorem dX6_takes_32 : decode cX6_takes 32 = .ok (.iload_n 3, 1) := dk_29 (dk_at dksX6_takes_1 9 rfl rfl)
theorem dX6_takes_33 : decode cX6_takes 33 = .ok (.aload_n 0, 1) := dk_42 (dk_at dksX6_takes_1 10 rfl rfl)
theorem dX6_takes_34 : decode cX6_takes 34 = .ok (.getfield 3, 3) := dk_180 0 3 (dk_at dksX6_takes_1 11 rfl rfl)
theorem dX6_takes_37 : decode cX6_takes 37 = .ok (.getfield 30, 3) := dk_180 0 30 (dk_at dksX6_takes_1 14 rfl rfl)
theorem dX6_takes_40 : decode cX6_takes 40 = .ok (.getfield 76, 3) := dk_180 0 76 (dk_at dksX6_takes_1 17 rfl rfl)
theorem dX6_takes_43 : decode cX6_takes 43 = .ok (.iload_n 3, 1) := dk_29 (dk_at dksX6_takes_1 20 rfl rfl)
theorem dX6_takes_44 : decode cX6_takes 44 = .ok (.iaload, 1) := dk_46 (dk_at dksX6_takes_1 21 rfl rfl)
theorem dX6_takes_45 : decode cX6_takes 45 = .ok (.iastore, 1) := dk_79 (dk_at dksX6_takes_1 22 rfl rfl)
theorem dX6_takes_46 : decode cX6_takes 46 = .ok (.aload_n 0, 1) := dk_42 (dk_at dksX6_takes_1 23 rfl rfl)
theorem dX6_takes_47 : decode cX6_takes 47 = .ok (.getfield 3, 3) := dk_180 0 3 (dk_at dksX6_takes_2 0 rfl rfl)
theorem dX6_takes_50 : decode cX6_takes 50 = .ok (.getfield 26, 3) := dk_180 0 26 (dk_at dksX6_takes_2 3 rfl rfl)
theorem dX6_takes_53 : decode cX6_takes 53 = .ok (.getfield 79, 3) := dk_180 0 79 (dk_at dksX6_takes_2 6 rfl rfl)
theorem dX6_takes_56 : decode cX6_takes 56 = .ok (.iload_n 3, 1) := dk_29 (dk_at dksX6_takes_2 9 rfl rfl)
theorem dX6_takes_57 : decode cX6_takes 57 = .ok (.aload_n 0, 1) := dk_42 (dk_at dksX6_takes_2 10 rfl rfl)
theorem dX6_takes_58 : decode cX6_takes 58 = .ok (.getfield 3, 3) := dk_180 0 3 (dk_at dksX6_takes_2 11 rfl rfl)
theorem dX6_takes_61 : decode cX6_takes 61 = .ok (.getfield 30, 3) := dk_180 0 30 (dk_at dksX6_takes_2 14 rfl rfl)
theorem dX6_takes_64 : decode cX6_takes 64 = .ok (.getfield 79, 3) := dk_180 0 79 (dk_at dksX6_takes_2 17 rfl rfl)
theorem dX6_takes_67 : decode cX6_takes 67 = .ok (.iload_n 3, 1) := dk_29 (dk_at dksX6_takes_2 20 rfl rfl)
theorem dX6_takes_68 : decode cX6_takes 68 = .ok (.iaload, 1) := dk_46 (dk_at dksX6_takes_2 21 rfl rfl)
theorem dX6_takes_69 : decode cX6_takes 69 = .ok (.iastore, 1) := dk_79 (dk_at dksX6_takes_2 22 rfl rfl)
theorem dX6_takes_70 : decode cX6_takes 70 = .ok (.aload_n 0, 1) := dk_42 (dk_at dksX6_takes_2 23 rfl rfl)
theorem dX6_takes_71 : decode cX6_takes 71 = .ok (.getfield 3, 3) := dk_180 0 3 (dk_at dksX6_takes_3 0 rfl rfl)
theorem dX6_takes_74 : decode cX6_takes 74 = .ok (.getfield 26, 3) := dk_180 0 26 (dk_at dksX6_takes_3 3 rfl rfl)
theorem dX6_takes_77 : decode cX6_takes 77 = .ok (.dup, 1) := dk_89 (dk_at dksX6_takes_3 6 rfl rfl)
theorem dX6_takes_78 : decode cX6_takes 78 = .ok (.getfield 82, 3) := dk_180 0 82 (dk_at dksX6_takes_3 7 rfl rfl)
theorem dX6_takes_81 : decode cX6_takes 81 = .ok (.iconst 1, 1) := dk_4 (dk_at dksX6_takes_3 10 rfl rfl)
theorem dX6_takes_82 : decode cX6_takes 82 = .ok (.iload_n 3, 1) := dk_29 (dk_at dksX6_takes_3 11 rfl rfl)
theorem dX6_takes_83 : decode cX6_takes 83 = .ok (.ishl, 1) := dk_120 (dk_at dksX6_takes_3 12 rfl rfl)
theorem dX6_takes_84 : decode cX6_takes 84 = .ok (.iconst (-1), 1) := dk_2 (dk_at dksX6_takes_3 13 rfl rfl)
theorem dX6_takes_85 : decode cX6_takes 85 = .ok (.ixor, 1) := dk_130 (dk_at dksX6_takes_3 14 rfl rfl)
theorem dX6_takes_86 : decode cX6_takes 86 = .ok (.iand, 1) := dk_126 (dk_at dksX6_takes_3 15 rfl rfl)
theorem dX6_takes_87 : decode cX6_takes 87 = .ok (.putfield 82, 3) := dk_181 0 82 (dk_at dksX6_takes_3 16 rfl rfl)
theorem dX6_takes_90 : decode cX6_takes 90 = .ok (.iinc 3 1, 3) := dk_132 3 1 (dk_at dksX6_takes_3 19 rfl rfl)
theorem dX6_takes_93 : decode cX6_takes 93 = .ok (.goto (-91), 3) := dk_167 255 165 (dk_at dksX6_takes_4 0 rfl rfl)
theorem dX6_takes_96 : decode cX6_takes 96 = .ok (.return_, 1) := dk_177 (dk_at dksX6_takes_4 3 rfl rfl)
abbrev cX6_goes : ByteArray := prog_7_method_3_code
abbrev yX6_goes : MethodName := { cls := "WornSkin$Lays", name := "goes", desc := "(II)V" }
def dkwX6_goes_6 : List UInt8 := [167, 255, 172, 42, 180, 0, 15, 27, 2, 79, 42, 27, 4, 96, 28, 182, 0, 39, 177]
abbrev dktX6_goes_6 : List UInt8 := dkwX6_goes_6 ++ []
def dkwX6_goes_5 : List UInt8 := [182, 0, 60, 42, 27, 4, 96, 28, 4, 96, 182, 0, 39, 42, 27, 29, 182, 0, 64, 132, 3, 1]
abbrev dktX6_goes_5 : List UInt8 := dkwX6_goes_5 ++ dktX6_goes_6
def dkwX6_goes_4 : List UInt8 := [180, 0, 15, 27, 29, 79, 42, 180, 0, 3, 180, 0, 26, 27, 29, 16, 6, 108, 29, 16, 6, 112]
abbrev dktX6_goes_4 : List UInt8 := dkwX6_goes_4 ++ dktX6_goes_5
def dkwX6_goes_3 : List UInt8 := [180, 0, 26, 27, 29, 16, 6, 108, 29, 16, 6, 112, 182, 0, 56, 154, 0, 6, 167, 0, 45, 42]
abbrev dktX6_goes_3 : List UInt8 := dkwX6_goes_3 ++ dktX6_goes_4
def dkwX6_goes_2 : List UInt8 := [184, 0, 47, 177, 3, 62, 29, 42, 180, 0, 3, 182, 0, 53, 16, 6, 104, 162, 0, 76, 42, 180, 0, 3]
abbrev dktX6_goes_2 : List UInt8 := dkwX6_goes_2 ++ dktX6_goes_3
def dkwX6_goes_1 : List UInt8 := [182, 0, 43, 160, 0, 24, 42, 28, 181, 0, 22, 42, 180, 0, 15, 3, 42, 180, 0, 19, 3, 16, 6]
abbrev dktX6_goes_1 : List UInt8 := dkwX6_goes_1 ++ dktX6_goes_2
def dkwX6_goes_0 : List UInt8 := [28, 42, 180, 0, 3, 182, 0, 43, 96, 27, 100, 42, 180, 0, 22, 163, 0, 4, 177, 27, 42, 180, 0, 3]
abbrev dktX6_goes_0 : List UInt8 := dkwX6_goes_0 ++ dktX6_goes_1
theorem dksX6_goes_0 : cX6_goes.data.toList.drop 0 = dktX6_goes_0 := by decide +kernel
theorem dksX6_goes_1 : cX6_goes.data.toList.drop 24 = dktX6_goes_1 := dk_seg dksX6_goes_0 24 rfl rfl
theorem dksX6_goes_2 : cX6_goes.data.toList.drop 47 = dktX6_goes_2 := dk_seg dksX6_goes_1 23 rfl rfl
theorem dksX6_goes_3 : cX6_goes.data.toList.drop 71 = dktX6_goes_3 := dk_seg dksX6_goes_2 24 rfl rfl
theorem dksX6_goes_4 : cX6_goes.data.toList.drop 93 = dktX6_goes_4 := dk_seg dksX6_goes_3 22 rfl rfl
theorem dksX6_goes_5 : cX6_goes.data.toList.drop 115 = dktX6_goes_5 := dk_seg dksX6_goes_4 22 rfl rfl
theorem dksX6_goes_6 : cX6_goes.data.toList.drop 137 = dktX6_goes_6 := dk_seg dksX6_goes_5 22 rfl rfl
theorem dX6_goes_0 : decode cX6_goes 0 = .ok (.iload_n 2, 1) := dk_28 (dk_at dksX6_goes_0 0 rfl rfl)
theorem dX6_goes_1 : decode cX6_goes 1 = .ok (.aload_n 0, 1) := dk_42 (dk_at dksX6_goes_0 1 rfl rfl)
theorem dX6_goes_2 : decode cX6_goes 2 = .ok (.getfield 3, 3) := dk_180 0 3 (dk_at dksX6_goes_0 2 rfl rfl)
theorem dX6_goes_5 : decode cX6_goes 5 = .ok (.invokevirtual 43, 3) := dk_182 0 43 (dk_at dksX6_goes_0 5 rfl rfl)
theorem dX6_goes_8 : decode cX6_goes 8 = .ok (.iadd, 1) := dk_96 (dk_at dksX6_goes_0 8 rfl rfl)
theorem dX6_goes_9 : decode cX6_goes 9 = .ok (.iload_n 1, 1) := dk_27 (dk_at dksX6_goes_0 9 rfl rfl)
theorem dX6_goes_10 : decode cX6_goes 10 = .ok (.isub, 1) := dk_100 (dk_at dksX6_goes_0 10 rfl rfl)
theorem dX6_goes_11 : decode cX6_goes 11 = .ok (.aload_n 0, 1) := dk_42 (dk_at dksX6_goes_0 11 rfl rfl)
theorem dX6_goes_12 : decode cX6_goes 12 = .ok (.getfield 22, 3) := dk_180 0 22 (dk_at dksX6_goes_0 12 rfl rfl)
theorem dX6_goes_15 : decode cX6_goes 15 = .ok (.if_icmp .gt 4, 3) := dk_163 0 4 (dk_at dksX6_goes_0 15 rfl rfl)
theorem dX6_goes_18 : decode cX6_goes 18 = .ok (.return_, 1) := dk_177 (dk_at dksX6_goes_0 18 rfl rfl)
theorem dX6_goes_19 : decode cX6_goes 19 = .ok (.iload_n 1, 1) := dk_27 (dk_at dksX6_goes_0 19 rfl rfl)
theorem dX6_goes_20 : decode cX6_goes 20 = .ok (.aload_n 0, 1) := dk_42 (dk_at dksX6_goes_0 20 rfl rfl)
theorem dX6_goes_21 : decode cX6_goes 21 = .ok (.getfield 3, 3) := dk_180 0 3 (dk_at dksX6_goes_0 21 rfl rfl)
theorem dX6_goes_24 : decode cX6_goes 24 = .ok (.invokevirtual 43, 3) := dk_182 0 43 (dk_at dksX6_goes_1 0 rfl rfl)
theorem dX6_goes_27 : decode cX6_goes 27 = .ok (.if_icmp .ne 24, 3) := dk_160 0 24 (dk_at dksX6_goes_1 3 rfl rfl)
theorem dX6_goes_30 : decode cX6_goes 30 = .ok (.aload_n 0, 1) := dk_42 (dk_at dksX6_goes_1 6 rfl rfl)
theorem dX6_goes_31 : decode cX6_goes 31 = .ok (.iload_n 2, 1) := dk_28 (dk_at dksX6_goes_1 7 rfl rfl)
theorem dX6_goes_32 : decode cX6_goes 32 = .ok (.putfield 22, 3) := dk_181 0 22 (dk_at dksX6_goes_1 8 rfl rfl)
theorem dX6_goes_35 : decode cX6_goes 35 = .ok (.aload_n 0, 1) := dk_42 (dk_at dksX6_goes_1 11 rfl rfl)
theorem dX6_goes_36 : decode cX6_goes 36 = .ok (.getfield 15, 3) := dk_180 0 15 (dk_at dksX6_goes_1 12 rfl rfl)
theorem dX6_goes_39 : decode cX6_goes 39 = .ok (.iconst 0, 1) := dk_3 (dk_at dksX6_goes_1 15 rfl rfl)
theorem dX6_goes_40 : decode cX6_goes 40 = .ok (.aload_n 0, 1) := dk_42 (dk_at dksX6_goes_1 16 rfl rfl)
theorem dX6_goes_41 : decode cX6_goes 41 = .ok (.getfield 19, 3) := dk_180 0 19 (dk_at dksX6_goes_1 17 rfl rfl)
theorem dX6_goes_44 : decode cX6_goes 44 = .ok (.iconst 0, 1) := dk_3 (dk_at dksX6_goes_1 20 rfl rfl)
theorem dX6_goes_45 : decode cX6_goes 45 = .ok (.bipush 6, 2) := dk_16 6 (dk_at dksX6_goes_1 21 rfl rfl)
theorem dX6_goes_47 : decode cX6_goes 47 = .ok (.invokestatic 47, 3) := dk_184 0 47 (dk_at dksX6_goes_2 0 rfl rfl)
theorem dX6_goes_50 : decode cX6_goes 50 = .ok (.return_, 1) := dk_177 (dk_at dksX6_goes_2 3 rfl rfl)
theorem dX6_goes_51 : decode cX6_goes 51 = .ok (.iconst 0, 1) := dk_3 (dk_at dksX6_goes_2 4 rfl rfl)
theorem dX6_goes_52 : decode cX6_goes 52 = .ok (.istore_n 3, 1) := dk_62 (dk_at dksX6_goes_2 5 rfl rfl)
theorem dX6_goes_53 : decode cX6_goes 53 = .ok (.iload_n 3, 1) := dk_29 (dk_at dksX6_goes_2 6 rfl rfl)
theorem dX6_goes_54 : decode cX6_goes 54 = .ok (.aload_n 0, 1) := dk_42 (dk_at dksX6_goes_2 7 rfl rfl)
theorem dX6_goes_55 : decode cX6_goes 55 = .ok (.getfield 3, 3) := dk_180 0 3 (dk_at dksX6_goes_2 8 rfl rfl)
theorem dX6_goes_58 : decode cX6_goes 58 = .ok (.invokevirtual 53, 3) := dk_182 0 53 (dk_at dksX6_goes_2 11 rfl rfl)
theorem dX6_goes_61 : decode cX6_goes 61 = .ok (.bipush 6, 2) := dk_16 6 (dk_at dksX6_goes_2 14 rfl rfl)
theorem dX6_goes_63 : decode cX6_goes 63 = .ok (.imul, 1) := dk_104 (dk_at dksX6_goes_2 16 rfl rfl)
theorem dX6_goes_64 : decode cX6_goes 64 = .ok (.if_icmp .ge 76, 3) := dk_162 0 76 (dk_at dksX6_goes_2 17 rfl rfl)
theorem dX6_goes_67 : decode cX6_goes 67 = .ok (.aload_n 0, 1) := dk_42 (dk_at dksX6_goes_2 20 rfl rfl)
theorem dX6_goes_68 : decode cX6_goes 68 = .ok (.getfield 3, 3) := dk_180 0 3 (dk_at dksX6_goes_2 21 rfl rfl)
theorem dX6_goes_71 : decode cX6_goes 71 = .ok (.getfield 26, 3) := dk_180 0 26 (dk_at dksX6_goes_3 0 rfl rfl)
theorem dX6_goes_74 : decode cX6_goes 74 = .ok (.iload_n 1, 1) := dk_27 (dk_at dksX6_goes_3 3 rfl rfl)
theorem dX6_goes_75 : decode cX6_goes 75 = .ok (.iload_n 3, 1) := dk_29 (dk_at dksX6_goes_3 4 rfl rfl)
theorem dX6_goes_76 : decode cX6_goes 76 = .ok (.bipush 6, 2) := dk_16 6 (dk_at dksX6_goes_3 5 rfl rfl)
theorem dX6_goes_78 : decode cX6_goes 78 = .ok (.idiv, 1) := dk_108 (dk_at dksX6_goes_3 7 rfl rfl)
theorem dX6_goes_79 : decode cX6_goes 79 = .ok (.iload_n 3, 1) := dk_29 (dk_at dksX6_goes_3 8 rfl rfl)
theorem dX6_goes_80 : decode cX6_goes 80 = .ok (.bipush 6, 2) := dk_16 6 (dk_at dksX6_goes_3 9 rfl rfl)
theorem dX6_goes_82 : decode cX6_goes 82 = .ok (.irem, 1) := dk_112 (dk_at dksX6_goes_3 11 rfl rfl)
theorem dX6_goes_83 : decode cX6_goes 83 = .ok (.invokevirtual 56, 3) := dk_182 0 56 (dk_at dksX6_goes_3 12 rfl rfl)
theorem dX6_goes_86 : decode cX6_goes 86 = .ok (.ifCond .ne 6, 3) := dk_154 0 6 (dk_at dksX6_goes_3 15 rfl rfl)
theorem dX6_goes_89 : decode cX6_goes 89 = .ok (.goto 45, 3) := dk_167 0 45 (dk_at dksX6_goes_3 18 rfl rfl)
theorem dX6_goes_92 : decode cX6_goes 92 = .ok (.aload_n 0, 1) := dk_42 (dk_at dksX6_goes_3 21 rfl rfl)
theorem dX6_goes_93 : decode cX6_goes 93 = .ok (.getfield 15, 3) := dk_180 0 15 (dk_at dksX6_goes_4 0 rfl rfl)
theorem dX6_goes_96 : decode cX6_goes 96 = .ok (.iload_n 1, 1) := dk_27 (dk_at dksX6_goes_4 3 rfl rfl)
theorem dX6_goes_97 : decode cX6_goes 97 = .ok (.iload_n 3, 1) := dk_29 (dk_at dksX6_goes_4 4 rfl rfl)
theorem dX6_goes_98 : decode cX6_goes 98 = .ok (.iastore, 1) := dk_79 (dk_at dksX6_goes_4 5 rfl rfl)
theorem dX6_goes_99 : decode cX6_goes 99 = .ok (.aload_n 0, 1) := dk_42 (dk_at dksX6_goes_4 6 rfl rfl)
theorem dX6_goes_100 : decode cX6_goes 100 = .ok (.getfield 3, 3) := dk_180 0 3 (dk_at dksX6_goes_4 7 rfl rfl)
theorem dX6_goes_103 : decode cX6_goes 103 = .ok (.getfield 26, 3) := dk_180 0 26 (dk_at dksX6_goes_4 10 rfl rfl)
theorem dX6_goes_106 : decode cX6_goes 106 = .ok (.iload_n 1, 1) := dk_27 (dk_at dksX6_goes_4 13 rfl rfl)
theorem dX6_goes_107 : decode cX6_goes 107 = .ok (.iload_n 3, 1) := dk_29 (dk_at dksX6_goes_4 14 rfl rfl)
theorem dX6_goes_108 : decode cX6_goes 108 = .ok (.bipush 6, 2) := dk_16 6 (dk_at dksX6_goes_4 15 rfl rfl)
theorem dX6_goes_110 : decode cX6_goes 110 = .ok (.idiv, 1) := dk_108 (dk_at dksX6_goes_4 17 rfl rfl)
theorem dX6_goes_111 : decode cX6_goes 111 = .ok (.iload_n 3, 1) := dk_29 (dk_at dksX6_goes_4 18 rfl rfl)
theorem dX6_goes_112 : decode cX6_goes 112 = .ok (.bipush 6, 2) := dk_16 6 (dk_at dksX6_goes_4 19 rfl rfl)
theorem dX6_goes_114 : decode cX6_goes 114 = .ok (.irem, 1) := dk_112 (dk_at dksX6_goes_4 21 rfl rfl)
theorem dX6_goes_115 : decode cX6_goes 115 = .ok (.invokevirtual 60, 3) := dk_182 0 60 (dk_at dksX6_goes_5 0 rfl rfl)
theorem dX6_goes_118 : decode cX6_goes 118 = .ok (.aload_n 0, 1) := dk_42 (dk_at dksX6_goes_5 3 rfl rfl)
theorem dX6_goes_119 : decode cX6_goes 119 = .ok (.iload_n 1, 1) := dk_27 (dk_at dksX6_goes_5 4 rfl rfl)
theorem dX6_goes_120 : decode cX6_goes 120 = .ok (.iconst 1, 1) := dk_4 (dk_at dksX6_goes_5 5 rfl rfl)
theorem dX6_goes_121 : decode cX6_goes 121 = .ok (.iadd, 1) := dk_96 (dk_at dksX6_goes_5 6 rfl rfl)
theorem dX6_goes_122 : decode cX6_goes 122 = .ok (.iload_n 2, 1) := dk_28 (dk_at dksX6_goes_5 7 rfl rfl)
theorem dX6_goes_123 : decode cX6_goes 123 = .ok (.iconst 1, 1) := dk_4 (dk_at dksX6_goes_5 8 rfl rfl)
theorem dX6_goes_124 : decode cX6_goes 124 = .ok (.iadd, 1) := dk_96 (dk_at dksX6_goes_5 9 rfl rfl)
theorem dX6_goes_125 : decode cX6_goes 125 = .ok (.invokevirtual 39, 3) := dk_182 0 39 (dk_at dksX6_goes_5 10 rfl rfl)
theorem dX6_goes_128 : decode cX6_goes 128 = .ok (.aload_n 0, 1) := dk_42 (dk_at dksX6_goes_5 13 rfl rfl)
theorem dX6_goes_129 : decode cX6_goes 129 = .ok (.iload_n 1, 1) := dk_27 (dk_at dksX6_goes_5 14 rfl rfl)
theorem dX6_goes_130 : decode cX6_goes 130 = .ok (.iload_n 3, 1) := dk_29 (dk_at dksX6_goes_5 15 rfl rfl)
theorem dX6_goes_131 : decode cX6_goes 131 = .ok (.invokevirtual 64, 3) := dk_182 0 64 (dk_at dksX6_goes_5 16 rfl rfl)
theorem dX6_goes_134 : decode cX6_goes 134 = .ok (.iinc 3 1, 3) := dk_132 3 1 (dk_at dksX6_goes_5 19 rfl rfl)
theorem dX6_goes_137 : decode cX6_goes 137 = .ok (.goto (-84), 3) := dk_167 255 172 (dk_at dksX6_goes_6 0 rfl rfl)
theorem dX6_goes_140 : decode cX6_goes 140 = .ok (.aload_n 0, 1) := dk_42 (dk_at dksX6_goes_6 3 rfl rfl)
theorem dX6_goes_141 : decode cX6_goes 141 = .ok (.getfield 15, 3) := dk_180 0 15 (dk_at dksX6_goes_6 4 rfl rfl)
theorem dX6_goes_144 : decode cX6_goes 144 = .ok (.iload_n 1, 1) := dk_27 (dk_at dksX6_goes_6 7 rfl rfl)
theorem dX6_goes_145 : decode cX6_goes 145 = .ok (.iconst (-1), 1) := dk_2 (dk_at dksX6_goes_6 8 rfl rfl)
theorem dX6_goes_146 : decode cX6_goes 146 = .ok (.iastore, 1) := dk_79 (dk_at dksX6_goes_6 9 rfl rfl)
theorem dX6_goes_147 : decode cX6_goes 147 = .ok (.aload_n 0, 1) := dk_42 (dk_at dksX6_goes_6 10 rfl rfl)
theorem dX6_goes_148 : decode cX6_goes 148 = .ok (.iload_n 1, 1) := dk_27 (dk_at dksX6_goes_6 11 rfl rfl)
theorem dX6_goes_149 : decode cX6_goes 149 = .ok (.iconst 1, 1) := dk_4 (dk_at dksX6_goes_6 12 rfl rfl)
theorem dX6_goes_150 : decode cX6_goes 150 = .ok (.iadd, 1) := dk_96 (dk_at dksX6_goes_6 13 rfl rfl)
theorem dX6_goes_151 : decode cX6_goes 151 = .ok (.iload_n 2, 1) := dk_28 (dk_at dksX6_goes_6 14 rfl rfl)
theorem dX6_goes_152 : decode cX6_goes 152 = .ok (.invokevirtual 39, 3) := dk_182 0 39 (dk_at dksX6_goes_6 15 rfl rfl)
theorem dX6_goes_155 : decode cX6_goes 155 = .ok (.return_, 1) := dk_177 (dk_at dksX6_goes_6 18 rfl rfl)
abbrev cX6_finds : ByteArray := prog_7_method_2_code
abbrev yX6_finds : MethodName := { cls := "WornSkin$Lays", name := "finds", desc := "()LWornSkin$Lays;" }
def dkwX6_finds_1 : List UInt8 := [3, 3, 182, 0, 39, 42, 176]
abbrev dktX6_finds_1 : List UInt8 := dkwX6_finds_1 ++ []
def dkwX6_finds_0 : List UInt8 := [42, 2, 181, 0, 22, 42, 180, 0, 3, 180, 0, 26, 42, 180, 0, 3, 180, 0, 30, 182, 0, 33, 87, 42]
abbrev dktX6_finds_0 : List UInt8 := dkwX6_finds_0 ++ dktX6_finds_1
theorem dksX6_finds_0 : cX6_finds.data.toList.drop 0 = dktX6_finds_0 := by decide +kernel
theorem dksX6_finds_1 : cX6_finds.data.toList.drop 24 = dktX6_finds_1 := dk_seg dksX6_finds_0 24 rfl rfl
theorem dX6_finds_0 : decode cX6_finds 0 = .ok (.aload_n 0, 1) := dk_42 (dk_at dksX6_finds_0 0 rfl rfl)
theorem dX6_finds_1 : decode cX6_finds 1 = .ok (.iconst (-1), 1) := dk_2 (dk_at dksX6_finds_0 1 rfl rfl)
theorem dX6_finds_2 : decode cX6_finds 2 = .ok (.putfield 22, 3) := dk_181 0 22 (dk_at dksX6_finds_0 2 rfl rfl)
theorem dX6_finds_5 : decode cX6_finds 5 = .ok (.aload_n 0, 1) := dk_42 (dk_at dksX6_finds_0 5 rfl rfl)
theorem dX6_finds_6 : decode cX6_finds 6 = .ok (.getfield 3, 3) := dk_180 0 3 (dk_at dksX6_finds_0 6 rfl rfl)
theorem dX6_finds_9 : decode cX6_finds 9 = .ok (.getfield 26, 3) := dk_180 0 26 (dk_at dksX6_finds_0 9 rfl rfl)
theorem dX6_finds_12 : decode cX6_finds 12 = .ok (.aload_n 0, 1) := dk_42 (dk_at dksX6_finds_0 12 rfl rfl)
theorem dX6_finds_13 : decode cX6_finds 13 = .ok (.getfield 3, 3) := dk_180 0 3 (dk_at dksX6_finds_0 13 rfl rfl)
theorem dX6_finds_16 : decode cX6_finds 16 = .ok (.getfield 30, 3) := dk_180 0 30 (dk_at dksX6_finds_0 16 rfl rfl)
theorem dX6_finds_19 : decode cX6_finds 19 = .ok (.invokevirtual 33, 3) := dk_182 0 33 (dk_at dksX6_finds_0 19 rfl rfl)
theorem dX6_finds_22 : decode cX6_finds 22 = .ok (.pop, 1) := dk_87 (dk_at dksX6_finds_0 22 rfl rfl)
theorem dX6_finds_23 : decode cX6_finds 23 = .ok (.aload_n 0, 1) := dk_42 (dk_at dksX6_finds_0 23 rfl rfl)
theorem dX6_finds_24 : decode cX6_finds 24 = .ok (.iconst 0, 1) := dk_3 (dk_at dksX6_finds_1 0 rfl rfl)
theorem dX6_finds_25 : decode cX6_finds 25 = .ok (.iconst 0, 1) := dk_3 (dk_at dksX6_finds_1 1 rfl rfl)
theorem dX6_finds_26 : decode cX6_finds 26 = .ok (.invokevirtual 39, 3) := dk_182 0 39 (dk_at dksX6_finds_1 2 rfl rfl)
theorem dX6_finds_29 : decode cX6_finds 29 = .ok (.aload_n 0, 1) := dk_42 (dk_at dksX6_finds_1 5 rfl rfl)
theorem dX6_finds_30 : decode cX6_finds 30 = .ok (.areturn, 1) := dk_176 (dk_at dksX6_finds_1 6 rfl rfl)
abbrev cX2_term : ByteArray := prog_20_method_34_code
abbrev yX2_term : MethodName := { cls := "WornSkin$Reader", name := "term", desc := "()LWornSkin$Expression;" }
def dkwX2_term_2 : List UInt8 := [199, 0, 7, 43, 167, 0, 4, 44, 176]
abbrev dktX2_term_2 : List UInt8 := dkwX2_term_2 ++ []
def dkwX2_term_1 : List UInt8 := [184, 1, 58, 77, 44, 180, 1, 62, 187, 1, 92, 89, 45, 183, 1, 94, 182, 0, 209, 87, 167, 255, 220, 44]
abbrev dktX2_term_1 : List UInt8 := dkwX2_term_1 ++ dktX2_term_2
def dkwX2_term_0 : List UInt8 := [42, 182, 1, 89, 76, 1, 77, 42, 16, 42, 182, 0, 149, 153, 0, 33, 42, 182, 1, 89, 78, 43, 44]
abbrev dktX2_term_0 : List UInt8 := dkwX2_term_0 ++ dktX2_term_1
theorem dksX2_term_0 : cX2_term.data.toList.drop 0 = dktX2_term_0 := by decide +kernel
theorem dksX2_term_1 : cX2_term.data.toList.drop 23 = dktX2_term_1 := dk_seg dksX2_term_0 23 rfl rfl
theorem dksX2_term_2 : cX2_term.data.toList.drop 47 = dktX2_term_2 := dk_seg dksX2_term_1 24 rfl rfl
theorem dX2_term_0 : decode cX2_term 0 = .ok (.aload_n 0, 1) := dk_42 (dk_at dksX2_term_0 0 rfl rfl)
theorem dX2_term_1 : decode cX2_term 1 = .ok (.invokevirtual 345, 3) := dk_182 1 89 (dk_at dksX2_term_0 1 rfl rfl)
theorem dX2_term_4 : decode cX2_term 4 = .ok (.astore_n 1, 1) := dk_76 (dk_at dksX2_term_0 4 rfl rfl)
theorem dX2_term_5 : decode cX2_term 5 = .ok (.aconst_null, 1) := dk_1 (dk_at dksX2_term_0 5 rfl rfl)
theorem dX2_term_6 : decode cX2_term 6 = .ok (.astore_n 2, 1) := dk_77 (dk_at dksX2_term_0 6 rfl rfl)
theorem dX2_term_7 : decode cX2_term 7 = .ok (.aload_n 0, 1) := dk_42 (dk_at dksX2_term_0 7 rfl rfl)
theorem dX2_term_8 : decode cX2_term 8 = .ok (.bipush 42, 2) := dk_16 42 (dk_at dksX2_term_0 8 rfl rfl)
theorem dX2_term_10 : decode cX2_term 10 = .ok (.invokevirtual 149, 3) := dk_182 0 149 (dk_at dksX2_term_0 10 rfl rfl)
theorem dX2_term_13 : decode cX2_term 13 = .ok (.ifCond .eq 33, 3) := dk_153 0 33 (dk_at dksX2_term_0 13 rfl rfl)
theorem dX2_term_16 : decode cX2_term 16 = .ok (.aload_n 0, 1) := dk_42 (dk_at dksX2_term_0 16 rfl rfl)
theorem dX2_term_17 : decode cX2_term 17 = .ok (.invokevirtual 345, 3) := dk_182 1 89 (dk_at dksX2_term_0 17 rfl rfl)
theorem dX2_term_20 : decode cX2_term 20 = .ok (.astore_n 3, 1) := dk_78 (dk_at dksX2_term_0 20 rfl rfl)
theorem dX2_term_21 : decode cX2_term 21 = .ok (.aload_n 1, 1) := dk_43 (dk_at dksX2_term_0 21 rfl rfl)
theorem dX2_term_22 : decode cX2_term 22 = .ok (.aload_n 2, 1) := dk_44 (dk_at dksX2_term_0 22 rfl rfl)
theorem dX2_term_23 : decode cX2_term 23 = .ok (.invokestatic 314, 3) := dk_184 1 58 (dk_at dksX2_term_1 0 rfl rfl)
theorem dX2_term_26 : decode cX2_term 26 = .ok (.astore_n 2, 1) := dk_77 (dk_at dksX2_term_1 3 rfl rfl)
theorem dX2_term_27 : decode cX2_term 27 = .ok (.aload_n 2, 1) := dk_44 (dk_at dksX2_term_1 4 rfl rfl)
theorem dX2_term_28 : decode cX2_term 28 = .ok (.getfield 318, 3) := dk_180 1 62 (dk_at dksX2_term_1 5 rfl rfl)
theorem dX2_term_31 : decode cX2_term 31 = .ok (.new 348, 3) := dk_187 1 92 (dk_at dksX2_term_1 8 rfl rfl)
theorem dX2_term_34 : decode cX2_term 34 = .ok (.dup, 1) := dk_89 (dk_at dksX2_term_1 11 rfl rfl)
theorem dX2_term_35 : decode cX2_term 35 = .ok (.aload_n 3, 1) := dk_45 (dk_at dksX2_term_1 12 rfl rfl)
theorem dX2_term_36 : decode cX2_term 36 = .ok (.invokespecial 350, 3) := dk_183 1 94 (dk_at dksX2_term_1 13 rfl rfl)
theorem dX2_term_39 : decode cX2_term 39 = .ok (.invokevirtual 209, 3) := dk_182 0 209 (dk_at dksX2_term_1 16 rfl rfl)
theorem dX2_term_42 : decode cX2_term 42 = .ok (.pop, 1) := dk_87 (dk_at dksX2_term_1 19 rfl rfl)
theorem dX2_term_43 : decode cX2_term 43 = .ok (.goto (-36), 3) := dk_167 255 220 (dk_at dksX2_term_1 20 rfl rfl)
theorem dX2_term_46 : decode cX2_term 46 = .ok (.aload_n 2, 1) := dk_44 (dk_at dksX2_term_1 23 rfl rfl)
theorem dX2_term_47 : decode cX2_term 47 = .ok (.ifnonnull 7, 3) := dk_199 0 7 (dk_at dksX2_term_2 0 rfl rfl)
theorem dX2_term_50 : decode cX2_term 50 = .ok (.aload_n 1, 1) := dk_43 (dk_at dksX2_term_2 3 rfl rfl)
theorem dX2_term_51 : decode cX2_term 51 = .ok (.goto 4, 3) := dk_167 0 4 (dk_at dksX2_term_2 4 rfl rfl)
theorem dX2_term_54 : decode cX2_term 54 = .ok (.aload_n 2, 1) := dk_44 (dk_at dksX2_term_2 7 rfl rfl)
theorem dX2_term_55 : decode cX2_term 55 = .ok (.areturn, 1) := dk_176 (dk_at dksX2_term_2 8 rfl rfl)
abbrev cX2_sum : ByteArray := prog_20_method_33_code
abbrev yX2_sum : MethodName := { cls := "WornSkin$Reader", name := "sum", desc := "()LWornSkin$Expression;" }
def dkwX2_sum_4 : List UInt8 := [199, 0, 7, 43, 167, 0, 4, 44, 176]
abbrev dktX2_sum_4 : List UInt8 := dkwX2_sum_4 ++ []
def dkwX2_sum_3 : List UInt8 := [183, 1, 85, 167, 0, 12, 187, 1, 86, 89, 25, 4, 183, 1, 88, 182, 0, 209, 87, 167, 255, 176, 44]
abbrev dktX2_sum_3 : List UInt8 := dkwX2_sum_3 ++ dktX2_sum_4
def dkwX2_sum_2 : List UInt8 := [58, 4, 43, 44, 184, 1, 58, 77, 44, 180, 1, 62, 29, 153, 0, 15, 187, 1, 83, 89, 25, 4]
abbrev dktX2_sum_2 : List UInt8 := dkwX2_sum_2 ++ dktX2_sum_3
def dkwX2_sum_1 : List UInt8 := [153, 0, 68, 42, 16, 43, 182, 0, 146, 62, 42, 89, 180, 0, 130, 4, 96, 181, 0, 130, 42, 182, 1, 80]
abbrev dktX2_sum_1 : List UInt8 := dkwX2_sum_1 ++ dktX2_sum_2
def dkwX2_sum_0 : List UInt8 := [42, 182, 1, 80, 76, 1, 77, 42, 16, 43, 182, 0, 146, 154, 0, 12, 42, 16, 45, 182, 0, 146]
abbrev dktX2_sum_0 : List UInt8 := dkwX2_sum_0 ++ dktX2_sum_1
theorem dksX2_sum_0 : cX2_sum.data.toList.drop 0 = dktX2_sum_0 := by decide +kernel
theorem dksX2_sum_1 : cX2_sum.data.toList.drop 22 = dktX2_sum_1 := dk_seg dksX2_sum_0 22 rfl rfl
theorem dksX2_sum_2 : cX2_sum.data.toList.drop 46 = dktX2_sum_2 := dk_seg dksX2_sum_1 24 rfl rfl
theorem dksX2_sum_3 : cX2_sum.data.toList.drop 68 = dktX2_sum_3 := dk_seg dksX2_sum_2 22 rfl rfl
theorem dksX2_sum_4 : cX2_sum.data.toList.drop 91 = dktX2_sum_4 := dk_seg dksX2_sum_3 23 rfl rfl
theorem dX2_sum_0 : decode cX2_sum 0 = .ok (.aload_n 0, 1) := dk_42 (dk_at dksX2_sum_0 0 rfl rfl)
theorem dX2_sum_1 : decode cX2_sum 1 = .ok (.invokevirtual 336, 3) := dk_182 1 80 (dk_at dksX2_sum_0 1 rfl rfl)
theorem dX2_sum_4 : decode cX2_sum 4 = .ok (.astore_n 1, 1) := dk_76 (dk_at dksX2_sum_0 4 rfl rfl)
theorem dX2_sum_5 : decode cX2_sum 5 = .ok (.aconst_null, 1) := dk_1 (dk_at dksX2_sum_0 5 rfl rfl)
theorem dX2_sum_6 : decode cX2_sum 6 = .ok (.astore_n 2, 1) := dk_77 (dk_at dksX2_sum_0 6 rfl rfl)
theorem dX2_sum_7 : decode cX2_sum 7 = .ok (.aload_n 0, 1) := dk_42 (dk_at dksX2_sum_0 7 rfl rfl)
theorem dX2_sum_8 : decode cX2_sum 8 = .ok (.bipush 43, 2) := dk_16 43 (dk_at dksX2_sum_0 8 rfl rfl)
theorem dX2_sum_10 : decode cX2_sum 10 = .ok (.invokevirtual 146, 3) := dk_182 0 146 (dk_at dksX2_sum_0 10 rfl rfl)
theorem dX2_sum_13 : decode cX2_sum 13 = .ok (.ifCond .ne 12, 3) := dk_154 0 12 (dk_at dksX2_sum_0 13 rfl rfl)
theorem dX2_sum_16 : decode cX2_sum 16 = .ok (.aload_n 0, 1) := dk_42 (dk_at dksX2_sum_0 16 rfl rfl)
theorem dX2_sum_17 : decode cX2_sum 17 = .ok (.bipush 45, 2) := dk_16 45 (dk_at dksX2_sum_0 17 rfl rfl)
theorem dX2_sum_19 : decode cX2_sum 19 = .ok (.invokevirtual 146, 3) := dk_182 0 146 (dk_at dksX2_sum_0 19 rfl rfl)
theorem dX2_sum_22 : decode cX2_sum 22 = .ok (.ifCond .eq 68, 3) := dk_153 0 68 (dk_at dksX2_sum_1 0 rfl rfl)
theorem dX2_sum_25 : decode cX2_sum 25 = .ok (.aload_n 0, 1) := dk_42 (dk_at dksX2_sum_1 3 rfl rfl)
theorem dX2_sum_26 : decode cX2_sum 26 = .ok (.bipush 43, 2) := dk_16 43 (dk_at dksX2_sum_1 4 rfl rfl)
theorem dX2_sum_28 : decode cX2_sum 28 = .ok (.invokevirtual 146, 3) := dk_182 0 146 (dk_at dksX2_sum_1 6 rfl rfl)
theorem dX2_sum_31 : decode cX2_sum 31 = .ok (.istore_n 3, 1) := dk_62 (dk_at dksX2_sum_1 9 rfl rfl)
theorem dX2_sum_32 : decode cX2_sum 32 = .ok (.aload_n 0, 1) := dk_42 (dk_at dksX2_sum_1 10 rfl rfl)
theorem dX2_sum_33 : decode cX2_sum 33 = .ok (.dup, 1) := dk_89 (dk_at dksX2_sum_1 11 rfl rfl)
theorem dX2_sum_34 : decode cX2_sum 34 = .ok (.getfield 130, 3) := dk_180 0 130 (dk_at dksX2_sum_1 12 rfl rfl)
theorem dX2_sum_37 : decode cX2_sum 37 = .ok (.iconst 1, 1) := dk_4 (dk_at dksX2_sum_1 15 rfl rfl)
theorem dX2_sum_38 : decode cX2_sum 38 = .ok (.iadd, 1) := dk_96 (dk_at dksX2_sum_1 16 rfl rfl)
theorem dX2_sum_39 : decode cX2_sum 39 = .ok (.putfield 130, 3) := dk_181 0 130 (dk_at dksX2_sum_1 17 rfl rfl)
theorem dX2_sum_42 : decode cX2_sum 42 = .ok (.aload_n 0, 1) := dk_42 (dk_at dksX2_sum_1 20 rfl rfl)
theorem dX2_sum_43 : decode cX2_sum 43 = .ok (.invokevirtual 336, 3) := dk_182 1 80 (dk_at dksX2_sum_1 21 rfl rfl)
theorem dX2_sum_46 : decode cX2_sum 46 = .ok (.astore 4, 2) := dk_58 4 (dk_at dksX2_sum_2 0 rfl rfl)
theorem dX2_sum_48 : decode cX2_sum 48 = .ok (.aload_n 1, 1) := dk_43 (dk_at dksX2_sum_2 2 rfl rfl)
theorem dX2_sum_49 : decode cX2_sum 49 = .ok (.aload_n 2, 1) := dk_44 (dk_at dksX2_sum_2 3 rfl rfl)
theorem dX2_sum_50 : decode cX2_sum 50 = .ok (.invokestatic 314, 3) := dk_184 1 58 (dk_at dksX2_sum_2 4 rfl rfl)
theorem dX2_sum_53 : decode cX2_sum 53 = .ok (.astore_n 2, 1) := dk_77 (dk_at dksX2_sum_2 7 rfl rfl)
theorem dX2_sum_54 : decode cX2_sum 54 = .ok (.aload_n 2, 1) := dk_44 (dk_at dksX2_sum_2 8 rfl rfl)
theorem dX2_sum_55 : decode cX2_sum 55 = .ok (.getfield 318, 3) := dk_180 1 62 (dk_at dksX2_sum_2 9 rfl rfl)
theorem dX2_sum_58 : decode cX2_sum 58 = .ok (.iload_n 3, 1) := dk_29 (dk_at dksX2_sum_2 12 rfl rfl)
theorem dX2_sum_59 : decode cX2_sum 59 = .ok (.ifCond .eq 15, 3) := dk_153 0 15 (dk_at dksX2_sum_2 13 rfl rfl)
theorem dX2_sum_62 : decode cX2_sum 62 = .ok (.new 339, 3) := dk_187 1 83 (dk_at dksX2_sum_2 16 rfl rfl)
theorem dX2_sum_65 : decode cX2_sum 65 = .ok (.dup, 1) := dk_89 (dk_at dksX2_sum_2 19 rfl rfl)
theorem dX2_sum_66 : decode cX2_sum 66 = .ok (.aload 4, 2) := dk_25 4 (dk_at dksX2_sum_2 20 rfl rfl)
theorem dX2_sum_68 : decode cX2_sum 68 = .ok (.invokespecial 341, 3) := dk_183 1 85 (dk_at dksX2_sum_3 0 rfl rfl)
theorem dX2_sum_71 : decode cX2_sum 71 = .ok (.goto 12, 3) := dk_167 0 12 (dk_at dksX2_sum_3 3 rfl rfl)
theorem dX2_sum_74 : decode cX2_sum 74 = .ok (.new 342, 3) := dk_187 1 86 (dk_at dksX2_sum_3 6 rfl rfl)
theorem dX2_sum_77 : decode cX2_sum 77 = .ok (.dup, 1) := dk_89 (dk_at dksX2_sum_3 9 rfl rfl)
theorem dX2_sum_78 : decode cX2_sum 78 = .ok (.aload 4, 2) := dk_25 4 (dk_at dksX2_sum_3 10 rfl rfl)
theorem dX2_sum_80 : decode cX2_sum 80 = .ok (.invokespecial 344, 3) := dk_183 1 88 (dk_at dksX2_sum_3 12 rfl rfl)
theorem dX2_sum_83 : decode cX2_sum 83 = .ok (.invokevirtual 209, 3) := dk_182 0 209 (dk_at dksX2_sum_3 15 rfl rfl)
theorem dX2_sum_86 : decode cX2_sum 86 = .ok (.pop, 1) := dk_87 (dk_at dksX2_sum_3 18 rfl rfl)
theorem dX2_sum_87 : decode cX2_sum 87 = .ok (.goto (-80), 3) := dk_167 255 176 (dk_at dksX2_sum_3 19 rfl rfl)
theorem dX2_sum_90 : decode cX2_sum 90 = .ok (.aload_n 2, 1) := dk_44 (dk_at dksX2_sum_3 22 rfl rfl)
theorem dX2_sum_91 : decode cX2_sum 91 = .ok (.ifnonnull 7, 3) := dk_199 0 7 (dk_at dksX2_sum_4 0 rfl rfl)
theorem dX2_sum_94 : decode cX2_sum 94 = .ok (.aload_n 1, 1) := dk_43 (dk_at dksX2_sum_4 3 rfl rfl)
theorem dX2_sum_95 : decode cX2_sum 95 = .ok (.goto 4, 3) := dk_167 0 4 (dk_at dksX2_sum_4 4 rfl rfl)
theorem dX2_sum_98 : decode cX2_sum 98 = .ok (.aload_n 2, 1) := dk_44 (dk_at dksX2_sum_4 7 rfl rfl)
theorem dX2_sum_99 : decode cX2_sum 99 = .ok (.areturn, 1) := dk_176 (dk_at dksX2_sum_4 8 rfl rfl)
abbrev cX2_test : ByteArray := prog_20_method_32_code
abbrev yX2_test : MethodName := { cls := "WornSkin$Reader", name := "test", desc := "()LWornSkin$Expression;" }
def dkwX2_test_3 : List UInt8 := [183, 1, 76, 167, 0, 11, 187, 1, 77, 89, 45, 183, 1, 79, 182, 0, 209, 87, 25, 4, 176]
abbrev dktX2_test_3 : List UInt8 := dkwX2_test_3 ++ []
def dkwX2_test_2 : List UInt8 := [187, 1, 50, 89, 43, 183, 1, 52, 58, 4, 25, 4, 180, 1, 62, 28, 153, 0, 14, 187, 1, 74, 89, 45]
abbrev dktX2_test_2 : List UInt8 := dkwX2_test_2 ++ dktX2_test_3
def dkwX2_test_1 : List UInt8 := [176, 42, 16, 60, 182, 0, 146, 61, 42, 89, 180, 0, 130, 4, 96, 181, 0, 130, 42, 182, 1, 71, 78]
abbrev dktX2_test_1 : List UInt8 := dkwX2_test_1 ++ dktX2_test_2
def dkwX2_test_0 : List UInt8 := [42, 182, 1, 71, 76, 42, 16, 60, 182, 0, 146, 154, 0, 14, 42, 16, 61, 182, 0, 146, 154, 0, 5, 43]
abbrev dktX2_test_0 : List UInt8 := dkwX2_test_0 ++ dktX2_test_1
theorem dksX2_test_0 : cX2_test.data.toList.drop 0 = dktX2_test_0 := by decide +kernel
theorem dksX2_test_1 : cX2_test.data.toList.drop 24 = dktX2_test_1 := dk_seg dksX2_test_0 24 rfl rfl
theorem dksX2_test_2 : cX2_test.data.toList.drop 47 = dktX2_test_2 := dk_seg dksX2_test_1 23 rfl rfl
theorem dksX2_test_3 : cX2_test.data.toList.drop 71 = dktX2_test_3 := dk_seg dksX2_test_2 24 rfl rfl
theorem dX2_test_0 : decode cX2_test 0 = .ok (.aload_n 0, 1) := dk_42 (dk_at dksX2_test_0 0 rfl rfl)
theorem dX2_test_1 : decode cX2_test 1 = .ok (.invokevirtual 327, 3) := dk_182 1 71 (dk_at dksX2_test_0 1 rfl rfl)
theorem dX2_test_4 : decode cX2_test 4 = .ok (.astore_n 1, 1) := dk_76 (dk_at dksX2_test_0 4 rfl rfl)
theorem dX2_test_5 : decode cX2_test 5 = .ok (.aload_n 0, 1) := dk_42 (dk_at dksX2_test_0 5 rfl rfl)
theorem dX2_test_6 : decode cX2_test 6 = .ok (.bipush 60, 2) := dk_16 60 (dk_at dksX2_test_0 6 rfl rfl)
theorem dX2_test_8 : decode cX2_test 8 = .ok (.invokevirtual 146, 3) := dk_182 0 146 (dk_at dksX2_test_0 8 rfl rfl)
theorem dX2_test_11 : decode cX2_test 11 = .ok (.ifCond .ne 14, 3) := dk_154 0 14 (dk_at dksX2_test_0 11 rfl rfl)
theorem dX2_test_14 : decode cX2_test 14 = .ok (.aload_n 0, 1) := dk_42 (dk_at dksX2_test_0 14 rfl rfl)
theorem dX2_test_15 : decode cX2_test 15 = .ok (.bipush 61, 2) := dk_16 61 (dk_at dksX2_test_0 15 rfl rfl)
theorem dX2_test_17 : decode cX2_test 17 = .ok (.invokevirtual 146, 3) := dk_182 0 146 (dk_at dksX2_test_0 17 rfl rfl)
theorem dX2_test_20 : decode cX2_test 20 = .ok (.ifCond .ne 5, 3) := dk_154 0 5 (dk_at dksX2_test_0 20 rfl rfl)
theorem dX2_test_23 : decode cX2_test 23 = .ok (.aload_n 1, 1) := dk_43 (dk_at dksX2_test_0 23 rfl rfl)
theorem dX2_test_24 : decode cX2_test 24 = .ok (.areturn, 1) := dk_176 (dk_at dksX2_test_1 0 rfl rfl)
theorem dX2_test_25 : decode cX2_test 25 = .ok (.aload_n 0, 1) := dk_42 (dk_at dksX2_test_1 1 rfl rfl)
theorem dX2_test_26 : decode cX2_test 26 = .ok (.bipush 60, 2) := dk_16 60 (dk_at dksX2_test_1 2 rfl rfl)
theorem dX2_test_28 : decode cX2_test 28 = .ok (.invokevirtual 146, 3) := dk_182 0 146 (dk_at dksX2_test_1 4 rfl rfl)
theorem dX2_test_31 : decode cX2_test 31 = .ok (.istore_n 2, 1) := dk_61 (dk_at dksX2_test_1 7 rfl rfl)
theorem dX2_test_32 : decode cX2_test 32 = .ok (.aload_n 0, 1) := dk_42 (dk_at dksX2_test_1 8 rfl rfl)
theorem dX2_test_33 : decode cX2_test 33 = .ok (.dup, 1) := dk_89 (dk_at dksX2_test_1 9 rfl rfl)
theorem dX2_test_34 : decode cX2_test 34 = .ok (.getfield 130, 3) := dk_180 0 130 (dk_at dksX2_test_1 10 rfl rfl)
theorem dX2_test_37 : decode cX2_test 37 = .ok (.iconst 1, 1) := dk_4 (dk_at dksX2_test_1 13 rfl rfl)
theorem dX2_test_38 : decode cX2_test 38 = .ok (.iadd, 1) := dk_96 (dk_at dksX2_test_1 14 rfl rfl)
theorem dX2_test_39 : decode cX2_test 39 = .ok (.putfield 130, 3) := dk_181 0 130 (dk_at dksX2_test_1 15 rfl rfl)
theorem dX2_test_42 : decode cX2_test 42 = .ok (.aload_n 0, 1) := dk_42 (dk_at dksX2_test_1 18 rfl rfl)
theorem dX2_test_43 : decode cX2_test 43 = .ok (.invokevirtual 327, 3) := dk_182 1 71 (dk_at dksX2_test_1 19 rfl rfl)
theorem dX2_test_46 : decode cX2_test 46 = .ok (.astore_n 3, 1) := dk_78 (dk_at dksX2_test_1 22 rfl rfl)
theorem dX2_test_47 : decode cX2_test 47 = .ok (.new 306, 3) := dk_187 1 50 (dk_at dksX2_test_2 0 rfl rfl)
theorem dX2_test_50 : decode cX2_test 50 = .ok (.dup, 1) := dk_89 (dk_at dksX2_test_2 3 rfl rfl)
theorem dX2_test_51 : decode cX2_test 51 = .ok (.aload_n 1, 1) := dk_43 (dk_at dksX2_test_2 4 rfl rfl)
theorem dX2_test_52 : decode cX2_test 52 = .ok (.invokespecial 308, 3) := dk_183 1 52 (dk_at dksX2_test_2 5 rfl rfl)
theorem dX2_test_55 : decode cX2_test 55 = .ok (.astore 4, 2) := dk_58 4 (dk_at dksX2_test_2 8 rfl rfl)
theorem dX2_test_57 : decode cX2_test 57 = .ok (.aload 4, 2) := dk_25 4 (dk_at dksX2_test_2 10 rfl rfl)
theorem dX2_test_59 : decode cX2_test 59 = .ok (.getfield 318, 3) := dk_180 1 62 (dk_at dksX2_test_2 12 rfl rfl)
theorem dX2_test_62 : decode cX2_test 62 = .ok (.iload_n 2, 1) := dk_28 (dk_at dksX2_test_2 15 rfl rfl)
theorem dX2_test_63 : decode cX2_test 63 = .ok (.ifCond .eq 14, 3) := dk_153 0 14 (dk_at dksX2_test_2 16 rfl rfl)
theorem dX2_test_66 : decode cX2_test 66 = .ok (.new 330, 3) := dk_187 1 74 (dk_at dksX2_test_2 19 rfl rfl)
theorem dX2_test_69 : decode cX2_test 69 = .ok (.dup, 1) := dk_89 (dk_at dksX2_test_2 22 rfl rfl)
theorem dX2_test_70 : decode cX2_test 70 = .ok (.aload_n 3, 1) := dk_45 (dk_at dksX2_test_2 23 rfl rfl)
theorem dX2_test_71 : decode cX2_test 71 = .ok (.invokespecial 332, 3) := dk_183 1 76 (dk_at dksX2_test_3 0 rfl rfl)
theorem dX2_test_74 : decode cX2_test 74 = .ok (.goto 11, 3) := dk_167 0 11 (dk_at dksX2_test_3 3 rfl rfl)
theorem dX2_test_77 : decode cX2_test 77 = .ok (.new 333, 3) := dk_187 1 77 (dk_at dksX2_test_3 6 rfl rfl)
theorem dX2_test_80 : decode cX2_test 80 = .ok (.dup, 1) := dk_89 (dk_at dksX2_test_3 9 rfl rfl)
theorem dX2_test_81 : decode cX2_test 81 = .ok (.aload_n 3, 1) := dk_45 (dk_at dksX2_test_3 10 rfl rfl)
theorem dX2_test_82 : decode cX2_test 82 = .ok (.invokespecial 335, 3) := dk_183 1 79 (dk_at dksX2_test_3 11 rfl rfl)
theorem dX2_test_85 : decode cX2_test 85 = .ok (.invokevirtual 209, 3) := dk_182 0 209 (dk_at dksX2_test_3 14 rfl rfl)
theorem dX2_test_88 : decode cX2_test 88 = .ok (.pop, 1) := dk_87 (dk_at dksX2_test_3 17 rfl rfl)
theorem dX2_test_89 : decode cX2_test 89 = .ok (.aload 4, 2) := dk_25 4 (dk_at dksX2_test_3 18 rfl rfl)
theorem dX2_test_91 : decode cX2_test 91 = .ok (.areturn, 1) := dk_176 (dk_at dksX2_test_3 20 rfl rfl)
abbrev cX2_part : ByteArray := prog_20_method_35_code
abbrev yX2_part : MethodName := { cls := "WornSkin$Reader", name := "part", desc := "()LWornSkin$Expression;" }
def dkwX2_part_8 : List UInt8 := [45, 176]
abbrev dktX2_part_8 : List UInt8 := dkwX2_part_8 ++ []
def dkwX2_part_7 : List UInt8 := [182, 1, 47, 78, 28, 154, 0, 9, 42, 16, 41, 182, 0, 180, 42, 89, 180, 1, 45, 4, 100, 181, 1, 45]
abbrev dktX2_part_7 : List UInt8 := dkwX2_part_7 ++ dktX2_part_8
def dkwX2_part_6 : List UInt8 := [181, 1, 45, 28, 153, 0, 17, 187, 1, 101, 89, 42, 182, 1, 89, 183, 1, 103, 167, 0, 7, 42]
abbrev dktX2_part_6 : List UInt8 := dkwX2_part_6 ++ dktX2_part_7
def dkwX2_part_5 : List UInt8 := [180, 0, 84, 42, 180, 0, 130, 4, 100, 47, 136, 183, 1, 100, 176, 42, 89, 180, 1, 45, 4, 96]
abbrev dktX2_part_5 : List UInt8 := dkwX2_part_5 ++ dktX2_part_6
def dkwX2_part_4 : List UInt8 := [154, 0, 38, 42, 180, 0, 81, 42, 180, 0, 130, 4, 100, 46, 5, 160, 0, 23, 187, 1, 98, 89, 42]
abbrev dktX2_part_4 : List UInt8 := dkwX2_part_4 ++ dktX2_part_5
def dkwX2_part_3 : List UInt8 := [89, 180, 0, 130, 4, 96, 181, 0, 130, 27, 2, 159, 0, 12, 187, 1, 95, 89, 27, 183, 1, 97, 176, 28]
abbrev dktX2_part_3 : List UInt8 := dkwX2_part_3 ++ dktX2_part_4
def dkwX2_part_2 : List UInt8 := [154, 0, 9, 42, 4, 182, 0, 152, 191, 42, 180, 1, 45, 8, 160, 0, 9, 42, 8, 182, 0, 152, 191, 42]
abbrev dktX2_part_2 : List UInt8 := dkwX2_part_2 ++ dktX2_part_3
def dkwX2_part_1 : List UInt8 := [154, 0, 31, 42, 180, 0, 81, 42, 180, 0, 130, 46, 5, 159, 0, 18, 42, 16, 40, 182, 0, 146]
abbrev dktX2_part_1 : List UInt8 := dkwX2_part_1 ++ dktX2_part_2
def dkwX2_part_0 : List UInt8 := [42, 42, 180, 0, 19, 182, 0, 156, 60, 42, 18, 62, 182, 0, 142, 61, 27, 2, 160, 0, 35, 28]
abbrev dktX2_part_0 : List UInt8 := dkwX2_part_0 ++ dktX2_part_1
theorem dksX2_part_0 : cX2_part.data.toList.drop 0 = dktX2_part_0 := by decide +kernel
theorem dksX2_part_1 : cX2_part.data.toList.drop 22 = dktX2_part_1 := dk_seg dksX2_part_0 22 rfl rfl
theorem dksX2_part_2 : cX2_part.data.toList.drop 44 = dktX2_part_2 := dk_seg dksX2_part_1 22 rfl rfl
theorem dksX2_part_3 : cX2_part.data.toList.drop 68 = dktX2_part_3 := dk_seg dksX2_part_2 24 rfl rfl
theorem dksX2_part_4 : cX2_part.data.toList.drop 92 = dktX2_part_4 := dk_seg dksX2_part_3 24 rfl rfl
theorem dksX2_part_5 : cX2_part.data.toList.drop 115 = dktX2_part_5 := dk_seg dksX2_part_4 23 rfl rfl
theorem dksX2_part_6 : cX2_part.data.toList.drop 137 = dktX2_part_6 := dk_seg dksX2_part_5 22 rfl rfl
theorem dksX2_part_7 : cX2_part.data.toList.drop 159 = dktX2_part_7 := dk_seg dksX2_part_6 22 rfl rfl
theorem dksX2_part_8 : cX2_part.data.toList.drop 183 = dktX2_part_8 := dk_seg dksX2_part_7 24 rfl rfl
theorem dX2_part_0 : decode cX2_part 0 = .ok (.aload_n 0, 1) := dk_42 (dk_at dksX2_part_0 0 rfl rfl)
theorem dX2_part_1 : decode cX2_part 1 = .ok (.aload_n 0, 1) := dk_42 (dk_at dksX2_part_0 1 rfl rfl)
theorem dX2_part_2 : decode cX2_part 2 = .ok (.getfield 19, 3) := dk_180 0 19 (dk_at dksX2_part_0 2 rfl rfl)
theorem dX2_part_5 : decode cX2_part 5 = .ok (.invokevirtual 156, 3) := dk_182 0 156 (dk_at dksX2_part_0 5 rfl rfl)
theorem dX2_part_8 : decode cX2_part 8 = .ok (.istore_n 1, 1) := dk_60 (dk_at dksX2_part_0 8 rfl rfl)
theorem dX2_part_9 : decode cX2_part 9 = .ok (.aload_n 0, 1) := dk_42 (dk_at dksX2_part_0 9 rfl rfl)
theorem dX2_part_10 : decode cX2_part 10 = .ok (.ldc 62, 2) := dk_18 62 (dk_at dksX2_part_0 10 rfl rfl)
theorem dX2_part_12 : decode cX2_part 12 = .ok (.invokevirtual 142, 3) := dk_182 0 142 (dk_at dksX2_part_0 12 rfl rfl)
theorem dX2_part_15 : decode cX2_part 15 = .ok (.istore_n 2, 1) := dk_61 (dk_at dksX2_part_0 15 rfl rfl)
theorem dX2_part_16 : decode cX2_part 16 = .ok (.iload_n 1, 1) := dk_27 (dk_at dksX2_part_0 16 rfl rfl)
theorem dX2_part_17 : decode cX2_part 17 = .ok (.iconst (-1), 1) := dk_2 (dk_at dksX2_part_0 17 rfl rfl)
theorem dX2_part_18 : decode cX2_part 18 = .ok (.if_icmp .ne 35, 3) := dk_160 0 35 (dk_at dksX2_part_0 18 rfl rfl)
theorem dX2_part_21 : decode cX2_part 21 = .ok (.iload_n 2, 1) := dk_28 (dk_at dksX2_part_0 21 rfl rfl)
theorem dX2_part_22 : decode cX2_part 22 = .ok (.ifCond .ne 31, 3) := dk_154 0 31 (dk_at dksX2_part_1 0 rfl rfl)
theorem dX2_part_25 : decode cX2_part 25 = .ok (.aload_n 0, 1) := dk_42 (dk_at dksX2_part_1 3 rfl rfl)
theorem dX2_part_26 : decode cX2_part 26 = .ok (.getfield 81, 3) := dk_180 0 81 (dk_at dksX2_part_1 4 rfl rfl)
theorem dX2_part_29 : decode cX2_part 29 = .ok (.aload_n 0, 1) := dk_42 (dk_at dksX2_part_1 7 rfl rfl)
theorem dX2_part_30 : decode cX2_part 30 = .ok (.getfield 130, 3) := dk_180 0 130 (dk_at dksX2_part_1 8 rfl rfl)
theorem dX2_part_33 : decode cX2_part 33 = .ok (.iaload, 1) := dk_46 (dk_at dksX2_part_1 11 rfl rfl)
theorem dX2_part_34 : decode cX2_part 34 = .ok (.iconst 2, 1) := dk_5 (dk_at dksX2_part_1 12 rfl rfl)
theorem dX2_part_35 : decode cX2_part 35 = .ok (.if_icmp .eq 18, 3) := dk_159 0 18 (dk_at dksX2_part_1 13 rfl rfl)
theorem dX2_part_38 : decode cX2_part 38 = .ok (.aload_n 0, 1) := dk_42 (dk_at dksX2_part_1 16 rfl rfl)
theorem dX2_part_39 : decode cX2_part 39 = .ok (.bipush 40, 2) := dk_16 40 (dk_at dksX2_part_1 17 rfl rfl)
theorem dX2_part_41 : decode cX2_part 41 = .ok (.invokevirtual 146, 3) := dk_182 0 146 (dk_at dksX2_part_1 19 rfl rfl)
theorem dX2_part_44 : decode cX2_part 44 = .ok (.ifCond .ne 9, 3) := dk_154 0 9 (dk_at dksX2_part_2 0 rfl rfl)
theorem dX2_part_47 : decode cX2_part 47 = .ok (.aload_n 0, 1) := dk_42 (dk_at dksX2_part_2 3 rfl rfl)
theorem dX2_part_48 : decode cX2_part 48 = .ok (.iconst 1, 1) := dk_4 (dk_at dksX2_part_2 4 rfl rfl)
theorem dX2_part_49 : decode cX2_part 49 = .ok (.invokevirtual 152, 3) := dk_182 0 152 (dk_at dksX2_part_2 5 rfl rfl)
theorem dX2_part_52 : decode cX2_part 52 = .ok (.athrow, 1) := dk_191 (dk_at dksX2_part_2 8 rfl rfl)
theorem dX2_part_53 : decode cX2_part 53 = .ok (.aload_n 0, 1) := dk_42 (dk_at dksX2_part_2 9 rfl rfl)
theorem dX2_part_54 : decode cX2_part 54 = .ok (.getfield 301, 3) := dk_180 1 45 (dk_at dksX2_part_2 10 rfl rfl)
theorem dX2_part_57 : decode cX2_part 57 = .ok (.iconst 5, 1) := dk_8 (dk_at dksX2_part_2 13 rfl rfl)
theorem dX2_part_58 : decode cX2_part 58 = .ok (.if_icmp .ne 9, 3) := dk_160 0 9 (dk_at dksX2_part_2 14 rfl rfl)
theorem dX2_part_61 : decode cX2_part 61 = .ok (.aload_n 0, 1) := dk_42 (dk_at dksX2_part_2 17 rfl rfl)
theorem dX2_part_62 : decode cX2_part 62 = .ok (.iconst 5, 1) := dk_8 (dk_at dksX2_part_2 18 rfl rfl)
theorem dX2_part_63 : decode cX2_part 63 = .ok (.invokevirtual 152, 3) := dk_182 0 152 (dk_at dksX2_part_2 19 rfl rfl)
theorem dX2_part_66 : decode cX2_part 66 = .ok (.athrow, 1) := dk_191 (dk_at dksX2_part_2 22 rfl rfl)
theorem dX2_part_67 : decode cX2_part 67 = .ok (.aload_n 0, 1) := dk_42 (dk_at dksX2_part_2 23 rfl rfl)
theorem dX2_part_68 : decode cX2_part 68 = .ok (.dup, 1) := dk_89 (dk_at dksX2_part_3 0 rfl rfl)
theorem dX2_part_69 : decode cX2_part 69 = .ok (.getfield 130, 3) := dk_180 0 130 (dk_at dksX2_part_3 1 rfl rfl)
theorem dX2_part_72 : decode cX2_part 72 = .ok (.iconst 1, 1) := dk_4 (dk_at dksX2_part_3 4 rfl rfl)
theorem dX2_part_73 : decode cX2_part 73 = .ok (.iadd, 1) := dk_96 (dk_at dksX2_part_3 5 rfl rfl)
theorem dX2_part_74 : decode cX2_part 74 = .ok (.putfield 130, 3) := dk_181 0 130 (dk_at dksX2_part_3 6 rfl rfl)
theorem dX2_part_77 : decode cX2_part 77 = .ok (.iload_n 1, 1) := dk_27 (dk_at dksX2_part_3 9 rfl rfl)
theorem dX2_part_78 : decode cX2_part 78 = .ok (.iconst (-1), 1) := dk_2 (dk_at dksX2_part_3 10 rfl rfl)
theorem dX2_part_79 : decode cX2_part 79 = .ok (.if_icmp .eq 12, 3) := dk_159 0 12 (dk_at dksX2_part_3 11 rfl rfl)
theorem dX2_part_82 : decode cX2_part 82 = .ok (.new 351, 3) := dk_187 1 95 (dk_at dksX2_part_3 14 rfl rfl)
theorem dX2_part_85 : decode cX2_part 85 = .ok (.dup, 1) := dk_89 (dk_at dksX2_part_3 17 rfl rfl)
theorem dX2_part_86 : decode cX2_part 86 = .ok (.iload_n 1, 1) := dk_27 (dk_at dksX2_part_3 18 rfl rfl)
theorem dX2_part_87 : decode cX2_part 87 = .ok (.invokespecial 353, 3) := dk_183 1 97 (dk_at dksX2_part_3 19 rfl rfl)
theorem dX2_part_90 : decode cX2_part 90 = .ok (.areturn, 1) := dk_176 (dk_at dksX2_part_3 22 rfl rfl)
theorem dX2_part_91 : decode cX2_part 91 = .ok (.iload_n 2, 1) := dk_28 (dk_at dksX2_part_3 23 rfl rfl)
theorem dX2_part_92 : decode cX2_part 92 = .ok (.ifCond .ne 38, 3) := dk_154 0 38 (dk_at dksX2_part_4 0 rfl rfl)
theorem dX2_part_95 : decode cX2_part 95 = .ok (.aload_n 0, 1) := dk_42 (dk_at dksX2_part_4 3 rfl rfl)
theorem dX2_part_96 : decode cX2_part 96 = .ok (.getfield 81, 3) := dk_180 0 81 (dk_at dksX2_part_4 4 rfl rfl)
theorem dX2_part_99 : decode cX2_part 99 = .ok (.aload_n 0, 1) := dk_42 (dk_at dksX2_part_4 7 rfl rfl)
theorem dX2_part_100 : decode cX2_part 100 = .ok (.getfield 130, 3) := dk_180 0 130 (dk_at dksX2_part_4 8 rfl rfl)
theorem dX2_part_103 : decode cX2_part 103 = .ok (.iconst 1, 1) := dk_4 (dk_at dksX2_part_4 11 rfl rfl)
theorem dX2_part_104 : decode cX2_part 104 = .ok (.isub, 1) := dk_100 (dk_at dksX2_part_4 12 rfl rfl)
theorem dX2_part_105 : decode cX2_part 105 = .ok (.iaload, 1) := dk_46 (dk_at dksX2_part_4 13 rfl rfl)
theorem dX2_part_106 : decode cX2_part 106 = .ok (.iconst 2, 1) := dk_5 (dk_at dksX2_part_4 14 rfl rfl)
theorem dX2_part_107 : decode cX2_part 107 = .ok (.if_icmp .ne 23, 3) := dk_160 0 23 (dk_at dksX2_part_4 15 rfl rfl)
theorem dX2_part_110 : decode cX2_part 110 = .ok (.new 354, 3) := dk_187 1 98 (dk_at dksX2_part_4 18 rfl rfl)
theorem dX2_part_113 : decode cX2_part 113 = .ok (.dup, 1) := dk_89 (dk_at dksX2_part_4 21 rfl rfl)
theorem dX2_part_114 : decode cX2_part 114 = .ok (.aload_n 0, 1) := dk_42 (dk_at dksX2_part_4 22 rfl rfl)
theorem dX2_part_115 : decode cX2_part 115 = .ok (.getfield 84, 3) := dk_180 0 84 (dk_at dksX2_part_5 0 rfl rfl)
theorem dX2_part_118 : decode cX2_part 118 = .ok (.aload_n 0, 1) := dk_42 (dk_at dksX2_part_5 3 rfl rfl)
theorem dX2_part_119 : decode cX2_part 119 = .ok (.getfield 130, 3) := dk_180 0 130 (dk_at dksX2_part_5 4 rfl rfl)
theorem dX2_part_122 : decode cX2_part 122 = .ok (.iconst 1, 1) := dk_4 (dk_at dksX2_part_5 7 rfl rfl)
theorem dX2_part_123 : decode cX2_part 123 = .ok (.isub, 1) := dk_100 (dk_at dksX2_part_5 8 rfl rfl)
theorem dX2_part_124 : decode cX2_part 124 = .ok (.laload, 1) := dk_47 (dk_at dksX2_part_5 9 rfl rfl)
theorem dX2_part_125 : decode cX2_part 125 = .ok (.l2i, 1) := dk_136 (dk_at dksX2_part_5 10 rfl rfl)
theorem dX2_part_126 : decode cX2_part 126 = .ok (.invokespecial 356, 3) := dk_183 1 100 (dk_at dksX2_part_5 11 rfl rfl)
theorem dX2_part_129 : decode cX2_part 129 = .ok (.areturn, 1) := dk_176 (dk_at dksX2_part_5 14 rfl rfl)
theorem dX2_part_130 : decode cX2_part 130 = .ok (.aload_n 0, 1) := dk_42 (dk_at dksX2_part_5 15 rfl rfl)
theorem dX2_part_131 : decode cX2_part 131 = .ok (.dup, 1) := dk_89 (dk_at dksX2_part_5 16 rfl rfl)
theorem dX2_part_132 : decode cX2_part 132 = .ok (.getfield 301, 3) := dk_180 1 45 (dk_at dksX2_part_5 17 rfl rfl)
theorem dX2_part_135 : decode cX2_part 135 = .ok (.iconst 1, 1) := dk_4 (dk_at dksX2_part_5 20 rfl rfl)
theorem dX2_part_136 : decode cX2_part 136 = .ok (.iadd, 1) := dk_96 (dk_at dksX2_part_5 21 rfl rfl)
theorem dX2_part_137 : decode cX2_part 137 = .ok (.putfield 301, 3) := dk_181 1 45 (dk_at dksX2_part_6 0 rfl rfl)
theorem dX2_part_140 : decode cX2_part 140 = .ok (.iload_n 2, 1) := dk_28 (dk_at dksX2_part_6 3 rfl rfl)
theorem dX2_part_141 : decode cX2_part 141 = .ok (.ifCond .eq 17, 3) := dk_153 0 17 (dk_at dksX2_part_6 4 rfl rfl)
theorem dX2_part_144 : decode cX2_part 144 = .ok (.new 357, 3) := dk_187 1 101 (dk_at dksX2_part_6 7 rfl rfl)
theorem dX2_part_147 : decode cX2_part 147 = .ok (.dup, 1) := dk_89 (dk_at dksX2_part_6 10 rfl rfl)
theorem dX2_part_148 : decode cX2_part 148 = .ok (.aload_n 0, 1) := dk_42 (dk_at dksX2_part_6 11 rfl rfl)
theorem dX2_part_149 : decode cX2_part 149 = .ok (.invokevirtual 345, 3) := dk_182 1 89 (dk_at dksX2_part_6 12 rfl rfl)
theorem dX2_part_152 : decode cX2_part 152 = .ok (.invokespecial 359, 3) := dk_183 1 103 (dk_at dksX2_part_6 15 rfl rfl)
theorem dX2_part_155 : decode cX2_part 155 = .ok (.goto 7, 3) := dk_167 0 7 (dk_at dksX2_part_6 18 rfl rfl)
theorem dX2_part_158 : decode cX2_part 158 = .ok (.aload_n 0, 1) := dk_42 (dk_at dksX2_part_6 21 rfl rfl)
theorem dX2_part_159 : decode cX2_part 159 = .ok (.invokevirtual 303, 3) := dk_182 1 47 (dk_at dksX2_part_7 0 rfl rfl)
theorem dX2_part_162 : decode cX2_part 162 = .ok (.astore_n 3, 1) := dk_78 (dk_at dksX2_part_7 3 rfl rfl)
theorem dX2_part_163 : decode cX2_part 163 = .ok (.iload_n 2, 1) := dk_28 (dk_at dksX2_part_7 4 rfl rfl)
theorem dX2_part_164 : decode cX2_part 164 = .ok (.ifCond .ne 9, 3) := dk_154 0 9 (dk_at dksX2_part_7 5 rfl rfl)
theorem dX2_part_167 : decode cX2_part 167 = .ok (.aload_n 0, 1) := dk_42 (dk_at dksX2_part_7 8 rfl rfl)
theorem dX2_part_168 : decode cX2_part 168 = .ok (.bipush 41, 2) := dk_16 41 (dk_at dksX2_part_7 9 rfl rfl)
theorem dX2_part_170 : decode cX2_part 170 = .ok (.invokevirtual 180, 3) := dk_182 0 180 (dk_at dksX2_part_7 11 rfl rfl)
theorem dX2_part_173 : decode cX2_part 173 = .ok (.aload_n 0, 1) := dk_42 (dk_at dksX2_part_7 14 rfl rfl)
theorem dX2_part_174 : decode cX2_part 174 = .ok (.dup, 1) := dk_89 (dk_at dksX2_part_7 15 rfl rfl)
theorem dX2_part_175 : decode cX2_part 175 = .ok (.getfield 301, 3) := dk_180 1 45 (dk_at dksX2_part_7 16 rfl rfl)
theorem dX2_part_178 : decode cX2_part 178 = .ok (.iconst 1, 1) := dk_4 (dk_at dksX2_part_7 19 rfl rfl)
theorem dX2_part_179 : decode cX2_part 179 = .ok (.isub, 1) := dk_100 (dk_at dksX2_part_7 20 rfl rfl)
theorem dX2_part_180 : decode cX2_part 180 = .ok (.putfield 301, 3) := dk_181 1 45 (dk_at dksX2_part_7 21 rfl rfl)
theorem dX2_part_183 : decode cX2_part 183 = .ok (.aload_n 3, 1) := dk_45 (dk_at dksX2_part_8 0 rfl rfl)
theorem dX2_part_184 : decode cX2_part 184 = .ok (.areturn, 1) := dk_176 (dk_at dksX2_part_8 1 rfl rfl)
