set_option maxRecDepth 100000
abbrev cX7_init : ByteArray := prog_32_method_1_code
abbrev yX7_init : MethodName := { cls := "WornSkinModel", name := "<init>", desc := "()V" }
def dkwX7_init_15 : List UInt8 := [181, 0, 141, 177]
abbrev dktX7_init_15 : List UInt8 := dkwX7_init_15 ++ []
def dkwX7_init_14 : List UInt8 := [181, 0, 132, 42, 7, 188, 4, 181, 0, 135, 42, 16, 6, 188, 10, 181, 0, 138, 42, 16, 6, 188, 10]
abbrev dktX7_init_14 : List UInt8 := dkwX7_init_14 ++ dktX7_init_15
def dkwX7_init_13 : List UInt8 := [42, 16, 25, 188, 10, 181, 0, 126, 42, 16, 100, 188, 10, 181, 0, 129, 42, 17, 1, 144, 188, 10]
abbrev dktX7_init_13 : List UInt8 := dkwX7_init_13 ++ dktX7_init_14
def dkwX7_init_12 : List UInt8 := [42, 16, 40, 188, 4, 181, 0, 117, 42, 16, 25, 188, 10, 181, 0, 120, 42, 16, 25, 188, 10, 181, 0, 123]
abbrev dktX7_init_12 : List UInt8 := dkwX7_init_12 ++ dktX7_init_13
def dkwX7_init_11 : List UInt8 := [42, 16, 40, 188, 10, 181, 0, 108, 42, 16, 40, 188, 10, 181, 0, 111, 42, 16, 40, 188, 10, 181, 0, 114]
abbrev dktX7_init_11 : List UInt8 := dkwX7_init_11 ++ dktX7_init_12
def dkwX7_init_10 : List UInt8 := [17, 0, 240, 188, 10, 181, 0, 99, 42, 17, 0, 240, 188, 10, 181, 0, 102, 42, 8, 188, 10, 181, 0, 105]
abbrev dktX7_init_10 : List UInt8 := dkwX7_init_10 ++ dktX7_init_11
def dkwX7_init_9 : List UInt8 := [188, 10, 181, 0, 90, 42, 17, 0, 240, 188, 10, 181, 0, 93, 42, 17, 0, 240, 188, 10, 181, 0, 96, 42]
abbrev dktX7_init_9 : List UInt8 := dkwX7_init_9 ++ dktX7_init_10
def dkwX7_init_8 : List UInt8 := [188, 10, 181, 0, 81, 42, 16, 7, 188, 10, 181, 0, 84, 42, 16, 20, 188, 10, 181, 0, 87, 42, 16, 6]
abbrev dktX7_init_8 : List UInt8 := dkwX7_init_8 ++ dktX7_init_9
def dkwX7_init_7 : List UInt8 := [188, 10, 181, 0, 72, 42, 16, 7, 188, 10, 181, 0, 75, 42, 16, 7, 188, 10, 181, 0, 78, 42, 16, 7]
abbrev dktX7_init_7 : List UInt8 := dkwX7_init_7 ++ dktX7_init_8
def dkwX7_init_6 : List UInt8 := [188, 10, 181, 0, 63, 42, 16, 7, 188, 10, 181, 0, 66, 42, 16, 7, 188, 10, 181, 0, 69, 42, 16, 7]
abbrev dktX7_init_6 : List UInt8 := dkwX7_init_6 ++ dktX7_init_7
def dkwX7_init_5 : List UInt8 := [188, 10, 181, 0, 53, 42, 16, 7, 188, 4, 181, 0, 56, 42, 16, 7, 188, 10, 181, 0, 60, 42, 16, 7]
abbrev dktX7_init_5 : List UInt8 := dkwX7_init_5 ++ dktX7_init_6
def dkwX7_init_4 : List UInt8 := [188, 10, 181, 0, 44, 42, 5, 188, 10, 181, 0, 47, 42, 17, 7, 208, 188, 10, 181, 0, 50, 42, 16, 7]
abbrev dktX7_init_4 : List UInt8 := dkwX7_init_4 ++ dktX7_init_5
def dkwX7_init_3 : List UInt8 := [188, 10, 181, 0, 35, 42, 16, 12, 188, 10, 181, 0, 38, 42, 16, 24, 188, 10, 181, 0, 41, 42, 5]
abbrev dktX7_init_3 : List UInt8 := dkwX7_init_3 ++ dktX7_init_4
def dkwX7_init_2 : List UInt8 := [188, 10, 181, 0, 26, 42, 16, 6, 188, 10, 181, 0, 29, 42, 16, 12, 188, 10, 181, 0, 32, 42, 16, 12]
abbrev dktX7_init_2 : List UInt8 := dkwX7_init_2 ++ dktX7_init_3
def dkwX7_init_1 : List UInt8 := [188, 11, 181, 0, 16, 42, 16, 12, 188, 11, 181, 0, 20, 42, 16, 6, 188, 10, 181, 0, 23, 42, 16, 6]
abbrev dktX7_init_1 : List UInt8 := dkwX7_init_1 ++ dktX7_init_2
def dkwX7_init_0 : List UInt8 := [42, 183, 0, 1, 42, 17, 3, 232, 188, 10, 181, 0, 7, 42, 16, 6, 188, 10, 181, 0, 13, 42, 16, 6]
abbrev dktX7_init_0 : List UInt8 := dkwX7_init_0 ++ dktX7_init_1
theorem dksX7_init_0 : cX7_init.data.toList.drop 0 = dktX7_init_0 := by decide +kernel
theorem dksX7_init_1 : cX7_init.data.toList.drop 24 = dktX7_init_1 := dk_seg dksX7_init_0 24 rfl rfl
theorem dksX7_init_2 : cX7_init.data.toList.drop 48 = dktX7_init_2 := dk_seg dksX7_init_1 24 rfl rfl
theorem dksX7_init_3 : cX7_init.data.toList.drop 72 = dktX7_init_3 := dk_seg dksX7_init_2 24 rfl rfl
theorem dksX7_init_4 : cX7_init.data.toList.drop 95 = dktX7_init_4 := dk_seg dksX7_init_3 23 rfl rfl
theorem dksX7_init_5 : cX7_init.data.toList.drop 119 = dktX7_init_5 := dk_seg dksX7_init_4 24 rfl rfl
theorem dksX7_init_6 : cX7_init.data.toList.drop 143 = dktX7_init_6 := dk_seg dksX7_init_5 24 rfl rfl
theorem dksX7_init_7 : cX7_init.data.toList.drop 167 = dktX7_init_7 := dk_seg dksX7_init_6 24 rfl rfl
theorem dksX7_init_8 : cX7_init.data.toList.drop 191 = dktX7_init_8 := dk_seg dksX7_init_7 24 rfl rfl
theorem dksX7_init_9 : cX7_init.data.toList.drop 215 = dktX7_init_9 := dk_seg dksX7_init_8 24 rfl rfl
theorem dksX7_init_10 : cX7_init.data.toList.drop 239 = dktX7_init_10 := dk_seg dksX7_init_9 24 rfl rfl
theorem dksX7_init_11 : cX7_init.data.toList.drop 263 = dktX7_init_11 := dk_seg dksX7_init_10 24 rfl rfl
theorem dksX7_init_12 : cX7_init.data.toList.drop 287 = dktX7_init_12 := dk_seg dksX7_init_11 24 rfl rfl
theorem dksX7_init_13 : cX7_init.data.toList.drop 311 = dktX7_init_13 := dk_seg dksX7_init_12 24 rfl rfl
theorem dksX7_init_14 : cX7_init.data.toList.drop 333 = dktX7_init_14 := dk_seg dksX7_init_13 22 rfl rfl
theorem dksX7_init_15 : cX7_init.data.toList.drop 356 = dktX7_init_15 := dk_seg dksX7_init_14 23 rfl rfl
theorem dX7_init_0 : decode cX7_init 0 = .ok (.aload_n 0, 1) := dk_42 (dk_at dksX7_init_0 0 rfl rfl)
theorem dX7_init_1 : decode cX7_init 1 = .ok (.invokespecial 1, 3) := dk_183 0 1 (dk_at dksX7_init_0 1 rfl rfl)
theorem dX7_init_4 : decode cX7_init 4 = .ok (.aload_n 0, 1) := dk_42 (dk_at dksX7_init_0 4 rfl rfl)
theorem dX7_init_5 : decode cX7_init 5 = .ok (.sipush 1000, 3) := dk_17 3 232 (dk_at dksX7_init_0 5 rfl rfl)
theorem dX7_init_8 : decode cX7_init 8 = .ok (.newarray .int, 2) := dk_188_10 (dk_at dksX7_init_0 8 rfl rfl)
theorem dX7_init_10 : decode cX7_init 10 = .ok (.putfield 7, 3) := dk_181 0 7 (dk_at dksX7_init_0 10 rfl rfl)
theorem dX7_init_13 : decode cX7_init 13 = .ok (.aload_n 0, 1) := dk_42 (dk_at dksX7_init_0 13 rfl rfl)
theorem dX7_init_14 : decode cX7_init 14 = .ok (.bipush 6, 2) := dk_16 6 (dk_at dksX7_init_0 14 rfl rfl)
theorem dX7_init_16 : decode cX7_init 16 = .ok (.newarray .int, 2) := dk_188_10 (dk_at dksX7_init_0 16 rfl rfl)
theorem dX7_init_18 : decode cX7_init 18 = .ok (.putfield 13, 3) := dk_181 0 13 (dk_at dksX7_init_0 18 rfl rfl)
theorem dX7_init_21 : decode cX7_init 21 = .ok (.aload_n 0, 1) := dk_42 (dk_at dksX7_init_0 21 rfl rfl)
theorem dX7_init_22 : decode cX7_init 22 = .ok (.bipush 6, 2) := dk_16 6 (dk_at dksX7_init_0 22 rfl rfl)
theorem dX7_init_24 : decode cX7_init 24 = .ok (.newarray .long, 2) := dk_188_11 (dk_at dksX7_init_1 0 rfl rfl)
theorem dX7_init_26 : decode cX7_init 26 = .ok (.putfield 16, 3) := dk_181 0 16 (dk_at dksX7_init_1 2 rfl rfl)
theorem dX7_init_29 : decode cX7_init 29 = .ok (.aload_n 0, 1) := dk_42 (dk_at dksX7_init_1 5 rfl rfl)
theorem dX7_init_30 : decode cX7_init 30 = .ok (.bipush 12, 2) := dk_16 12 (dk_at dksX7_init_1 6 rfl rfl)
theorem dX7_init_32 : decode cX7_init 32 = .ok (.newarray .long, 2) := dk_188_11 (dk_at dksX7_init_1 8 rfl rfl)
theorem dX7_init_34 : decode cX7_init 34 = .ok (.putfield 20, 3) := dk_181 0 20 (dk_at dksX7_init_1 10 rfl rfl)
theorem dX7_init_37 : decode cX7_init 37 = .ok (.aload_n 0, 1) := dk_42 (dk_at dksX7_init_1 13 rfl rfl)
theorem dX7_init_38 : decode cX7_init 38 = .ok (.bipush 6, 2) := dk_16 6 (dk_at dksX7_init_1 14 rfl rfl)
theorem dX7_init_40 : decode cX7_init 40 = .ok (.newarray .int, 2) := dk_188_10 (dk_at dksX7_init_1 16 rfl rfl)
theorem dX7_init_42 : decode cX7_init 42 = .ok (.putfield 23, 3) := dk_181 0 23 (dk_at dksX7_init_1 18 rfl rfl)
theorem dX7_init_45 : decode cX7_init 45 = .ok (.aload_n 0, 1) := dk_42 (dk_at dksX7_init_1 21 rfl rfl)
theorem dX7_init_46 : decode cX7_init 46 = .ok (.bipush 6, 2) := dk_16 6 (dk_at dksX7_init_1 22 rfl rfl)
theorem dX7_init_48 : decode cX7_init 48 = .ok (.newarray .int, 2) := dk_188_10 (dk_at dksX7_init_2 0 rfl rfl)
theorem dX7_init_50 : decode cX7_init 50 = .ok (.putfield 26, 3) := dk_181 0 26 (dk_at dksX7_init_2 2 rfl rfl)
theorem dX7_init_53 : decode cX7_init 53 = .ok (.aload_n 0, 1) := dk_42 (dk_at dksX7_init_2 5 rfl rfl)
theorem dX7_init_54 : decode cX7_init 54 = .ok (.bipush 6, 2) := dk_16 6 (dk_at dksX7_init_2 6 rfl rfl)
theorem dX7_init_56 : decode cX7_init 56 = .ok (.newarray .int, 2) := dk_188_10 (dk_at dksX7_init_2 8 rfl rfl)
theorem dX7_init_58 : decode cX7_init 58 = .ok (.putfield 29, 3) := dk_181 0 29 (dk_at dksX7_init_2 10 rfl rfl)
theorem dX7_init_61 : decode cX7_init 61 = .ok (.aload_n 0, 1) := dk_42 (dk_at dksX7_init_2 13 rfl rfl)
theorem dX7_init_62 : decode cX7_init 62 = .ok (.bipush 12, 2) := dk_16 12 (dk_at dksX7_init_2 14 rfl rfl)
theorem dX7_init_64 : decode cX7_init 64 = .ok (.newarray .int, 2) := dk_188_10 (dk_at dksX7_init_2 16 rfl rfl)
theorem dX7_init_66 : decode cX7_init 66 = .ok (.putfield 32, 3) := dk_181 0 32 (dk_at dksX7_init_2 18 rfl rfl)
theorem dX7_init_69 : decode cX7_init 69 = .ok (.aload_n 0, 1) := dk_42 (dk_at dksX7_init_2 21 rfl rfl)
theorem dX7_init_70 : decode cX7_init 70 = .ok (.bipush 12, 2) := dk_16 12 (dk_at dksX7_init_2 22 rfl rfl)
theorem dX7_init_72 : decode cX7_init 72 = .ok (.newarray .int, 2) := dk_188_10 (dk_at dksX7_init_3 0 rfl rfl)
theorem dX7_init_74 : decode cX7_init 74 = .ok (.putfield 35, 3) := dk_181 0 35 (dk_at dksX7_init_3 2 rfl rfl)
theorem dX7_init_77 : decode cX7_init 77 = .ok (.aload_n 0, 1) := dk_42 (dk_at dksX7_init_3 5 rfl rfl)
theorem dX7_init_78 : decode cX7_init 78 = .ok (.bipush 12, 2) := dk_16 12 (dk_at dksX7_init_3 6 rfl rfl)
theorem dX7_init_80 : decode cX7_init 80 = .ok (.newarray .int, 2) := dk_188_10 (dk_at dksX7_init_3 8 rfl rfl)
theorem dX7_init_82 : decode cX7_init 82 = .ok (.putfield 38, 3) := dk_181 0 38 (dk_at dksX7_init_3 10 rfl rfl)
theorem dX7_init_85 : decode cX7_init 85 = .ok (.aload_n 0, 1) := dk_42 (dk_at dksX7_init_3 13 rfl rfl)
theorem dX7_init_86 : decode cX7_init 86 = .ok (.bipush 24, 2) := dk_16 24 (dk_at dksX7_init_3 14 rfl rfl)
theorem dX7_init_88 : decode cX7_init 88 = .ok (.newarray .int, 2) := dk_188_10 (dk_at dksX7_init_3 16 rfl rfl)
theorem dX7_init_90 : decode cX7_init 90 = .ok (.putfield 41, 3) := dk_181 0 41 (dk_at dksX7_init_3 18 rfl rfl)
theorem dX7_init_93 : decode cX7_init 93 = .ok (.aload_n 0, 1) := dk_42 (dk_at dksX7_init_3 21 rfl rfl)
theorem dX7_init_94 : decode cX7_init 94 = .ok (.iconst 2, 1) := dk_5 (dk_at dksX7_init_3 22 rfl rfl)
theorem dX7_init_95 : decode cX7_init 95 = .ok (.newarray .int, 2) := dk_188_10 (dk_at dksX7_init_4 0 rfl rfl)
theorem dX7_init_97 : decode cX7_init 97 = .ok (.putfield 44, 3) := dk_181 0 44 (dk_at dksX7_init_4 2 rfl rfl)
theorem dX7_init_100 : decode cX7_init 100 = .ok (.aload_n 0, 1) := dk_42 (dk_at dksX7_init_4 5 rfl rfl)
theorem dX7_init_101 : decode cX7_init 101 = .ok (.iconst 2, 1) := dk_5 (dk_at dksX7_init_4 6 rfl rfl)
theorem dX7_init_102 : decode cX7_init 102 = .ok (.newarray .int, 2) := dk_188_10 (dk_at dksX7_init_4 7 rfl rfl)
theorem dX7_init_104 : decode cX7_init 104 = .ok (.putfield 47, 3) := dk_181 0 47 (dk_at dksX7_init_4 9 rfl rfl)
theorem dX7_init_107 : decode cX7_init 107 = .ok (.aload_n 0, 1) := dk_42 (dk_at dksX7_init_4 12 rfl rfl)
theorem dX7_init_108 : decode cX7_init 108 = .ok (.sipush 2000, 3) := dk_17 7 208 (dk_at dksX7_init_4 13 rfl rfl)
theorem dX7_init_111 : decode cX7_init 111 = .ok (.newarray .int, 2) := dk_188_10 (dk_at dksX7_init_4 16 rfl rfl)
theorem dX7_init_113 : decode cX7_init 113 = .ok (.putfield 50, 3) := dk_181 0 50 (dk_at dksX7_init_4 18 rfl rfl)
theorem dX7_init_116 : decode cX7_init 116 = .ok (.aload_n 0, 1) := dk_42 (dk_at dksX7_init_4 21 rfl rfl)
theorem dX7_init_117 : decode cX7_init 117 = .ok (.bipush 7, 2) := dk_16 7 (dk_at dksX7_init_4 22 rfl rfl)
theorem dX7_init_119 : decode cX7_init 119 = .ok (.newarray .int, 2) := dk_188_10 (dk_at dksX7_init_5 0 rfl rfl)
theorem dX7_init_121 : decode cX7_init 121 = .ok (.putfield 53, 3) := dk_181 0 53 (dk_at dksX7_init_5 2 rfl rfl)
theorem dX7_init_124 : decode cX7_init 124 = .ok (.aload_n 0, 1) := dk_42 (dk_at dksX7_init_5 5 rfl rfl)
theorem dX7_init_125 : decode cX7_init 125 = .ok (.bipush 7, 2) := dk_16 7 (dk_at dksX7_init_5 6 rfl rfl)
theorem dX7_init_127 : decode cX7_init 127 = .ok (.newarray .boolean, 2) := dk_188_4 (dk_at dksX7_init_5 8 rfl rfl)
theorem dX7_init_129 : decode cX7_init 129 = .ok (.putfield 56, 3) := dk_181 0 56 (dk_at dksX7_init_5 10 rfl rfl)
theorem dX7_init_132 : decode cX7_init 132 = .ok (.aload_n 0, 1) := dk_42 (dk_at dksX7_init_5 13 rfl rfl)
theorem dX7_init_133 : decode cX7_init 133 = .ok (.bipush 7, 2) := dk_16 7 (dk_at dksX7_init_5 14 rfl rfl)
theorem dX7_init_135 : decode cX7_init 135 = .ok (.newarray .int, 2) := dk_188_10 (dk_at dksX7_init_5 16 rfl rfl)
theorem dX7_init_137 : decode cX7_init 137 = .ok (.putfield 60, 3) := dk_181 0 60 (dk_at dksX7_init_5 18 rfl rfl)
theorem dX7_init_140 : decode cX7_init 140 = .ok (.aload_n 0, 1) := dk_42 (dk_at dksX7_init_5 21 rfl rfl)
theorem dX7_init_141 : decode cX7_init 141 = .ok (.bipush 7, 2) := dk_16 7 (dk_at dksX7_init_5 22 rfl rfl)
theorem dX7_init_143 : decode cX7_init 143 = .ok (.newarray .int, 2) := dk_188_10 (dk_at dksX7_init_6 0 rfl rfl)
theorem dX7_init_145 : decode cX7_init 145 = .ok (.putfield 63, 3) := dk_181 0 63 (dk_at dksX7_init_6 2 rfl rfl)
theorem dX7_init_148 : decode cX7_init 148 = .ok (.aload_n 0, 1) := dk_42 (dk_at dksX7_init_6 5 rfl rfl)
theorem dX7_init_149 : decode cX7_init 149 = .ok (.bipush 7, 2) := dk_16 7 (dk_at dksX7_init_6 6 rfl rfl)
theorem dX7_init_151 : decode cX7_init 151 = .ok (.newarray .int, 2) := dk_188_10 (dk_at dksX7_init_6 8 rfl rfl)
theorem dX7_init_153 : decode cX7_init 153 = .ok (.putfield 66, 3) := dk_181 0 66 (dk_at dksX7_init_6 10 rfl rfl)
theorem dX7_init_156 : decode cX7_init 156 = .ok (.aload_n 0, 1) := dk_42 (dk_at dksX7_init_6 13 rfl rfl)
theorem dX7_init_157 : decode cX7_init 157 = .ok (.bipush 7, 2) := dk_16 7 (dk_at dksX7_init_6 14 rfl rfl)
theorem dX7_init_159 : decode cX7_init 159 = .ok (.newarray .int, 2) := dk_188_10 (dk_at dksX7_init_6 16 rfl rfl)
theorem dX7_init_161 : decode cX7_init 161 = .ok (.putfield 69, 3) := dk_181 0 69 (dk_at dksX7_init_6 18 rfl rfl)
theorem dX7_init_164 : decode cX7_init 164 = .ok (.aload_n 0, 1) := dk_42 (dk_at dksX7_init_6 21 rfl rfl)
theorem dX7_init_165 : decode cX7_init 165 = .ok (.bipush 7, 2) := dk_16 7 (dk_at dksX7_init_6 22 rfl rfl)
theorem dX7_init_167 : decode cX7_init 167 = .ok (.newarray .int, 2) := dk_188_10 (dk_at dksX7_init_7 0 rfl rfl)
theorem dX7_init_169 : decode cX7_init 169 = .ok (.putfield 72, 3) := dk_181 0 72 (dk_at dksX7_init_7 2 rfl rfl)
theorem dX7_init_172 : decode cX7_init 172 = .ok (.aload_n 0, 1) := dk_42 (dk_at dksX7_init_7 5 rfl rfl)
theorem dX7_init_173 : decode cX7_init 173 = .ok (.bipush 7, 2) := dk_16 7 (dk_at dksX7_init_7 6 rfl rfl)
theorem dX7_init_175 : decode cX7_init 175 = .ok (.newarray .int, 2) := dk_188_10 (dk_at dksX7_init_7 8 rfl rfl)
theorem dX7_init_177 : decode cX7_init 177 = .ok (.putfield 75, 3) := dk_181 0 75 (dk_at dksX7_init_7 10 rfl rfl)
theorem dX7_init_180 : decode cX7_init 180 = .ok (.aload_n 0, 1) := dk_42 (dk_at dksX7_init_7 13 rfl rfl)
theorem dX7_init_181 : decode cX7_init 181 = .ok (.bipush 7, 2) := dk_16 7 (dk_at dksX7_init_7 14 rfl rfl)
theorem dX7_init_183 : decode cX7_init 183 = .ok (.newarray .int, 2) := dk_188_10 (dk_at dksX7_init_7 16 rfl rfl)
theorem dX7_init_185 : decode cX7_init 185 = .ok (.putfield 78, 3) := dk_181 0 78 (dk_at dksX7_init_7 18 rfl rfl)
theorem dX7_init_188 : decode cX7_init 188 = .ok (.aload_n 0, 1) := dk_42 (dk_at dksX7_init_7 21 rfl rfl)
theorem dX7_init_189 : decode cX7_init 189 = .ok (.bipush 7, 2) := dk_16 7 (dk_at dksX7_init_7 22 rfl rfl)
theorem dX7_init_191 : decode cX7_init 191 = .ok (.newarray .int, 2) := dk_188_10 (dk_at dksX7_init_8 0 rfl rfl)
theorem dX7_init_193 : decode cX7_init 193 = .ok (.putfield 81, 3) := dk_181 0 81 (dk_at dksX7_init_8 2 rfl rfl)
theorem dX7_init_196 : decode cX7_init 196 = .ok (.aload_n 0, 1) := dk_42 (dk_at dksX7_init_8 5 rfl rfl)
theorem dX7_init_197 : decode cX7_init 197 = .ok (.bipush 7, 2) := dk_16 7 (dk_at dksX7_init_8 6 rfl rfl)
theorem dX7_init_199 : decode cX7_init 199 = .ok (.newarray .int, 2) := dk_188_10 (dk_at dksX7_init_8 8 rfl rfl)
theorem dX7_init_201 : decode cX7_init 201 = .ok (.putfield 84, 3) := dk_181 0 84 (dk_at dksX7_init_8 10 rfl rfl)
theorem dX7_init_204 : decode cX7_init 204 = .ok (.aload_n 0, 1) := dk_42 (dk_at dksX7_init_8 13 rfl rfl)
theorem dX7_init_205 : decode cX7_init 205 = .ok (.bipush 20, 2) := dk_16 20 (dk_at dksX7_init_8 14 rfl rfl)
theorem dX7_init_207 : decode cX7_init 207 = .ok (.newarray .int, 2) := dk_188_10 (dk_at dksX7_init_8 16 rfl rfl)
theorem dX7_init_209 : decode cX7_init 209 = .ok (.putfield 87, 3) := dk_181 0 87 (dk_at dksX7_init_8 18 rfl rfl)
theorem dX7_init_212 : decode cX7_init 212 = .ok (.aload_n 0, 1) := dk_42 (dk_at dksX7_init_8 21 rfl rfl)
theorem dX7_init_213 : decode cX7_init 213 = .ok (.bipush 6, 2) := dk_16 6 (dk_at dksX7_init_8 22 rfl rfl)
theorem dX7_init_215 : decode cX7_init 215 = .ok (.newarray .int, 2) := dk_188_10 (dk_at dksX7_init_9 0 rfl rfl)
theorem dX7_init_217 : decode cX7_init 217 = .ok (.putfield 90, 3) := dk_181 0 90 (dk_at dksX7_init_9 2 rfl rfl)
theorem dX7_init_220 : decode cX7_init 220 = .ok (.aload_n 0, 1) := dk_42 (dk_at dksX7_init_9 5 rfl rfl)
theorem dX7_init_221 : decode cX7_init 221 = .ok (.sipush 240, 3) := dk_17 0 240 (dk_at dksX7_init_9 6 rfl rfl)
theorem dX7_init_224 : decode cX7_init 224 = .ok (.newarray .int, 2) := dk_188_10 (dk_at dksX7_init_9 9 rfl rfl)
theorem dX7_init_226 : decode cX7_init 226 = .ok (.putfield 93, 3) := dk_181 0 93 (dk_at dksX7_init_9 11 rfl rfl)
theorem dX7_init_229 : decode cX7_init 229 = .ok (.aload_n 0, 1) := dk_42 (dk_at dksX7_init_9 14 rfl rfl)
theorem dX7_init_230 : decode cX7_init 230 = .ok (.sipush 240, 3) := dk_17 0 240 (dk_at dksX7_init_9 15 rfl rfl)
theorem dX7_init_233 : decode cX7_init 233 = .ok (.newarray .int, 2) := dk_188_10 (dk_at dksX7_init_9 18 rfl rfl)
theorem dX7_init_235 : decode cX7_init 235 = .ok (.putfield 96, 3) := dk_181 0 96 (dk_at dksX7_init_9 20 rfl rfl)
theorem dX7_init_238 : decode cX7_init 238 = .ok (.aload_n 0, 1) := dk_42 (dk_at dksX7_init_9 23 rfl rfl)
theorem dX7_init_239 : decode cX7_init 239 = .ok (.sipush 240, 3) := dk_17 0 240 (dk_at dksX7_init_10 0 rfl rfl)
theorem dX7_init_242 : decode cX7_init 242 = .ok (.newarray .int, 2) := dk_188_10 (dk_at dksX7_init_10 3 rfl rfl)
theorem dX7_init_244 : decode cX7_init 244 = .ok (.putfield 99, 3) := dk_181 0 99 (dk_at dksX7_init_10 5 rfl rfl)
theorem dX7_init_247 : decode cX7_init 247 = .ok (.aload_n 0, 1) := dk_42 (dk_at dksX7_init_10 8 rfl rfl)
theorem dX7_init_248 : decode cX7_init 248 = .ok (.sipush 240, 3) := dk_17 0 240 (dk_at dksX7_init_10 9 rfl rfl)
theorem dX7_init_251 : decode cX7_init 251 = .ok (.newarray .int, 2) := dk_188_10 (dk_at dksX7_init_10 12 rfl rfl)
theorem dX7_init_253 : decode cX7_init 253 = .ok (.putfield 102, 3) := dk_181 0 102 (dk_at dksX7_init_10 14 rfl rfl)
theorem dX7_init_256 : decode cX7_init 256 = .ok (.aload_n 0, 1) := dk_42 (dk_at dksX7_init_10 17 rfl rfl)
theorem dX7_init_257 : decode cX7_init 257 = .ok (.iconst 5, 1) := dk_8 (dk_at dksX7_init_10 18 rfl rfl)
theorem dX7_init_258 : decode cX7_init 258 = .ok (.newarray .int, 2) := dk_188_10 (dk_at dksX7_init_10 19 rfl rfl)
theorem dX7_init_260 : decode cX7_init 260 = .ok (.putfield 105, 3) := dk_181 0 105 (dk_at dksX7_init_10 21 rfl rfl)
theorem dX7_init_263 : decode cX7_init 263 = .ok (.aload_n 0, 1) := dk_42 (dk_at dksX7_init_11 0 rfl rfl)
theorem dX7_init_264 : decode cX7_init 264 = .ok (.bipush 40, 2) := dk_16 40 (dk_at dksX7_init_11 1 rfl rfl)
theorem dX7_init_266 : decode cX7_init 266 = .ok (.newarray .int, 2) := dk_188_10 (dk_at dksX7_init_11 3 rfl rfl)
theorem dX7_init_268 : decode cX7_init 268 = .ok (.putfield 108, 3) := dk_181 0 108 (dk_at dksX7_init_11 5 rfl rfl)
theorem dX7_init_271 : decode cX7_init 271 = .ok (.aload_n 0, 1) := dk_42 (dk_at dksX7_init_11 8 rfl rfl)
theorem dX7_init_272 : decode cX7_init 272 = .ok (.bipush 40, 2) := dk_16 40 (dk_at dksX7_init_11 9 rfl rfl)
theorem dX7_init_274 : decode cX7_init 274 = .ok (.newarray .int, 2) := dk_188_10 (dk_at dksX7_init_11 11 rfl rfl)
theorem dX7_init_276 : decode cX7_init 276 = .ok (.putfield 111, 3) := dk_181 0 111 (dk_at dksX7_init_11 13 rfl rfl)
theorem dX7_init_279 : decode cX7_init 279 = .ok (.aload_n 0, 1) := dk_42 (dk_at dksX7_init_11 16 rfl rfl)
theorem dX7_init_280 : decode cX7_init 280 = .ok (.bipush 40, 2) := dk_16 40 (dk_at dksX7_init_11 17 rfl rfl)
theorem dX7_init_282 : decode cX7_init 282 = .ok (.newarray .int, 2) := dk_188_10 (dk_at dksX7_init_11 19 rfl rfl)
theorem dX7_init_284 : decode cX7_init 284 = .ok (.putfield 114, 3) := dk_181 0 114 (dk_at dksX7_init_11 21 rfl rfl)
theorem dX7_init_287 : decode cX7_init 287 = .ok (.aload_n 0, 1) := dk_42 (dk_at dksX7_init_12 0 rfl rfl)
theorem dX7_init_288 : decode cX7_init 288 = .ok (.bipush 40, 2) := dk_16 40 (dk_at dksX7_init_12 1 rfl rfl)
theorem dX7_init_290 : decode cX7_init 290 = .ok (.newarray .boolean, 2) := dk_188_4 (dk_at dksX7_init_12 3 rfl rfl)
theorem dX7_init_292 : decode cX7_init 292 = .ok (.putfield 117, 3) := dk_181 0 117 (dk_at dksX7_init_12 5 rfl rfl)
theorem dX7_init_295 : decode cX7_init 295 = .ok (.aload_n 0, 1) := dk_42 (dk_at dksX7_init_12 8 rfl rfl)
theorem dX7_init_296 : decode cX7_init 296 = .ok (.bipush 25, 2) := dk_16 25 (dk_at dksX7_init_12 9 rfl rfl)
theorem dX7_init_298 : decode cX7_init 298 = .ok (.newarray .int, 2) := dk_188_10 (dk_at dksX7_init_12 11 rfl rfl)
theorem dX7_init_300 : decode cX7_init 300 = .ok (.putfield 120, 3) := dk_181 0 120 (dk_at dksX7_init_12 13 rfl rfl)
theorem dX7_init_303 : decode cX7_init 303 = .ok (.aload_n 0, 1) := dk_42 (dk_at dksX7_init_12 16 rfl rfl)
theorem dX7_init_304 : decode cX7_init 304 = .ok (.bipush 25, 2) := dk_16 25 (dk_at dksX7_init_12 17 rfl rfl)
theorem dX7_init_306 : decode cX7_init 306 = .ok (.newarray .int, 2) := dk_188_10 (dk_at dksX7_init_12 19 rfl rfl)
theorem dX7_init_308 : decode cX7_init 308 = .ok (.putfield 123, 3) := dk_181 0 123 (dk_at dksX7_init_12 21 rfl rfl)
theorem dX7_init_311 : decode cX7_init 311 = .ok (.aload_n 0, 1) := dk_42 (dk_at dksX7_init_13 0 rfl rfl)
theorem dX7_init_312 : decode cX7_init 312 = .ok (.bipush 25, 2) := dk_16 25 (dk_at dksX7_init_13 1 rfl rfl)
theorem dX7_init_314 : decode cX7_init 314 = .ok (.newarray .int, 2) := dk_188_10 (dk_at dksX7_init_13 3 rfl rfl)
theorem dX7_init_316 : decode cX7_init 316 = .ok (.putfield 126, 3) := dk_181 0 126 (dk_at dksX7_init_13 5 rfl rfl)
theorem dX7_init_319 : decode cX7_init 319 = .ok (.aload_n 0, 1) := dk_42 (dk_at dksX7_init_13 8 rfl rfl)
theorem dX7_init_320 : decode cX7_init 320 = .ok (.bipush 100, 2) := dk_16 100 (dk_at dksX7_init_13 9 rfl rfl)
theorem dX7_init_322 : decode cX7_init 322 = .ok (.newarray .int, 2) := dk_188_10 (dk_at dksX7_init_13 11 rfl rfl)
theorem dX7_init_324 : decode cX7_init 324 = .ok (.putfield 129, 3) := dk_181 0 129 (dk_at dksX7_init_13 13 rfl rfl)
theorem dX7_init_327 : decode cX7_init 327 = .ok (.aload_n 0, 1) := dk_42 (dk_at dksX7_init_13 16 rfl rfl)
theorem dX7_init_328 : decode cX7_init 328 = .ok (.sipush 400, 3) := dk_17 1 144 (dk_at dksX7_init_13 17 rfl rfl)
theorem dX7_init_331 : decode cX7_init 331 = .ok (.newarray .int, 2) := dk_188_10 (dk_at dksX7_init_13 20 rfl rfl)
theorem dX7_init_333 : decode cX7_init 333 = .ok (.putfield 132, 3) := dk_181 0 132 (dk_at dksX7_init_14 0 rfl rfl)
theorem dX7_init_336 : decode cX7_init 336 = .ok (.aload_n 0, 1) := dk_42 (dk_at dksX7_init_14 3 rfl rfl)
theorem dX7_init_337 : decode cX7_init 337 = .ok (.iconst 4, 1) := dk_7 (dk_at dksX7_init_14 4 rfl rfl)
theorem dX7_init_338 : decode cX7_init 338 = .ok (.newarray .boolean, 2) := dk_188_4 (dk_at dksX7_init_14 5 rfl rfl)
theorem dX7_init_340 : decode cX7_init 340 = .ok (.putfield 135, 3) := dk_181 0 135 (dk_at dksX7_init_14 7 rfl rfl)
theorem dX7_init_343 : decode cX7_init 343 = .ok (.aload_n 0, 1) := dk_42 (dk_at dksX7_init_14 10 rfl rfl)
theorem dX7_init_344 : decode cX7_init 344 = .ok (.bipush 6, 2) := dk_16 6 (dk_at dksX7_init_14 11 rfl rfl)
theorem dX7_init_346 : decode cX7_init 346 = .ok (.newarray .int, 2) := dk_188_10 (dk_at dksX7_init_14 13 rfl rfl)
theorem dX7_init_348 : decode cX7_init 348 = .ok (.putfield 138, 3) := dk_181 0 138 (dk_at dksX7_init_14 15 rfl rfl)
theorem dX7_init_351 : decode cX7_init 351 = .ok (.aload_n 0, 1) := dk_42 (dk_at dksX7_init_14 18 rfl rfl)
theorem dX7_init_352 : decode cX7_init 352 = .ok (.bipush 6, 2) := dk_16 6 (dk_at dksX7_init_14 19 rfl rfl)
theorem dX7_init_354 : decode cX7_init 354 = .ok (.newarray .int, 2) := dk_188_10 (dk_at dksX7_init_14 21 rfl rfl)
theorem dX7_init_356 : decode cX7_init 356 = .ok (.putfield 141, 3) := dk_181 0 141 (dk_at dksX7_init_15 0 rfl rfl)
theorem dX7_init_359 : decode cX7_init 359 = .ok (.return_, 1) := dk_177 (dk_at dksX7_init_15 3 rfl rfl)
abbrev cX7_thrown : ByteArray := prog_32_method_2_code
abbrev yX7_thrown : MethodName := { cls := "WornSkinModel", name := "thrown", desc := "()I" }
theorem dX7_thrown_0 : decode cX7_thrown 0 = .ok (.aload_n 0, 1) := by decide +kernel
theorem dX7_thrown_1 : decode cX7_thrown 1 = .ok (.getfield 144, 3) := by decide +kernel
theorem dX7_thrown_4 : decode cX7_thrown 4 = .ok (.ireturn, 1) := by decide +kernel
abbrev cX7_feed : ByteArray := prog_32_method_5_code
abbrev yX7_feed : MethodName := { cls := "WornSkinModel", name := "feed", desc := "(JJJ)I" }
def dkwX7_feed_5 : List UInt8 := [167, 255, 147, 42, 180, 0, 150, 172]
abbrev dktX7_feed_5 : List UInt8 := dkwX7_feed_5 ++ []
def dkwX7_feed_4 : List UInt8 := [42, 180, 0, 7, 42, 180, 0, 150, 21, 10, 79, 42, 89, 180, 0, 150, 4, 96, 181, 0, 150, 132, 7, 1]
abbrev dktX7_feed_4 : List UInt8 := dkwX7_feed_4 ++ dktX7_feed_5
def dkwX7_feed_3 : List UInt8 := [162, 0, 45, 21, 10, 16, 10, 159, 0, 17, 21, 10, 16, 32, 161, 0, 31, 21, 10, 16, 126, 163, 0, 24]
abbrev dktX7_feed_3 : List UInt8 := dkwX7_feed_3 ++ dktX7_feed_4
def dkwX7_feed_2 : List UInt8 := [21, 7, 16, 7, 126, 104, 100, 125, 20, 0, 148, 127, 136, 54, 10, 42, 180, 0, 150, 17, 3, 232]
abbrev dktX7_feed_2 : List UInt8 := dkwX7_feed_2 ++ dktX7_feed_3
def dkwX7_feed_1 : List UInt8 := [167, 0, 16, 21, 7, 16, 16, 162, 0, 7, 33, 167, 0, 5, 22, 5, 55, 8, 22, 8, 16, 56, 16, 8]
abbrev dktX7_feed_1 : List UInt8 := dkwX7_feed_1 ++ dktX7_feed_2
def dkwX7_feed_0 : List UInt8 := [42, 3, 181, 0, 144, 3, 54, 7, 21, 7, 16, 24, 162, 0, 108, 21, 7, 16, 8, 162, 0, 7, 31]
abbrev dktX7_feed_0 : List UInt8 := dkwX7_feed_0 ++ dktX7_feed_1
theorem dksX7_feed_0 : cX7_feed.data.toList.drop 0 = dktX7_feed_0 := by decide +kernel
theorem dksX7_feed_1 : cX7_feed.data.toList.drop 23 = dktX7_feed_1 := dk_seg dksX7_feed_0 23 rfl rfl
theorem dksX7_feed_2 : cX7_feed.data.toList.drop 47 = dktX7_feed_2 := dk_seg dksX7_feed_1 24 rfl rfl
theorem dksX7_feed_3 : cX7_feed.data.toList.drop 69 = dktX7_feed_3 := dk_seg dksX7_feed_2 22 rfl rfl
theorem dksX7_feed_4 : cX7_feed.data.toList.drop 93 = dktX7_feed_4 := dk_seg dksX7_feed_3 24 rfl rfl
theorem dksX7_feed_5 : cX7_feed.data.toList.drop 117 = dktX7_feed_5 := dk_seg dksX7_feed_4 24 rfl rfl
theorem dX7_feed_0 : decode cX7_feed 0 = .ok (.aload_n 0, 1) := dk_42 (dk_at dksX7_feed_0 0 rfl rfl)
theorem dX7_feed_1 : decode cX7_feed 1 = .ok (.iconst 0, 1) := dk_3 (dk_at dksX7_feed_0 1 rfl rfl)
theorem dX7_feed_2 : decode cX7_feed 2 = .ok (.putfield 144, 3) := dk_181 0 144 (dk_at dksX7_feed_0 2 rfl rfl)
theorem dX7_feed_5 : decode cX7_feed 5 = .ok (.iconst 0, 1) := dk_3 (dk_at dksX7_feed_0 5 rfl rfl)
theorem dX7_feed_6 : decode cX7_feed 6 = .ok (.istore 7, 2) := dk_54 7 (dk_at dksX7_feed_0 6 rfl rfl)
theorem dX7_feed_8 : decode cX7_feed 8 = .ok (.iload 7, 2) := dk_21 7 (dk_at dksX7_feed_0 8 rfl rfl)
theorem dX7_feed_10 : decode cX7_feed 10 = .ok (.bipush 24, 2) := dk_16 24 (dk_at dksX7_feed_0 10 rfl rfl)
theorem dX7_feed_12 : decode cX7_feed 12 = .ok (.if_icmp .ge 108, 3) := dk_162 0 108 (dk_at dksX7_feed_0 12 rfl rfl)
theorem dX7_feed_15 : decode cX7_feed 15 = .ok (.iload 7, 2) := dk_21 7 (dk_at dksX7_feed_0 15 rfl rfl)
theorem dX7_feed_17 : decode cX7_feed 17 = .ok (.bipush 8, 2) := dk_16 8 (dk_at dksX7_feed_0 17 rfl rfl)
theorem dX7_feed_19 : decode cX7_feed 19 = .ok (.if_icmp .ge 7, 3) := dk_162 0 7 (dk_at dksX7_feed_0 19 rfl rfl)
theorem dX7_feed_22 : decode cX7_feed 22 = .ok (.lload_n 1, 1) := dk_31 (dk_at dksX7_feed_0 22 rfl rfl)
theorem dX7_feed_23 : decode cX7_feed 23 = .ok (.goto 16, 3) := dk_167 0 16 (dk_at dksX7_feed_1 0 rfl rfl)
theorem dX7_feed_26 : decode cX7_feed 26 = .ok (.iload 7, 2) := dk_21 7 (dk_at dksX7_feed_1 3 rfl rfl)
theorem dX7_feed_28 : decode cX7_feed 28 = .ok (.bipush 16, 2) := dk_16 16 (dk_at dksX7_feed_1 5 rfl rfl)
theorem dX7_feed_30 : decode cX7_feed 30 = .ok (.if_icmp .ge 7, 3) := dk_162 0 7 (dk_at dksX7_feed_1 7 rfl rfl)
theorem dX7_feed_33 : decode cX7_feed 33 = .ok (.lload_n 3, 1) := dk_33 (dk_at dksX7_feed_1 10 rfl rfl)
theorem dX7_feed_34 : decode cX7_feed 34 = .ok (.goto 5, 3) := dk_167 0 5 (dk_at dksX7_feed_1 11 rfl rfl)
theorem dX7_feed_37 : decode cX7_feed 37 = .ok (.lload 5, 2) := dk_22 5 (dk_at dksX7_feed_1 14 rfl rfl)
theorem dX7_feed_39 : decode cX7_feed 39 = .ok (.lstore 8, 2) := dk_55 8 (dk_at dksX7_feed_1 16 rfl rfl)
theorem dX7_feed_41 : decode cX7_feed 41 = .ok (.lload 8, 2) := dk_22 8 (dk_at dksX7_feed_1 18 rfl rfl)
theorem dX7_feed_43 : decode cX7_feed 43 = .ok (.bipush 56, 2) := dk_16 56 (dk_at dksX7_feed_1 20 rfl rfl)
theorem dX7_feed_45 : decode cX7_feed 45 = .ok (.bipush 8, 2) := dk_16 8 (dk_at dksX7_feed_1 22 rfl rfl)
theorem dX7_feed_47 : decode cX7_feed 47 = .ok (.iload 7, 2) := dk_21 7 (dk_at dksX7_feed_2 0 rfl rfl)
theorem dX7_feed_49 : decode cX7_feed 49 = .ok (.bipush 7, 2) := dk_16 7 (dk_at dksX7_feed_2 2 rfl rfl)
theorem dX7_feed_51 : decode cX7_feed 51 = .ok (.iand, 1) := dk_126 (dk_at dksX7_feed_2 4 rfl rfl)
theorem dX7_feed_52 : decode cX7_feed 52 = .ok (.imul, 1) := dk_104 (dk_at dksX7_feed_2 5 rfl rfl)
theorem dX7_feed_53 : decode cX7_feed 53 = .ok (.isub, 1) := dk_100 (dk_at dksX7_feed_2 6 rfl rfl)
theorem dX7_feed_54 : decode cX7_feed 54 = .ok (.lushr, 1) := dk_125 (dk_at dksX7_feed_2 7 rfl rfl)
theorem dX7_feed_55 : decode cX7_feed 55 = .ok (.ldc2_w 148, 3) := dk_20 0 148 (dk_at dksX7_feed_2 8 rfl rfl)
theorem dX7_feed_58 : decode cX7_feed 58 = .ok (.land, 1) := dk_127 (dk_at dksX7_feed_2 11 rfl rfl)
theorem dX7_feed_59 : decode cX7_feed 59 = .ok (.l2i, 1) := dk_136 (dk_at dksX7_feed_2 12 rfl rfl)
theorem dX7_feed_60 : decode cX7_feed 60 = .ok (.istore 10, 2) := dk_54 10 (dk_at dksX7_feed_2 13 rfl rfl)
theorem dX7_feed_62 : decode cX7_feed 62 = .ok (.aload_n 0, 1) := dk_42 (dk_at dksX7_feed_2 15 rfl rfl)
theorem dX7_feed_63 : decode cX7_feed 63 = .ok (.getfield 150, 3) := dk_180 0 150 (dk_at dksX7_feed_2 16 rfl rfl)
theorem dX7_feed_66 : decode cX7_feed 66 = .ok (.sipush 1000, 3) := dk_17 3 232 (dk_at dksX7_feed_2 19 rfl rfl)
theorem dX7_feed_69 : decode cX7_feed 69 = .ok (.if_icmp .ge 45, 3) := dk_162 0 45 (dk_at dksX7_feed_3 0 rfl rfl)
theorem dX7_feed_72 : decode cX7_feed 72 = .ok (.iload 10, 2) := dk_21 10 (dk_at dksX7_feed_3 3 rfl rfl)
theorem dX7_feed_74 : decode cX7_feed 74 = .ok (.bipush 10, 2) := dk_16 10 (dk_at dksX7_feed_3 5 rfl rfl)
theorem dX7_feed_76 : decode cX7_feed 76 = .ok (.if_icmp .eq 17, 3) := dk_159 0 17 (dk_at dksX7_feed_3 7 rfl rfl)
theorem dX7_feed_79 : decode cX7_feed 79 = .ok (.iload 10, 2) := dk_21 10 (dk_at dksX7_feed_3 10 rfl rfl)
theorem dX7_feed_81 : decode cX7_feed 81 = .ok (.bipush 32, 2) := dk_16 32 (dk_at dksX7_feed_3 12 rfl rfl)
theorem dX7_feed_83 : decode cX7_feed 83 = .ok (.if_icmp .lt 31, 3) := dk_161 0 31 (dk_at dksX7_feed_3 14 rfl rfl)
theorem dX7_feed_86 : decode cX7_feed 86 = .ok (.iload 10, 2) := dk_21 10 (dk_at dksX7_feed_3 17 rfl rfl)
theorem dX7_feed_88 : decode cX7_feed 88 = .ok (.bipush 126, 2) := dk_16 126 (dk_at dksX7_feed_3 19 rfl rfl)
theorem dX7_feed_90 : decode cX7_feed 90 = .ok (.if_icmp .gt 24, 3) := dk_163 0 24 (dk_at dksX7_feed_3 21 rfl rfl)
theorem dX7_feed_93 : decode cX7_feed 93 = .ok (.aload_n 0, 1) := dk_42 (dk_at dksX7_feed_4 0 rfl rfl)
theorem dX7_feed_94 : decode cX7_feed 94 = .ok (.getfield 7, 3) := dk_180 0 7 (dk_at dksX7_feed_4 1 rfl rfl)
theorem dX7_feed_97 : decode cX7_feed 97 = .ok (.aload_n 0, 1) := dk_42 (dk_at dksX7_feed_4 4 rfl rfl)
theorem dX7_feed_98 : decode cX7_feed 98 = .ok (.getfield 150, 3) := dk_180 0 150 (dk_at dksX7_feed_4 5 rfl rfl)
theorem dX7_feed_101 : decode cX7_feed 101 = .ok (.iload 10, 2) := dk_21 10 (dk_at dksX7_feed_4 8 rfl rfl)
theorem dX7_feed_103 : decode cX7_feed 103 = .ok (.iastore, 1) := dk_79 (dk_at dksX7_feed_4 10 rfl rfl)
theorem dX7_feed_104 : decode cX7_feed 104 = .ok (.aload_n 0, 1) := dk_42 (dk_at dksX7_feed_4 11 rfl rfl)
theorem dX7_feed_105 : decode cX7_feed 105 = .ok (.dup, 1) := dk_89 (dk_at dksX7_feed_4 12 rfl rfl)
theorem dX7_feed_106 : decode cX7_feed 106 = .ok (.getfield 150, 3) := dk_180 0 150 (dk_at dksX7_feed_4 13 rfl rfl)
theorem dX7_feed_109 : decode cX7_feed 109 = .ok (.iconst 1, 1) := dk_4 (dk_at dksX7_feed_4 16 rfl rfl)
theorem dX7_feed_110 : decode cX7_feed 110 = .ok (.iadd, 1) := dk_96 (dk_at dksX7_feed_4 17 rfl rfl)
theorem dX7_feed_111 : decode cX7_feed 111 = .ok (.putfield 150, 3) := dk_181 0 150 (dk_at dksX7_feed_4 18 rfl rfl)
theorem dX7_feed_114 : decode cX7_feed 114 = .ok (.iinc 7 1, 3) := dk_132 7 1 (dk_at dksX7_feed_4 21 rfl rfl)
theorem dX7_feed_117 : decode cX7_feed 117 = .ok (.goto (-109), 3) := dk_167 255 147 (dk_at dksX7_feed_5 0 rfl rfl)
theorem dX7_feed_120 : decode cX7_feed 120 = .ok (.aload_n 0, 1) := dk_42 (dk_at dksX7_feed_5 3 rfl rfl)
theorem dX7_feed_121 : decode cX7_feed 121 = .ok (.getfield 150, 3) := dk_180 0 150 (dk_at dksX7_feed_5 4 rfl rfl)
theorem dX7_feed_124 : decode cX7_feed 124 = .ok (.ireturn, 1) := dk_172 (dk_at dksX7_feed_5 7 rfl rfl)
abbrev cX7_signAt : ByteArray := prog_32_method_6_code
abbrev yX7_signAt : MethodName := { cls := "WornSkinModel", name := "signAt", desc := "(I)I" }
def dkwX7_signAt_0 : List UInt8 := [27, 42, 180, 0, 153, 162, 0, 12, 42, 180, 0, 7, 27, 46, 167, 0, 4, 3, 172]
abbrev dktX7_signAt_0 : List UInt8 := dkwX7_signAt_0 ++ []
theorem dksX7_signAt_0 : cX7_signAt.data.toList.drop 0 = dktX7_signAt_0 := by decide +kernel
theorem dX7_signAt_0 : decode cX7_signAt 0 = .ok (.iload_n 1, 1) := dk_27 (dk_at dksX7_signAt_0 0 rfl rfl)
theorem dX7_signAt_1 : decode cX7_signAt 1 = .ok (.aload_n 0, 1) := dk_42 (dk_at dksX7_signAt_0 1 rfl rfl)
theorem dX7_signAt_2 : decode cX7_signAt 2 = .ok (.getfield 153, 3) := dk_180 0 153 (dk_at dksX7_signAt_0 2 rfl rfl)
theorem dX7_signAt_5 : decode cX7_signAt 5 = .ok (.if_icmp .ge 12, 3) := dk_162 0 12 (dk_at dksX7_signAt_0 5 rfl rfl)
theorem dX7_signAt_8 : decode cX7_signAt 8 = .ok (.aload_n 0, 1) := dk_42 (dk_at dksX7_signAt_0 8 rfl rfl)
theorem dX7_signAt_9 : decode cX7_signAt 9 = .ok (.getfield 7, 3) := dk_180 0 7 (dk_at dksX7_signAt_0 9 rfl rfl)
theorem dX7_signAt_12 : decode cX7_signAt 12 = .ok (.iload_n 1, 1) := dk_27 (dk_at dksX7_signAt_0 12 rfl rfl)
theorem dX7_signAt_13 : decode cX7_signAt 13 = .ok (.iaload, 1) := dk_46 (dk_at dksX7_signAt_0 13 rfl rfl)
theorem dX7_signAt_14 : decode cX7_signAt 14 = .ok (.goto 4, 3) := dk_167 0 4 (dk_at dksX7_signAt_0 14 rfl rfl)
theorem dX7_signAt_17 : decode cX7_signAt 17 = .ok (.iconst 0, 1) := dk_3 (dk_at dksX7_signAt_0 17 rfl rfl)
theorem dX7_signAt_18 : decode cX7_signAt 18 = .ok (.ireturn, 1) := dk_172 (dk_at dksX7_signAt_0 18 rfl rfl)
abbrev cX7_nextToken : ByteArray := prog_32_method_7_code
abbrev yX7_nextToken : MethodName := { cls := "WornSkinModel", name := "nextToken", desc := "()V" }
def dkwX7_nextToken_16 : List UInt8 := [167, 0, 4, 7, 181, 0, 169, 177]
abbrev dktX7_nextToken_16 : List UInt8 := dkwX7_nextToken_16 ++ []
def dkwX7_nextToken_15 : List UInt8 := [164, 0, 21, 27, 16, 45, 159, 0, 15, 27, 16, 59, 161, 0, 13, 27, 16, 61, 163, 0, 7, 6]
abbrev dktX7_nextToken_15 : List UInt8 := dkwX7_nextToken_15 ++ dktX7_nextToken_16
def dkwX7_nextToken_14 : List UInt8 := [181, 0, 169, 177, 42, 89, 180, 0, 156, 4, 96, 181, 0, 156, 42, 27, 16, 40, 161, 0, 9, 27, 16, 43]
abbrev dktX7_nextToken_14 : List UInt8 := dkwX7_nextToken_14 ++ dktX7_nextToken_15
def dkwX7_nextToken_13 : List UInt8 := [167, 255, 184, 42, 42, 180, 0, 156, 42, 180, 0, 159, 100, 7, 164, 0, 7, 7, 167, 0, 4, 5]
abbrev dktX7_nextToken_13 : List UInt8 := dkwX7_nextToken_13 ++ dktX7_nextToken_14
def dkwX7_nextToken_12 : List UInt8 := [180, 0, 156, 182, 0, 172, 96, 16, 48, 100, 181, 0, 166, 42, 89, 180, 0, 156, 4, 96, 181, 0, 156]
abbrev dktX7_nextToken_12 : List UInt8 := dkwX7_nextToken_12 ++ dktX7_nextToken_13
def dkwX7_nextToken_11 : List UInt8 := [42, 180, 0, 156, 42, 180, 0, 159, 100, 7, 162, 0, 26, 42, 42, 180, 0, 166, 16, 10, 104, 42, 42]
abbrev dktX7_nextToken_11 : List UInt8 := dkwX7_nextToken_11 ++ dktX7_nextToken_12
def dkwX7_nextToken_10 : List UInt8 := [180, 0, 156, 182, 0, 172, 16, 48, 161, 0, 65, 42, 42, 180, 0, 156, 182, 0, 172, 16, 57, 163, 0, 52]
abbrev dktX7_nextToken_10 : List UInt8 := dkwX7_nextToken_10 ++ dktX7_nextToken_11
def dkwX7_nextToken_9 : List UInt8 := [167, 0, 4, 4, 181, 0, 169, 177, 27, 16, 48, 161, 0, 107, 27, 16, 57, 163, 0, 101, 42, 42]
abbrev dktX7_nextToken_9 : List UInt8 := dkwX7_nextToken_9 ++ dktX7_nextToken_10
def dkwX7_nextToken_8 : List UInt8 := [181, 0, 156, 167, 255, 180, 42, 42, 180, 0, 156, 42, 180, 0, 159, 100, 16, 8, 164, 0, 7, 7]
abbrev dktX7_nextToken_8 : List UInt8 := dkwX7_nextToken_8 ++ dktX7_nextToken_9
def dkwX7_nextToken_7 : List UInt8 := [180, 0, 156, 182, 0, 172, 133, 97, 20, 0, 178, 101, 181, 0, 162, 42, 89, 180, 0, 156, 4, 96]
abbrev dktX7_nextToken_7 : List UInt8 := dkwX7_nextToken_7 ++ dktX7_nextToken_8
def dkwX7_nextToken_6 : List UInt8 := [180, 0, 156, 42, 180, 0, 159, 100, 16, 8, 162, 0, 29, 42, 42, 180, 0, 162, 20, 0, 176, 105, 42, 42]
abbrev dktX7_nextToken_6 : List UInt8 := dkwX7_nextToken_6 ++ dktX7_nextToken_7
def dkwX7_nextToken_5 : List UInt8 := [182, 0, 172, 16, 97, 161, 0, 69, 42, 42, 180, 0, 156, 182, 0, 172, 16, 122, 163, 0, 56, 42]
abbrev dktX7_nextToken_5 : List UInt8 := dkwX7_nextToken_5 ++ dktX7_nextToken_6
def dkwX7_nextToken_4 : List UInt8 := [180, 0, 156, 46, 60, 27, 16, 97, 161, 0, 112, 27, 16, 122, 163, 0, 106, 42, 42, 180, 0, 156]
abbrev dktX7_nextToken_4 : List UInt8 := dkwX7_nextToken_4 ++ dktX7_nextToken_5
def dkwX7_nextToken_3 : List UInt8 := [42, 180, 0, 156, 42, 180, 0, 153, 160, 0, 9, 42, 3, 181, 0, 169, 177, 42, 180, 0, 7, 42]
abbrev dktX7_nextToken_3 : List UInt8 := dkwX7_nextToken_3 ++ dktX7_nextToken_4
def dkwX7_nextToken_2 : List UInt8 := [181, 0, 156, 167, 255, 207, 42, 42, 180, 0, 156, 181, 0, 159, 42, 9, 181, 0, 162, 42, 3, 181, 0, 166]
abbrev dktX7_nextToken_2 : List UInt8 := dkwX7_nextToken_2 ++ dktX7_nextToken_3
def dkwX7_nextToken_1 : List UInt8 := [159, 0, 17, 42, 180, 0, 7, 42, 180, 0, 156, 46, 16, 10, 160, 0, 16, 42, 89, 180, 0, 156, 4, 96]
abbrev dktX7_nextToken_1 : List UInt8 := dkwX7_nextToken_1 ++ dktX7_nextToken_2
def dkwX7_nextToken_0 : List UInt8 := [42, 180, 0, 156, 42, 180, 0, 153, 162, 0, 44, 42, 180, 0, 7, 42, 180, 0, 156, 46, 16, 32]
abbrev dktX7_nextToken_0 : List UInt8 := dkwX7_nextToken_0 ++ dktX7_nextToken_1
theorem dksX7_nextToken_0 : cX7_nextToken.data.toList.drop 0 = dktX7_nextToken_0 := by decide +kernel
theorem dksX7_nextToken_1 : cX7_nextToken.data.toList.drop 22 = dktX7_nextToken_1 := dk_seg dksX7_nextToken_0 22 rfl rfl
theorem dksX7_nextToken_2 : cX7_nextToken.data.toList.drop 46 = dktX7_nextToken_2 := dk_seg dksX7_nextToken_1 24 rfl rfl
theorem dksX7_nextToken_3 : cX7_nextToken.data.toList.drop 70 = dktX7_nextToken_3 := dk_seg dksX7_nextToken_2 24 rfl rfl
theorem dksX7_nextToken_4 : cX7_nextToken.data.toList.drop 92 = dktX7_nextToken_4 := dk_seg dksX7_nextToken_3 22 rfl rfl
theorem dksX7_nextToken_5 : cX7_nextToken.data.toList.drop 114 = dktX7_nextToken_5 := dk_seg dksX7_nextToken_4 22 rfl rfl
theorem dksX7_nextToken_6 : cX7_nextToken.data.toList.drop 136 = dktX7_nextToken_6 := dk_seg dksX7_nextToken_5 22 rfl rfl
theorem dksX7_nextToken_7 : cX7_nextToken.data.toList.drop 160 = dktX7_nextToken_7 := dk_seg dksX7_nextToken_6 24 rfl rfl
theorem dksX7_nextToken_8 : cX7_nextToken.data.toList.drop 182 = dktX7_nextToken_8 := dk_seg dksX7_nextToken_7 22 rfl rfl
theorem dksX7_nextToken_9 : cX7_nextToken.data.toList.drop 204 = dktX7_nextToken_9 := dk_seg dksX7_nextToken_8 22 rfl rfl
theorem dksX7_nextToken_10 : cX7_nextToken.data.toList.drop 226 = dktX7_nextToken_10 := dk_seg dksX7_nextToken_9 22 rfl rfl
theorem dksX7_nextToken_11 : cX7_nextToken.data.toList.drop 250 = dktX7_nextToken_11 := dk_seg dksX7_nextToken_10 24 rfl rfl
theorem dksX7_nextToken_12 : cX7_nextToken.data.toList.drop 273 = dktX7_nextToken_12 := dk_seg dksX7_nextToken_11 23 rfl rfl
theorem dksX7_nextToken_13 : cX7_nextToken.data.toList.drop 296 = dktX7_nextToken_13 := dk_seg dksX7_nextToken_12 23 rfl rfl
theorem dksX7_nextToken_14 : cX7_nextToken.data.toList.drop 318 = dktX7_nextToken_14 := dk_seg dksX7_nextToken_13 22 rfl rfl
theorem dksX7_nextToken_15 : cX7_nextToken.data.toList.drop 342 = dktX7_nextToken_15 := dk_seg dksX7_nextToken_14 24 rfl rfl
theorem dksX7_nextToken_16 : cX7_nextToken.data.toList.drop 364 = dktX7_nextToken_16 := dk_seg dksX7_nextToken_15 22 rfl rfl
theorem dX7_nextToken_0 : decode cX7_nextToken 0 = .ok (.aload_n 0, 1) := dk_42 (dk_at dksX7_nextToken_0 0 rfl rfl)
theorem dX7_nextToken_1 : decode cX7_nextToken 1 = .ok (.getfield 156, 3) := dk_180 0 156 (dk_at dksX7_nextToken_0 1 rfl rfl)
theorem dX7_nextToken_4 : decode cX7_nextToken 4 = .ok (.aload_n 0, 1) := dk_42 (dk_at dksX7_nextToken_0 4 rfl rfl)
theorem dX7_nextToken_5 : decode cX7_nextToken 5 = .ok (.getfield 153, 3) := dk_180 0 153 (dk_at dksX7_nextToken_0 5 rfl rfl)
theorem dX7_nextToken_8 : decode cX7_nextToken 8 = .ok (.if_icmp .ge 44, 3) := dk_162 0 44 (dk_at dksX7_nextToken_0 8 rfl rfl)
theorem dX7_nextToken_11 : decode cX7_nextToken 11 = .ok (.aload_n 0, 1) := dk_42 (dk_at dksX7_nextToken_0 11 rfl rfl)
theorem dX7_nextToken_12 : decode cX7_nextToken 12 = .ok (.getfield 7, 3) := dk_180 0 7 (dk_at dksX7_nextToken_0 12 rfl rfl)
theorem dX7_nextToken_15 : decode cX7_nextToken 15 = .ok (.aload_n 0, 1) := dk_42 (dk_at dksX7_nextToken_0 15 rfl rfl)
theorem dX7_nextToken_16 : decode cX7_nextToken 16 = .ok (.getfield 156, 3) := dk_180 0 156 (dk_at dksX7_nextToken_0 16 rfl rfl)
theorem dX7_nextToken_19 : decode cX7_nextToken 19 = .ok (.iaload, 1) := dk_46 (dk_at dksX7_nextToken_0 19 rfl rfl)
theorem dX7_nextToken_20 : decode cX7_nextToken 20 = .ok (.bipush 32, 2) := dk_16 32 (dk_at dksX7_nextToken_0 20 rfl rfl)
theorem dX7_nextToken_22 : decode cX7_nextToken 22 = .ok (.if_icmp .eq 17, 3) := dk_159 0 17 (dk_at dksX7_nextToken_1 0 rfl rfl)
theorem dX7_nextToken_25 : decode cX7_nextToken 25 = .ok (.aload_n 0, 1) := dk_42 (dk_at dksX7_nextToken_1 3 rfl rfl)
theorem dX7_nextToken_26 : decode cX7_nextToken 26 = .ok (.getfield 7, 3) := dk_180 0 7 (dk_at dksX7_nextToken_1 4 rfl rfl)
theorem dX7_nextToken_29 : decode cX7_nextToken 29 = .ok (.aload_n 0, 1) := dk_42 (dk_at dksX7_nextToken_1 7 rfl rfl)
theorem dX7_nextToken_30 : decode cX7_nextToken 30 = .ok (.getfield 156, 3) := dk_180 0 156 (dk_at dksX7_nextToken_1 8 rfl rfl)
theorem dX7_nextToken_33 : decode cX7_nextToken 33 = .ok (.iaload, 1) := dk_46 (dk_at dksX7_nextToken_1 11 rfl rfl)
theorem dX7_nextToken_34 : decode cX7_nextToken 34 = .ok (.bipush 10, 2) := dk_16 10 (dk_at dksX7_nextToken_1 12 rfl rfl)
theorem dX7_nextToken_36 : decode cX7_nextToken 36 = .ok (.if_icmp .ne 16, 3) := dk_160 0 16 (dk_at dksX7_nextToken_1 14 rfl rfl)
theorem dX7_nextToken_39 : decode cX7_nextToken 39 = .ok (.aload_n 0, 1) := dk_42 (dk_at dksX7_nextToken_1 17 rfl rfl)
theorem dX7_nextToken_40 : decode cX7_nextToken 40 = .ok (.dup, 1) := dk_89 (dk_at dksX7_nextToken_1 18 rfl rfl)
theorem dX7_nextToken_41 : decode cX7_nextToken 41 = .ok (.getfield 156, 3) := dk_180 0 156 (dk_at dksX7_nextToken_1 19 rfl rfl)
theorem dX7_nextToken_44 : decode cX7_nextToken 44 = .ok (.iconst 1, 1) := dk_4 (dk_at dksX7_nextToken_1 22 rfl rfl)
theorem dX7_nextToken_45 : decode cX7_nextToken 45 = .ok (.iadd, 1) := dk_96 (dk_at dksX7_nextToken_1 23 rfl rfl)
theorem dX7_nextToken_46 : decode cX7_nextToken 46 = .ok (.putfield 156, 3) := dk_181 0 156 (dk_at dksX7_nextToken_2 0 rfl rfl)
theorem dX7_nextToken_49 : decode cX7_nextToken 49 = .ok (.goto (-49), 3) := dk_167 255 207 (dk_at dksX7_nextToken_2 3 rfl rfl)
theorem dX7_nextToken_52 : decode cX7_nextToken 52 = .ok (.aload_n 0, 1) := dk_42 (dk_at dksX7_nextToken_2 6 rfl rfl)
theorem dX7_nextToken_53 : decode cX7_nextToken 53 = .ok (.aload_n 0, 1) := dk_42 (dk_at dksX7_nextToken_2 7 rfl rfl)
theorem dX7_nextToken_54 : decode cX7_nextToken 54 = .ok (.getfield 156, 3) := dk_180 0 156 (dk_at dksX7_nextToken_2 8 rfl rfl)
theorem dX7_nextToken_57 : decode cX7_nextToken 57 = .ok (.putfield 159, 3) := dk_181 0 159 (dk_at dksX7_nextToken_2 11 rfl rfl)
theorem dX7_nextToken_60 : decode cX7_nextToken 60 = .ok (.aload_n 0, 1) := dk_42 (dk_at dksX7_nextToken_2 14 rfl rfl)
theorem dX7_nextToken_61 : decode cX7_nextToken 61 = .ok (.lconst 0, 1) := dk_9 (dk_at dksX7_nextToken_2 15 rfl rfl)
theorem dX7_nextToken_62 : decode cX7_nextToken 62 = .ok (.putfield 162, 3) := dk_181 0 162 (dk_at dksX7_nextToken_2 16 rfl rfl)
theorem dX7_nextToken_65 : decode cX7_nextToken 65 = .ok (.aload_n 0, 1) := dk_42 (dk_at dksX7_nextToken_2 19 rfl rfl)
theorem dX7_nextToken_66 : decode cX7_nextToken 66 = .ok (.iconst 0, 1) := dk_3 (dk_at dksX7_nextToken_2 20 rfl rfl)
theorem dX7_nextToken_67 : decode cX7_nextToken 67 = .ok (.putfield 166, 3) := dk_181 0 166 (dk_at dksX7_nextToken_2 21 rfl rfl)
theorem dX7_nextToken_70 : decode cX7_nextToken 70 = .ok (.aload_n 0, 1) := dk_42 (dk_at dksX7_nextToken_3 0 rfl rfl)
theorem dX7_nextToken_71 : decode cX7_nextToken 71 = .ok (.getfield 156, 3) := dk_180 0 156 (dk_at dksX7_nextToken_3 1 rfl rfl)
theorem dX7_nextToken_74 : decode cX7_nextToken 74 = .ok (.aload_n 0, 1) := dk_42 (dk_at dksX7_nextToken_3 4 rfl rfl)
theorem dX7_nextToken_75 : decode cX7_nextToken 75 = .ok (.getfield 153, 3) := dk_180 0 153 (dk_at dksX7_nextToken_3 5 rfl rfl)
theorem dX7_nextToken_78 : decode cX7_nextToken 78 = .ok (.if_icmp .ne 9, 3) := dk_160 0 9 (dk_at dksX7_nextToken_3 8 rfl rfl)
theorem dX7_nextToken_81 : decode cX7_nextToken 81 = .ok (.aload_n 0, 1) := dk_42 (dk_at dksX7_nextToken_3 11 rfl rfl)
theorem dX7_nextToken_82 : decode cX7_nextToken 82 = .ok (.iconst 0, 1) := dk_3 (dk_at dksX7_nextToken_3 12 rfl rfl)
theorem dX7_nextToken_83 : decode cX7_nextToken 83 = .ok (.putfield 169, 3) := dk_181 0 169 (dk_at dksX7_nextToken_3 13 rfl rfl)
theorem dX7_nextToken_86 : decode cX7_nextToken 86 = .ok (.return_, 1) := dk_177 (dk_at dksX7_nextToken_3 16 rfl rfl)
theorem dX7_nextToken_87 : decode cX7_nextToken 87 = .ok (.aload_n 0, 1) := dk_42 (dk_at dksX7_nextToken_3 17 rfl rfl)
theorem dX7_nextToken_88 : decode cX7_nextToken 88 = .ok (.getfield 7, 3) := dk_180 0 7 (dk_at dksX7_nextToken_3 18 rfl rfl)
theorem dX7_nextToken_91 : decode cX7_nextToken 91 = .ok (.aload_n 0, 1) := dk_42 (dk_at dksX7_nextToken_3 21 rfl rfl)
theorem dX7_nextToken_92 : decode cX7_nextToken 92 = .ok (.getfield 156, 3) := dk_180 0 156 (dk_at dksX7_nextToken_4 0 rfl rfl)
theorem dX7_nextToken_95 : decode cX7_nextToken 95 = .ok (.iaload, 1) := dk_46 (dk_at dksX7_nextToken_4 3 rfl rfl)
theorem dX7_nextToken_96 : decode cX7_nextToken 96 = .ok (.istore_n 1, 1) := dk_60 (dk_at dksX7_nextToken_4 4 rfl rfl)
theorem dX7_nextToken_97 : decode cX7_nextToken 97 = .ok (.iload_n 1, 1) := dk_27 (dk_at dksX7_nextToken_4 5 rfl rfl)
theorem dX7_nextToken_98 : decode cX7_nextToken 98 = .ok (.bipush 97, 2) := dk_16 97 (dk_at dksX7_nextToken_4 6 rfl rfl)
theorem dX7_nextToken_100 : decode cX7_nextToken 100 = .ok (.if_icmp .lt 112, 3) := dk_161 0 112 (dk_at dksX7_nextToken_4 8 rfl rfl)
theorem dX7_nextToken_103 : decode cX7_nextToken 103 = .ok (.iload_n 1, 1) := dk_27 (dk_at dksX7_nextToken_4 11 rfl rfl)
theorem dX7_nextToken_104 : decode cX7_nextToken 104 = .ok (.bipush 122, 2) := dk_16 122 (dk_at dksX7_nextToken_4 12 rfl rfl)
theorem dX7_nextToken_106 : decode cX7_nextToken 106 = .ok (.if_icmp .gt 106, 3) := dk_163 0 106 (dk_at dksX7_nextToken_4 14 rfl rfl)
theorem dX7_nextToken_109 : decode cX7_nextToken 109 = .ok (.aload_n 0, 1) := dk_42 (dk_at dksX7_nextToken_4 17 rfl rfl)
theorem dX7_nextToken_110 : decode cX7_nextToken 110 = .ok (.aload_n 0, 1) := dk_42 (dk_at dksX7_nextToken_4 18 rfl rfl)
theorem dX7_nextToken_111 : decode cX7_nextToken 111 = .ok (.getfield 156, 3) := dk_180 0 156 (dk_at dksX7_nextToken_4 19 rfl rfl)
theorem dX7_nextToken_114 : decode cX7_nextToken 114 = .ok (.invokevirtual 172, 3) := dk_182 0 172 (dk_at dksX7_nextToken_5 0 rfl rfl)
theorem dX7_nextToken_117 : decode cX7_nextToken 117 = .ok (.bipush 97, 2) := dk_16 97 (dk_at dksX7_nextToken_5 3 rfl rfl)
theorem dX7_nextToken_119 : decode cX7_nextToken 119 = .ok (.if_icmp .lt 69, 3) := dk_161 0 69 (dk_at dksX7_nextToken_5 5 rfl rfl)
theorem dX7_nextToken_122 : decode cX7_nextToken 122 = .ok (.aload_n 0, 1) := dk_42 (dk_at dksX7_nextToken_5 8 rfl rfl)
theorem dX7_nextToken_123 : decode cX7_nextToken 123 = .ok (.aload_n 0, 1) := dk_42 (dk_at dksX7_nextToken_5 9 rfl rfl)
theorem dX7_nextToken_124 : decode cX7_nextToken 124 = .ok (.getfield 156, 3) := dk_180 0 156 (dk_at dksX7_nextToken_5 10 rfl rfl)
theorem dX7_nextToken_127 : decode cX7_nextToken 127 = .ok (.invokevirtual 172, 3) := dk_182 0 172 (dk_at dksX7_nextToken_5 13 rfl rfl)
theorem dX7_nextToken_130 : decode cX7_nextToken 130 = .ok (.bipush 122, 2) := dk_16 122 (dk_at dksX7_nextToken_5 16 rfl rfl)
theorem dX7_nextToken_132 : decode cX7_nextToken 132 = .ok (.if_icmp .gt 56, 3) := dk_163 0 56 (dk_at dksX7_nextToken_5 18 rfl rfl)
theorem dX7_nextToken_135 : decode cX7_nextToken 135 = .ok (.aload_n 0, 1) := dk_42 (dk_at dksX7_nextToken_5 21 rfl rfl)
theorem dX7_nextToken_136 : decode cX7_nextToken 136 = .ok (.getfield 156, 3) := dk_180 0 156 (dk_at dksX7_nextToken_6 0 rfl rfl)
theorem dX7_nextToken_139 : decode cX7_nextToken 139 = .ok (.aload_n 0, 1) := dk_42 (dk_at dksX7_nextToken_6 3 rfl rfl)
theorem dX7_nextToken_140 : decode cX7_nextToken 140 = .ok (.getfield 159, 3) := dk_180 0 159 (dk_at dksX7_nextToken_6 4 rfl rfl)
theorem dX7_nextToken_143 : decode cX7_nextToken 143 = .ok (.isub, 1) := dk_100 (dk_at dksX7_nextToken_6 7 rfl rfl)
theorem dX7_nextToken_144 : decode cX7_nextToken 144 = .ok (.bipush 8, 2) := dk_16 8 (dk_at dksX7_nextToken_6 8 rfl rfl)
theorem dX7_nextToken_146 : decode cX7_nextToken 146 = .ok (.if_icmp .ge 29, 3) := dk_162 0 29 (dk_at dksX7_nextToken_6 10 rfl rfl)
theorem dX7_nextToken_149 : decode cX7_nextToken 149 = .ok (.aload_n 0, 1) := dk_42 (dk_at dksX7_nextToken_6 13 rfl rfl)
theorem dX7_nextToken_150 : decode cX7_nextToken 150 = .ok (.aload_n 0, 1) := dk_42 (dk_at dksX7_nextToken_6 14 rfl rfl)
theorem dX7_nextToken_151 : decode cX7_nextToken 151 = .ok (.getfield 162, 3) := dk_180 0 162 (dk_at dksX7_nextToken_6 15 rfl rfl)
theorem dX7_nextToken_154 : decode cX7_nextToken 154 = .ok (.ldc2_w 176, 3) := dk_20 0 176 (dk_at dksX7_nextToken_6 18 rfl rfl)
theorem dX7_nextToken_157 : decode cX7_nextToken 157 = .ok (.lmul, 1) := dk_105 (dk_at dksX7_nextToken_6 21 rfl rfl)
theorem dX7_nextToken_158 : decode cX7_nextToken 158 = .ok (.aload_n 0, 1) := dk_42 (dk_at dksX7_nextToken_6 22 rfl rfl)
theorem dX7_nextToken_159 : decode cX7_nextToken 159 = .ok (.aload_n 0, 1) := dk_42 (dk_at dksX7_nextToken_6 23 rfl rfl)
theorem dX7_nextToken_160 : decode cX7_nextToken 160 = .ok (.getfield 156, 3) := dk_180 0 156 (dk_at dksX7_nextToken_7 0 rfl rfl)
theorem dX7_nextToken_163 : decode cX7_nextToken 163 = .ok (.invokevirtual 172, 3) := dk_182 0 172 (dk_at dksX7_nextToken_7 3 rfl rfl)
theorem dX7_nextToken_166 : decode cX7_nextToken 166 = .ok (.i2l, 1) := dk_133 (dk_at dksX7_nextToken_7 6 rfl rfl)
theorem dX7_nextToken_167 : decode cX7_nextToken 167 = .ok (.ladd, 1) := dk_97 (dk_at dksX7_nextToken_7 7 rfl rfl)
theorem dX7_nextToken_168 : decode cX7_nextToken 168 = .ok (.ldc2_w 178, 3) := dk_20 0 178 (dk_at dksX7_nextToken_7 8 rfl rfl)
theorem dX7_nextToken_171 : decode cX7_nextToken 171 = .ok (.lsub, 1) := dk_101 (dk_at dksX7_nextToken_7 11 rfl rfl)
theorem dX7_nextToken_172 : decode cX7_nextToken 172 = .ok (.putfield 162, 3) := dk_181 0 162 (dk_at dksX7_nextToken_7 12 rfl rfl)
theorem dX7_nextToken_175 : decode cX7_nextToken 175 = .ok (.aload_n 0, 1) := dk_42 (dk_at dksX7_nextToken_7 15 rfl rfl)
theorem dX7_nextToken_176 : decode cX7_nextToken 176 = .ok (.dup, 1) := dk_89 (dk_at dksX7_nextToken_7 16 rfl rfl)
theorem dX7_nextToken_177 : decode cX7_nextToken 177 = .ok (.getfield 156, 3) := dk_180 0 156 (dk_at dksX7_nextToken_7 17 rfl rfl)
theorem dX7_nextToken_180 : decode cX7_nextToken 180 = .ok (.iconst 1, 1) := dk_4 (dk_at dksX7_nextToken_7 20 rfl rfl)
theorem dX7_nextToken_181 : decode cX7_nextToken 181 = .ok (.iadd, 1) := dk_96 (dk_at dksX7_nextToken_7 21 rfl rfl)
theorem dX7_nextToken_182 : decode cX7_nextToken 182 = .ok (.putfield 156, 3) := dk_181 0 156 (dk_at dksX7_nextToken_8 0 rfl rfl)
theorem dX7_nextToken_185 : decode cX7_nextToken 185 = .ok (.goto (-76), 3) := dk_167 255 180 (dk_at dksX7_nextToken_8 3 rfl rfl)
theorem dX7_nextToken_188 : decode cX7_nextToken 188 = .ok (.aload_n 0, 1) := dk_42 (dk_at dksX7_nextToken_8 6 rfl rfl)
theorem dX7_nextToken_189 : decode cX7_nextToken 189 = .ok (.aload_n 0, 1) := dk_42 (dk_at dksX7_nextToken_8 7 rfl rfl)
theorem dX7_nextToken_190 : decode cX7_nextToken 190 = .ok (.getfield 156, 3) := dk_180 0 156 (dk_at dksX7_nextToken_8 8 rfl rfl)
theorem dX7_nextToken_193 : decode cX7_nextToken 193 = .ok (.aload_n 0, 1) := dk_42 (dk_at dksX7_nextToken_8 11 rfl rfl)
theorem dX7_nextToken_194 : decode cX7_nextToken 194 = .ok (.getfield 159, 3) := dk_180 0 159 (dk_at dksX7_nextToken_8 12 rfl rfl)
theorem dX7_nextToken_197 : decode cX7_nextToken 197 = .ok (.isub, 1) := dk_100 (dk_at dksX7_nextToken_8 15 rfl rfl)
theorem dX7_nextToken_198 : decode cX7_nextToken 198 = .ok (.bipush 8, 2) := dk_16 8 (dk_at dksX7_nextToken_8 16 rfl rfl)
theorem dX7_nextToken_200 : decode cX7_nextToken 200 = .ok (.if_icmp .le 7, 3) := dk_164 0 7 (dk_at dksX7_nextToken_8 18 rfl rfl)
theorem dX7_nextToken_203 : decode cX7_nextToken 203 = .ok (.iconst 4, 1) := dk_7 (dk_at dksX7_nextToken_8 21 rfl rfl)
theorem dX7_nextToken_204 : decode cX7_nextToken 204 = .ok (.goto 4, 3) := dk_167 0 4 (dk_at dksX7_nextToken_9 0 rfl rfl)
theorem dX7_nextToken_207 : decode cX7_nextToken 207 = .ok (.iconst 1, 1) := dk_4 (dk_at dksX7_nextToken_9 3 rfl rfl)
theorem dX7_nextToken_208 : decode cX7_nextToken 208 = .ok (.putfield 169, 3) := dk_181 0 169 (dk_at dksX7_nextToken_9 4 rfl rfl)
theorem dX7_nextToken_211 : decode cX7_nextToken 211 = .ok (.return_, 1) := dk_177 (dk_at dksX7_nextToken_9 7 rfl rfl)
theorem dX7_nextToken_212 : decode cX7_nextToken 212 = .ok (.iload_n 1, 1) := dk_27 (dk_at dksX7_nextToken_9 8 rfl rfl)
theorem dX7_nextToken_213 : decode cX7_nextToken 213 = .ok (.bipush 48, 2) := dk_16 48 (dk_at dksX7_nextToken_9 9 rfl rfl)
theorem dX7_nextToken_215 : decode cX7_nextToken 215 = .ok (.if_icmp .lt 107, 3) := dk_161 0 107 (dk_at dksX7_nextToken_9 11 rfl rfl)
theorem dX7_nextToken_218 : decode cX7_nextToken 218 = .ok (.iload_n 1, 1) := dk_27 (dk_at dksX7_nextToken_9 14 rfl rfl)
theorem dX7_nextToken_219 : decode cX7_nextToken 219 = .ok (.bipush 57, 2) := dk_16 57 (dk_at dksX7_nextToken_9 15 rfl rfl)
theorem dX7_nextToken_221 : decode cX7_nextToken 221 = .ok (.if_icmp .gt 101, 3) := dk_163 0 101 (dk_at dksX7_nextToken_9 17 rfl rfl)
theorem dX7_nextToken_224 : decode cX7_nextToken 224 = .ok (.aload_n 0, 1) := dk_42 (dk_at dksX7_nextToken_9 20 rfl rfl)
theorem dX7_nextToken_225 : decode cX7_nextToken 225 = .ok (.aload_n 0, 1) := dk_42 (dk_at dksX7_nextToken_9 21 rfl rfl)
theorem dX7_nextToken_226 : decode cX7_nextToken 226 = .ok (.getfield 156, 3) := dk_180 0 156 (dk_at dksX7_nextToken_10 0 rfl rfl)
theorem dX7_nextToken_229 : decode cX7_nextToken 229 = .ok (.invokevirtual 172, 3) := dk_182 0 172 (dk_at dksX7_nextToken_10 3 rfl rfl)
theorem dX7_nextToken_232 : decode cX7_nextToken 232 = .ok (.bipush 48, 2) := dk_16 48 (dk_at dksX7_nextToken_10 6 rfl rfl)
theorem dX7_nextToken_234 : decode cX7_nextToken 234 = .ok (.if_icmp .lt 65, 3) := dk_161 0 65 (dk_at dksX7_nextToken_10 8 rfl rfl)
theorem dX7_nextToken_237 : decode cX7_nextToken 237 = .ok (.aload_n 0, 1) := dk_42 (dk_at dksX7_nextToken_10 11 rfl rfl)
theorem dX7_nextToken_238 : decode cX7_nextToken 238 = .ok (.aload_n 0, 1) := dk_42 (dk_at dksX7_nextToken_10 12 rfl rfl)
theorem dX7_nextToken_239 : decode cX7_nextToken 239 = .ok (.getfield 156, 3) := dk_180 0 156 (dk_at dksX7_nextToken_10 13 rfl rfl)
theorem dX7_nextToken_242 : decode cX7_nextToken 242 = .ok (.invokevirtual 172, 3) := dk_182 0 172 (dk_at dksX7_nextToken_10 16 rfl rfl)
theorem dX7_nextToken_245 : decode cX7_nextToken 245 = .ok (.bipush 57, 2) := dk_16 57 (dk_at dksX7_nextToken_10 19 rfl rfl)
theorem dX7_nextToken_247 : decode cX7_nextToken 247 = .ok (.if_icmp .gt 52, 3) := dk_163 0 52 (dk_at dksX7_nextToken_10 21 rfl rfl)
theorem dX7_nextToken_250 : decode cX7_nextToken 250 = .ok (.aload_n 0, 1) := dk_42 (dk_at dksX7_nextToken_11 0 rfl rfl)
theorem dX7_nextToken_251 : decode cX7_nextToken 251 = .ok (.getfield 156, 3) := dk_180 0 156 (dk_at dksX7_nextToken_11 1 rfl rfl)
theorem dX7_nextToken_254 : decode cX7_nextToken 254 = .ok (.aload_n 0, 1) := dk_42 (dk_at dksX7_nextToken_11 4 rfl rfl)
theorem dX7_nextToken_255 : decode cX7_nextToken 255 = .ok (.getfield 159, 3) := dk_180 0 159 (dk_at dksX7_nextToken_11 5 rfl rfl)
theorem dX7_nextToken_258 : decode cX7_nextToken 258 = .ok (.isub, 1) := dk_100 (dk_at dksX7_nextToken_11 8 rfl rfl)
theorem dX7_nextToken_259 : decode cX7_nextToken 259 = .ok (.iconst 4, 1) := dk_7 (dk_at dksX7_nextToken_11 9 rfl rfl)
theorem dX7_nextToken_260 : decode cX7_nextToken 260 = .ok (.if_icmp .ge 26, 3) := dk_162 0 26 (dk_at dksX7_nextToken_11 10 rfl rfl)
theorem dX7_nextToken_263 : decode cX7_nextToken 263 = .ok (.aload_n 0, 1) := dk_42 (dk_at dksX7_nextToken_11 13 rfl rfl)
theorem dX7_nextToken_264 : decode cX7_nextToken 264 = .ok (.aload_n 0, 1) := dk_42 (dk_at dksX7_nextToken_11 14 rfl rfl)
theorem dX7_nextToken_265 : decode cX7_nextToken 265 = .ok (.getfield 166, 3) := dk_180 0 166 (dk_at dksX7_nextToken_11 15 rfl rfl)
theorem dX7_nextToken_268 : decode cX7_nextToken 268 = .ok (.bipush 10, 2) := dk_16 10 (dk_at dksX7_nextToken_11 18 rfl rfl)
theorem dX7_nextToken_270 : decode cX7_nextToken 270 = .ok (.imul, 1) := dk_104 (dk_at dksX7_nextToken_11 20 rfl rfl)
theorem dX7_nextToken_271 : decode cX7_nextToken 271 = .ok (.aload_n 0, 1) := dk_42 (dk_at dksX7_nextToken_11 21 rfl rfl)
theorem dX7_nextToken_272 : decode cX7_nextToken 272 = .ok (.aload_n 0, 1) := dk_42 (dk_at dksX7_nextToken_11 22 rfl rfl)
theorem dX7_nextToken_273 : decode cX7_nextToken 273 = .ok (.getfield 156, 3) := dk_180 0 156 (dk_at dksX7_nextToken_12 0 rfl rfl)
theorem dX7_nextToken_276 : decode cX7_nextToken 276 = .ok (.invokevirtual 172, 3) := dk_182 0 172 (dk_at dksX7_nextToken_12 3 rfl rfl)
theorem dX7_nextToken_279 : decode cX7_nextToken 279 = .ok (.iadd, 1) := dk_96 (dk_at dksX7_nextToken_12 6 rfl rfl)
theorem dX7_nextToken_280 : decode cX7_nextToken 280 = .ok (.bipush 48, 2) := dk_16 48 (dk_at dksX7_nextToken_12 7 rfl rfl)
theorem dX7_nextToken_282 : decode cX7_nextToken 282 = .ok (.isub, 1) := dk_100 (dk_at dksX7_nextToken_12 9 rfl rfl)
theorem dX7_nextToken_283 : decode cX7_nextToken 283 = .ok (.putfield 166, 3) := dk_181 0 166 (dk_at dksX7_nextToken_12 10 rfl rfl)
theorem dX7_nextToken_286 : decode cX7_nextToken 286 = .ok (.aload_n 0, 1) := dk_42 (dk_at dksX7_nextToken_12 13 rfl rfl)
theorem dX7_nextToken_287 : decode cX7_nextToken 287 = .ok (.dup, 1) := dk_89 (dk_at dksX7_nextToken_12 14 rfl rfl)
theorem dX7_nextToken_288 : decode cX7_nextToken 288 = .ok (.getfield 156, 3) := dk_180 0 156 (dk_at dksX7_nextToken_12 15 rfl rfl)
theorem dX7_nextToken_291 : decode cX7_nextToken 291 = .ok (.iconst 1, 1) := dk_4 (dk_at dksX7_nextToken_12 18 rfl rfl)
theorem dX7_nextToken_292 : decode cX7_nextToken 292 = .ok (.iadd, 1) := dk_96 (dk_at dksX7_nextToken_12 19 rfl rfl)
theorem dX7_nextToken_293 : decode cX7_nextToken 293 = .ok (.putfield 156, 3) := dk_181 0 156 (dk_at dksX7_nextToken_12 20 rfl rfl)
theorem dX7_nextToken_296 : decode cX7_nextToken 296 = .ok (.goto (-72), 3) := dk_167 255 184 (dk_at dksX7_nextToken_13 0 rfl rfl)
theorem dX7_nextToken_299 : decode cX7_nextToken 299 = .ok (.aload_n 0, 1) := dk_42 (dk_at dksX7_nextToken_13 3 rfl rfl)
theorem dX7_nextToken_300 : decode cX7_nextToken 300 = .ok (.aload_n 0, 1) := dk_42 (dk_at dksX7_nextToken_13 4 rfl rfl)
theorem dX7_nextToken_301 : decode cX7_nextToken 301 = .ok (.getfield 156, 3) := dk_180 0 156 (dk_at dksX7_nextToken_13 5 rfl rfl)
theorem dX7_nextToken_304 : decode cX7_nextToken 304 = .ok (.aload_n 0, 1) := dk_42 (dk_at dksX7_nextToken_13 8 rfl rfl)
theorem dX7_nextToken_305 : decode cX7_nextToken 305 = .ok (.getfield 159, 3) := dk_180 0 159 (dk_at dksX7_nextToken_13 9 rfl rfl)
theorem dX7_nextToken_308 : decode cX7_nextToken 308 = .ok (.isub, 1) := dk_100 (dk_at dksX7_nextToken_13 12 rfl rfl)
theorem dX7_nextToken_309 : decode cX7_nextToken 309 = .ok (.iconst 4, 1) := dk_7 (dk_at dksX7_nextToken_13 13 rfl rfl)
theorem dX7_nextToken_310 : decode cX7_nextToken 310 = .ok (.if_icmp .le 7, 3) := dk_164 0 7 (dk_at dksX7_nextToken_13 14 rfl rfl)
theorem dX7_nextToken_313 : decode cX7_nextToken 313 = .ok (.iconst 4, 1) := dk_7 (dk_at dksX7_nextToken_13 17 rfl rfl)
theorem dX7_nextToken_314 : decode cX7_nextToken 314 = .ok (.goto 4, 3) := dk_167 0 4 (dk_at dksX7_nextToken_13 18 rfl rfl)
theorem dX7_nextToken_317 : decode cX7_nextToken 317 = .ok (.iconst 2, 1) := dk_5 (dk_at dksX7_nextToken_13 21 rfl rfl)
theorem dX7_nextToken_318 : decode cX7_nextToken 318 = .ok (.putfield 169, 3) := dk_181 0 169 (dk_at dksX7_nextToken_14 0 rfl rfl)
theorem dX7_nextToken_321 : decode cX7_nextToken 321 = .ok (.return_, 1) := dk_177 (dk_at dksX7_nextToken_14 3 rfl rfl)
theorem dX7_nextToken_322 : decode cX7_nextToken 322 = .ok (.aload_n 0, 1) := dk_42 (dk_at dksX7_nextToken_14 4 rfl rfl)
theorem dX7_nextToken_323 : decode cX7_nextToken 323 = .ok (.dup, 1) := dk_89 (dk_at dksX7_nextToken_14 5 rfl rfl)
theorem dX7_nextToken_324 : decode cX7_nextToken 324 = .ok (.getfield 156, 3) := dk_180 0 156 (dk_at dksX7_nextToken_14 6 rfl rfl)
theorem dX7_nextToken_327 : decode cX7_nextToken 327 = .ok (.iconst 1, 1) := dk_4 (dk_at dksX7_nextToken_14 9 rfl rfl)
theorem dX7_nextToken_328 : decode cX7_nextToken 328 = .ok (.iadd, 1) := dk_96 (dk_at dksX7_nextToken_14 10 rfl rfl)
theorem dX7_nextToken_329 : decode cX7_nextToken 329 = .ok (.putfield 156, 3) := dk_181 0 156 (dk_at dksX7_nextToken_14 11 rfl rfl)
theorem dX7_nextToken_332 : decode cX7_nextToken 332 = .ok (.aload_n 0, 1) := dk_42 (dk_at dksX7_nextToken_14 14 rfl rfl)
theorem dX7_nextToken_333 : decode cX7_nextToken 333 = .ok (.iload_n 1, 1) := dk_27 (dk_at dksX7_nextToken_14 15 rfl rfl)
theorem dX7_nextToken_334 : decode cX7_nextToken 334 = .ok (.bipush 40, 2) := dk_16 40 (dk_at dksX7_nextToken_14 16 rfl rfl)
theorem dX7_nextToken_336 : decode cX7_nextToken 336 = .ok (.if_icmp .lt 9, 3) := dk_161 0 9 (dk_at dksX7_nextToken_14 18 rfl rfl)
theorem dX7_nextToken_339 : decode cX7_nextToken 339 = .ok (.iload_n 1, 1) := dk_27 (dk_at dksX7_nextToken_14 21 rfl rfl)
theorem dX7_nextToken_340 : decode cX7_nextToken 340 = .ok (.bipush 43, 2) := dk_16 43 (dk_at dksX7_nextToken_14 22 rfl rfl)
theorem dX7_nextToken_342 : decode cX7_nextToken 342 = .ok (.if_icmp .le 21, 3) := dk_164 0 21 (dk_at dksX7_nextToken_15 0 rfl rfl)
theorem dX7_nextToken_345 : decode cX7_nextToken 345 = .ok (.iload_n 1, 1) := dk_27 (dk_at dksX7_nextToken_15 3 rfl rfl)
theorem dX7_nextToken_346 : decode cX7_nextToken 346 = .ok (.bipush 45, 2) := dk_16 45 (dk_at dksX7_nextToken_15 4 rfl rfl)
theorem dX7_nextToken_348 : decode cX7_nextToken 348 = .ok (.if_icmp .eq 15, 3) := dk_159 0 15 (dk_at dksX7_nextToken_15 6 rfl rfl)
theorem dX7_nextToken_351 : decode cX7_nextToken 351 = .ok (.iload_n 1, 1) := dk_27 (dk_at dksX7_nextToken_15 9 rfl rfl)
theorem dX7_nextToken_352 : decode cX7_nextToken 352 = .ok (.bipush 59, 2) := dk_16 59 (dk_at dksX7_nextToken_15 10 rfl rfl)
theorem dX7_nextToken_354 : decode cX7_nextToken 354 = .ok (.if_icmp .lt 13, 3) := dk_161 0 13 (dk_at dksX7_nextToken_15 12 rfl rfl)
theorem dX7_nextToken_357 : decode cX7_nextToken 357 = .ok (.iload_n 1, 1) := dk_27 (dk_at dksX7_nextToken_15 15 rfl rfl)
theorem dX7_nextToken_358 : decode cX7_nextToken 358 = .ok (.bipush 61, 2) := dk_16 61 (dk_at dksX7_nextToken_15 16 rfl rfl)
theorem dX7_nextToken_360 : decode cX7_nextToken 360 = .ok (.if_icmp .gt 7, 3) := dk_163 0 7 (dk_at dksX7_nextToken_15 18 rfl rfl)
theorem dX7_nextToken_363 : decode cX7_nextToken 363 = .ok (.iconst 3, 1) := dk_6 (dk_at dksX7_nextToken_15 21 rfl rfl)
theorem dX7_nextToken_364 : decode cX7_nextToken 364 = .ok (.goto 4, 3) := dk_167 0 4 (dk_at dksX7_nextToken_16 0 rfl rfl)
theorem dX7_nextToken_367 : decode cX7_nextToken 367 = .ok (.iconst 4, 1) := dk_7 (dk_at dksX7_nextToken_16 3 rfl rfl)
theorem dX7_nextToken_368 : decode cX7_nextToken 368 = .ok (.putfield 169, 3) := dk_181 0 169 (dk_at dksX7_nextToken_16 4 rfl rfl)
theorem dX7_nextToken_371 : decode cX7_nextToken 371 = .ok (.return_, 1) := dk_177 (dk_at dksX7_nextToken_16 7 rfl rfl)
abbrev cX7_begins : ByteArray := prog_32_method_32_code
abbrev yX7_begins : MethodName := { cls := "WornSkinModel", name := "begins", desc := "()V" }
def dkwX7_begins_0 : List UInt8 := [42, 42, 180, 0, 150, 181, 0, 153, 42, 3, 181, 0, 150, 42, 3, 181, 0, 156, 42, 182, 0, 215, 177]
abbrev dktX7_begins_0 : List UInt8 := dkwX7_begins_0 ++ []
theorem dksX7_begins_0 : cX7_begins.data.toList.drop 0 = dktX7_begins_0 := by decide +kernel
theorem dX7_begins_0 : decode cX7_begins 0 = .ok (.aload_n 0, 1) := dk_42 (dk_at dksX7_begins_0 0 rfl rfl)
theorem dX7_begins_1 : decode cX7_begins 1 = .ok (.aload_n 0, 1) := dk_42 (dk_at dksX7_begins_0 1 rfl rfl)
theorem dX7_begins_2 : decode cX7_begins 2 = .ok (.getfield 150, 3) := dk_180 0 150 (dk_at dksX7_begins_0 2 rfl rfl)
theorem dX7_begins_5 : decode cX7_begins 5 = .ok (.putfield 153, 3) := dk_181 0 153 (dk_at dksX7_begins_0 5 rfl rfl)
theorem dX7_begins_8 : decode cX7_begins 8 = .ok (.aload_n 0, 1) := dk_42 (dk_at dksX7_begins_0 8 rfl rfl)
theorem dX7_begins_9 : decode cX7_begins 9 = .ok (.iconst 0, 1) := dk_3 (dk_at dksX7_begins_0 9 rfl rfl)
theorem dX7_begins_10 : decode cX7_begins 10 = .ok (.putfield 150, 3) := dk_181 0 150 (dk_at dksX7_begins_0 10 rfl rfl)
theorem dX7_begins_13 : decode cX7_begins 13 = .ok (.aload_n 0, 1) := dk_42 (dk_at dksX7_begins_0 13 rfl rfl)
theorem dX7_begins_14 : decode cX7_begins 14 = .ok (.iconst 0, 1) := dk_3 (dk_at dksX7_begins_0 14 rfl rfl)
theorem dX7_begins_15 : decode cX7_begins 15 = .ok (.putfield 156, 3) := dk_181 0 156 (dk_at dksX7_begins_0 15 rfl rfl)
theorem dX7_begins_18 : decode cX7_begins 18 = .ok (.aload_n 0, 1) := dk_42 (dk_at dksX7_begins_0 18 rfl rfl)
theorem dX7_begins_19 : decode cX7_begins 19 = .ok (.invokevirtual 215, 3) := dk_182 0 215 (dk_at dksX7_begins_0 19 rfl rfl)
theorem dX7_begins_22 : decode cX7_begins 22 = .ok (.return_, 1) := dk_177 (dk_at dksX7_begins_0 22 rfl rfl)
abbrev cX7_isWord : ByteArray := prog_32_method_8_code
abbrev yX7_isWord : MethodName := { cls := "WornSkinModel", name := "isWord", desc := "(J)Z" }
def dkwX7_isWord_0 : List UInt8 := [42, 180, 0, 169, 4, 160, 0, 16, 42, 180, 0, 162, 31, 148, 154, 0, 7, 4, 167, 0, 4, 3, 172]
abbrev dktX7_isWord_0 : List UInt8 := dkwX7_isWord_0 ++ []
theorem dksX7_isWord_0 : cX7_isWord.data.toList.drop 0 = dktX7_isWord_0 := by decide +kernel
theorem dX7_isWord_0 : decode cX7_isWord 0 = .ok (.aload_n 0, 1) := dk_42 (dk_at dksX7_isWord_0 0 rfl rfl)
theorem dX7_isWord_1 : decode cX7_isWord 1 = .ok (.getfield 169, 3) := dk_180 0 169 (dk_at dksX7_isWord_0 1 rfl rfl)
theorem dX7_isWord_4 : decode cX7_isWord 4 = .ok (.iconst 1, 1) := dk_4 (dk_at dksX7_isWord_0 4 rfl rfl)
theorem dX7_isWord_5 : decode cX7_isWord 5 = .ok (.if_icmp .ne 16, 3) := dk_160 0 16 (dk_at dksX7_isWord_0 5 rfl rfl)
theorem dX7_isWord_8 : decode cX7_isWord 8 = .ok (.aload_n 0, 1) := dk_42 (dk_at dksX7_isWord_0 8 rfl rfl)
theorem dX7_isWord_9 : decode cX7_isWord 9 = .ok (.getfield 162, 3) := dk_180 0 162 (dk_at dksX7_isWord_0 9 rfl rfl)
theorem dX7_isWord_12 : decode cX7_isWord 12 = .ok (.lload_n 1, 1) := dk_31 (dk_at dksX7_isWord_0 12 rfl rfl)
theorem dX7_isWord_13 : decode cX7_isWord 13 = .ok (.lcmp, 1) := dk_148 (dk_at dksX7_isWord_0 13 rfl rfl)
theorem dX7_isWord_14 : decode cX7_isWord 14 = .ok (.ifCond .ne 7, 3) := dk_154 0 7 (dk_at dksX7_isWord_0 14 rfl rfl)
theorem dX7_isWord_17 : decode cX7_isWord 17 = .ok (.iconst 1, 1) := dk_4 (dk_at dksX7_isWord_0 17 rfl rfl)
theorem dX7_isWord_18 : decode cX7_isWord 18 = .ok (.goto 4, 3) := dk_167 0 4 (dk_at dksX7_isWord_0 18 rfl rfl)
theorem dX7_isWord_21 : decode cX7_isWord 21 = .ok (.iconst 0, 1) := dk_3 (dk_at dksX7_isWord_0 21 rfl rfl)
theorem dX7_isWord_22 : decode cX7_isWord 22 = .ok (.ireturn, 1) := dk_172 (dk_at dksX7_isWord_0 22 rfl rfl)
abbrev cX7_fails : ByteArray := prog_32_method_10_code
abbrev yX7_fails : MethodName := { cls := "WornSkinModel", name := "fails", desc := "(I)Z" }
def dkwX7_fails_0 : List UInt8 := [42, 27, 16, 16, 42, 180, 0, 159, 104, 96, 181, 0, 180, 3, 172]
abbrev dktX7_fails_0 : List UInt8 := dkwX7_fails_0 ++ []
theorem dksX7_fails_0 : cX7_fails.data.toList.drop 0 = dktX7_fails_0 := by decide +kernel
theorem dX7_fails_0 : decode cX7_fails 0 = .ok (.aload_n 0, 1) := dk_42 (dk_at dksX7_fails_0 0 rfl rfl)
theorem dX7_fails_1 : decode cX7_fails 1 = .ok (.iload_n 1, 1) := dk_27 (dk_at dksX7_fails_0 1 rfl rfl)
theorem dX7_fails_2 : decode cX7_fails 2 = .ok (.bipush 16, 2) := dk_16 16 (dk_at dksX7_fails_0 2 rfl rfl)
theorem dX7_fails_4 : decode cX7_fails 4 = .ok (.aload_n 0, 1) := dk_42 (dk_at dksX7_fails_0 4 rfl rfl)
theorem dX7_fails_5 : decode cX7_fails 5 = .ok (.getfield 159, 3) := dk_180 0 159 (dk_at dksX7_fails_0 5 rfl rfl)
theorem dX7_fails_8 : decode cX7_fails 8 = .ok (.imul, 1) := dk_104 (dk_at dksX7_fails_0 8 rfl rfl)
theorem dX7_fails_9 : decode cX7_fails 9 = .ok (.iadd, 1) := dk_96 (dk_at dksX7_fails_0 9 rfl rfl)
theorem dX7_fails_10 : decode cX7_fails 10 = .ok (.putfield 180, 3) := dk_181 0 180 (dk_at dksX7_fails_0 10 rfl rfl)
theorem dX7_fails_13 : decode cX7_fails 13 = .ok (.iconst 0, 1) := dk_3 (dk_at dksX7_fails_0 13 rfl rfl)
theorem dX7_fails_14 : decode cX7_fails 14 = .ok (.ireturn, 1) := dk_172 (dk_at dksX7_fails_0 14 rfl rfl)
abbrev cX7_isKept : ByteArray := prog_32_method_18_code
abbrev yX7_isKept : MethodName := { cls := "WornSkinModel", name := "isKept", desc := "()Z" }
def dkwX7_isKept_10 : List UInt8 := [180, 0, 162, 20, 0, 220, 148, 154, 0, 7, 4, 167, 0, 4, 3, 172]
abbrev dktX7_isKept_10 : List UInt8 := dkwX7_isKept_10 ++ []
def dkwX7_isKept_9 : List UInt8 := [180, 0, 162, 20, 0, 198, 148, 153, 0, 25, 42, 180, 0, 162, 20, 0, 218, 148, 153, 0, 14, 42]
abbrev dktX7_isKept_9 : List UInt8 := dkwX7_isKept_9 ++ dktX7_isKept_10
def dkwX7_isKept_8 : List UInt8 := [180, 0, 162, 20, 1, 5, 148, 153, 0, 47, 42, 180, 0, 162, 20, 1, 7, 148, 153, 0, 36, 42]
abbrev dktX7_isKept_8 : List UInt8 := dkwX7_isKept_8 ++ dktX7_isKept_9
def dkwX7_isKept_7 : List UInt8 := [180, 0, 162, 20, 1, 1, 148, 153, 0, 69, 42, 180, 0, 162, 20, 1, 3, 148, 153, 0, 58, 42]
abbrev dktX7_isKept_7 : List UInt8 := dkwX7_isKept_7 ++ dktX7_isKept_8
def dkwX7_isKept_6 : List UInt8 := [180, 0, 162, 20, 0, 253, 148, 153, 0, 91, 42, 180, 0, 162, 20, 0, 255, 148, 153, 0, 80, 42]
abbrev dktX7_isKept_6 : List UInt8 := dkwX7_isKept_6 ++ dktX7_isKept_7
def dkwX7_isKept_5 : List UInt8 := [180, 0, 162, 20, 0, 249, 148, 153, 0, 113, 42, 180, 0, 162, 20, 0, 251, 148, 153, 0, 102, 42]
abbrev dktX7_isKept_5 : List UInt8 := dkwX7_isKept_5 ++ dktX7_isKept_6
def dkwX7_isKept_4 : List UInt8 := [180, 0, 162, 20, 0, 245, 148, 153, 0, 135, 42, 180, 0, 162, 20, 0, 247, 148, 153, 0, 124, 42]
abbrev dktX7_isKept_4 : List UInt8 := dkwX7_isKept_4 ++ dktX7_isKept_5
def dkwX7_isKept_3 : List UInt8 := [180, 0, 162, 20, 0, 241, 148, 153, 0, 157, 42, 180, 0, 162, 20, 0, 243, 148, 153, 0, 146, 42]
abbrev dktX7_isKept_3 : List UInt8 := dkwX7_isKept_3 ++ dktX7_isKept_4
def dkwX7_isKept_2 : List UInt8 := [180, 0, 162, 20, 0, 237, 148, 153, 0, 179, 42, 180, 0, 162, 20, 0, 239, 148, 153, 0, 168, 42]
abbrev dktX7_isKept_2 : List UInt8 := dkwX7_isKept_2 ++ dktX7_isKept_3
def dkwX7_isKept_1 : List UInt8 := [180, 0, 162, 20, 0, 233, 148, 153, 0, 201, 42, 180, 0, 162, 20, 0, 235, 148, 153, 0, 190, 42]
abbrev dktX7_isKept_1 : List UInt8 := dkwX7_isKept_1 ++ dktX7_isKept_2
def dkwX7_isKept_0 : List UInt8 := [42, 180, 0, 169, 4, 159, 0, 5, 4, 172, 42, 180, 0, 162, 20, 0, 231, 148, 153, 0, 212, 42]
abbrev dktX7_isKept_0 : List UInt8 := dkwX7_isKept_0 ++ dktX7_isKept_1
theorem dksX7_isKept_0 : cX7_isKept.data.toList.drop 0 = dktX7_isKept_0 := by decide +kernel
theorem dksX7_isKept_1 : cX7_isKept.data.toList.drop 22 = dktX7_isKept_1 := dk_seg dksX7_isKept_0 22 rfl rfl
theorem dksX7_isKept_2 : cX7_isKept.data.toList.drop 44 = dktX7_isKept_2 := dk_seg dksX7_isKept_1 22 rfl rfl
theorem dksX7_isKept_3 : cX7_isKept.data.toList.drop 66 = dktX7_isKept_3 := dk_seg dksX7_isKept_2 22 rfl rfl
theorem dksX7_isKept_4 : cX7_isKept.data.toList.drop 88 = dktX7_isKept_4 := dk_seg dksX7_isKept_3 22 rfl rfl
theorem dksX7_isKept_5 : cX7_isKept.data.toList.drop 110 = dktX7_isKept_5 := dk_seg dksX7_isKept_4 22 rfl rfl
theorem dksX7_isKept_6 : cX7_isKept.data.toList.drop 132 = dktX7_isKept_6 := dk_seg dksX7_isKept_5 22 rfl rfl
theorem dksX7_isKept_7 : cX7_isKept.data.toList.drop 154 = dktX7_isKept_7 := dk_seg dksX7_isKept_6 22 rfl rfl
theorem dksX7_isKept_8 : cX7_isKept.data.toList.drop 176 = dktX7_isKept_8 := dk_seg dksX7_isKept_7 22 rfl rfl
theorem dksX7_isKept_9 : cX7_isKept.data.toList.drop 198 = dktX7_isKept_9 := dk_seg dksX7_isKept_8 22 rfl rfl
theorem dksX7_isKept_10 : cX7_isKept.data.toList.drop 220 = dktX7_isKept_10 := dk_seg dksX7_isKept_9 22 rfl rfl
theorem dX7_isKept_0 : decode cX7_isKept 0 = .ok (.aload_n 0, 1) := dk_42 (dk_at dksX7_isKept_0 0 rfl rfl)
theorem dX7_isKept_1 : decode cX7_isKept 1 = .ok (.getfield 169, 3) := dk_180 0 169 (dk_at dksX7_isKept_0 1 rfl rfl)
theorem dX7_isKept_4 : decode cX7_isKept 4 = .ok (.iconst 1, 1) := dk_4 (dk_at dksX7_isKept_0 4 rfl rfl)
theorem dX7_isKept_5 : decode cX7_isKept 5 = .ok (.if_icmp .eq 5, 3) := dk_159 0 5 (dk_at dksX7_isKept_0 5 rfl rfl)
theorem dX7_isKept_8 : decode cX7_isKept 8 = .ok (.iconst 1, 1) := dk_4 (dk_at dksX7_isKept_0 8 rfl rfl)
theorem dX7_isKept_9 : decode cX7_isKept 9 = .ok (.ireturn, 1) := dk_172 (dk_at dksX7_isKept_0 9 rfl rfl)
theorem dX7_isKept_10 : decode cX7_isKept 10 = .ok (.aload_n 0, 1) := dk_42 (dk_at dksX7_isKept_0 10 rfl rfl)
theorem dX7_isKept_11 : decode cX7_isKept 11 = .ok (.getfield 162, 3) := dk_180 0 162 (dk_at dksX7_isKept_0 11 rfl rfl)
theorem dX7_isKept_14 : decode cX7_isKept 14 = .ok (.ldc2_w 231, 3) := dk_20 0 231 (dk_at dksX7_isKept_0 14 rfl rfl)
theorem dX7_isKept_17 : decode cX7_isKept 17 = .ok (.lcmp, 1) := dk_148 (dk_at dksX7_isKept_0 17 rfl rfl)
theorem dX7_isKept_18 : decode cX7_isKept 18 = .ok (.ifCond .eq 212, 3) := dk_153 0 212 (dk_at dksX7_isKept_0 18 rfl rfl)
theorem dX7_isKept_21 : decode cX7_isKept 21 = .ok (.aload_n 0, 1) := dk_42 (dk_at dksX7_isKept_0 21 rfl rfl)
theorem dX7_isKept_22 : decode cX7_isKept 22 = .ok (.getfield 162, 3) := dk_180 0 162 (dk_at dksX7_isKept_1 0 rfl rfl)
theorem dX7_isKept_25 : decode cX7_isKept 25 = .ok (.ldc2_w 233, 3) := dk_20 0 233 (dk_at dksX7_isKept_1 3 rfl rfl)
theorem dX7_isKept_28 : decode cX7_isKept 28 = .ok (.lcmp, 1) := dk_148 (dk_at dksX7_isKept_1 6 rfl rfl)
theorem dX7_isKept_29 : decode cX7_isKept 29 = .ok (.ifCond .eq 201, 3) := dk_153 0 201 (dk_at dksX7_isKept_1 7 rfl rfl)
theorem dX7_isKept_32 : decode cX7_isKept 32 = .ok (.aload_n 0, 1) := dk_42 (dk_at dksX7_isKept_1 10 rfl rfl)
theorem dX7_isKept_33 : decode cX7_isKept 33 = .ok (.getfield 162, 3) := dk_180 0 162 (dk_at dksX7_isKept_1 11 rfl rfl)
theorem dX7_isKept_36 : decode cX7_isKept 36 = .ok (.ldc2_w 235, 3) := dk_20 0 235 (dk_at dksX7_isKept_1 14 rfl rfl)
theorem dX7_isKept_39 : decode cX7_isKept 39 = .ok (.lcmp, 1) := dk_148 (dk_at dksX7_isKept_1 17 rfl rfl)
theorem dX7_isKept_40 : decode cX7_isKept 40 = .ok (.ifCond .eq 190, 3) := dk_153 0 190 (dk_at dksX7_isKept_1 18 rfl rfl)
theorem dX7_isKept_43 : decode cX7_isKept 43 = .ok (.aload_n 0, 1) := dk_42 (dk_at dksX7_isKept_1 21 rfl rfl)
theorem dX7_isKept_44 : decode cX7_isKept 44 = .ok (.getfield 162, 3) := dk_180 0 162 (dk_at dksX7_isKept_2 0 rfl rfl)
theorem dX7_isKept_47 : decode cX7_isKept 47 = .ok (.ldc2_w 237, 3) := dk_20 0 237 (dk_at dksX7_isKept_2 3 rfl rfl)
theorem dX7_isKept_50 : decode cX7_isKept 50 = .ok (.lcmp, 1) := dk_148 (dk_at dksX7_isKept_2 6 rfl rfl)
theorem dX7_isKept_51 : decode cX7_isKept 51 = .ok (.ifCond .eq 179, 3) := dk_153 0 179 (dk_at dksX7_isKept_2 7 rfl rfl)
theorem dX7_isKept_54 : decode cX7_isKept 54 = .ok (.aload_n 0, 1) := dk_42 (dk_at dksX7_isKept_2 10 rfl rfl)
theorem dX7_isKept_55 : decode cX7_isKept 55 = .ok (.getfield 162, 3) := dk_180 0 162 (dk_at dksX7_isKept_2 11 rfl rfl)
theorem dX7_isKept_58 : decode cX7_isKept 58 = .ok (.ldc2_w 239, 3) := dk_20 0 239 (dk_at dksX7_isKept_2 14 rfl rfl)
theorem dX7_isKept_61 : decode cX7_isKept 61 = .ok (.lcmp, 1) := dk_148 (dk_at dksX7_isKept_2 17 rfl rfl)
theorem dX7_isKept_62 : decode cX7_isKept 62 = .ok (.ifCond .eq 168, 3) := dk_153 0 168 (dk_at dksX7_isKept_2 18 rfl rfl)
theorem dX7_isKept_65 : decode cX7_isKept 65 = .ok (.aload_n 0, 1) := dk_42 (dk_at dksX7_isKept_2 21 rfl rfl)
theorem dX7_isKept_66 : decode cX7_isKept 66 = .ok (.getfield 162, 3) := dk_180 0 162 (dk_at dksX7_isKept_3 0 rfl rfl)
theorem dX7_isKept_69 : decode cX7_isKept 69 = .ok (.ldc2_w 241, 3) := dk_20 0 241 (dk_at dksX7_isKept_3 3 rfl rfl)
theorem dX7_isKept_72 : decode cX7_isKept 72 = .ok (.lcmp, 1) := dk_148 (dk_at dksX7_isKept_3 6 rfl rfl)
theorem dX7_isKept_73 : decode cX7_isKept 73 = .ok (.ifCond .eq 157, 3) := dk_153 0 157 (dk_at dksX7_isKept_3 7 rfl rfl)
theorem dX7_isKept_76 : decode cX7_isKept 76 = .ok (.aload_n 0, 1) := dk_42 (dk_at dksX7_isKept_3 10 rfl rfl)
theorem dX7_isKept_77 : decode cX7_isKept 77 = .ok (.getfield 162, 3) := dk_180 0 162 (dk_at dksX7_isKept_3 11 rfl rfl)
theorem dX7_isKept_80 : decode cX7_isKept 80 = .ok (.ldc2_w 243, 3) := dk_20 0 243 (dk_at dksX7_isKept_3 14 rfl rfl)
theorem dX7_isKept_83 : decode cX7_isKept 83 = .ok (.lcmp, 1) := dk_148 (dk_at dksX7_isKept_3 17 rfl rfl)
theorem dX7_isKept_84 : decode cX7_isKept 84 = .ok (.ifCond .eq 146, 3) := dk_153 0 146 (dk_at dksX7_isKept_3 18 rfl rfl)
theorem dX7_isKept_87 : decode cX7_isKept 87 = .ok (.aload_n 0, 1) := dk_42 (dk_at dksX7_isKept_3 21 rfl rfl)
theorem dX7_isKept_88 : decode cX7_isKept 88 = .ok (.getfield 162, 3) := dk_180 0 162 (dk_at dksX7_isKept_4 0 rfl rfl)
theorem dX7_isKept_91 : decode cX7_isKept 91 = .ok (.ldc2_w 245, 3) := dk_20 0 245 (dk_at dksX7_isKept_4 3 rfl rfl)
theorem dX7_isKept_94 : decode cX7_isKept 94 = .ok (.lcmp, 1) := dk_148 (dk_at dksX7_isKept_4 6 rfl rfl)
theorem dX7_isKept_95 : decode cX7_isKept 95 = .ok (.ifCond .eq 135, 3) := dk_153 0 135 (dk_at dksX7_isKept_4 7 rfl rfl)
theorem dX7_isKept_98 : decode cX7_isKept 98 = .ok (.aload_n 0, 1) := dk_42 (dk_at dksX7_isKept_4 10 rfl rfl)
theorem dX7_isKept_99 : decode cX7_isKept 99 = .ok (.getfield 162, 3) := dk_180 0 162 (dk_at dksX7_isKept_4 11 rfl rfl)
theorem dX7_isKept_102 : decode cX7_isKept 102 = .ok (.ldc2_w 247, 3) := dk_20 0 247 (dk_at dksX7_isKept_4 14 rfl rfl)
theorem dX7_isKept_105 : decode cX7_isKept 105 = .ok (.lcmp, 1) := dk_148 (dk_at dksX7_isKept_4 17 rfl rfl)
theorem dX7_isKept_106 : decode cX7_isKept 106 = .ok (.ifCond .eq 124, 3) := dk_153 0 124 (dk_at dksX7_isKept_4 18 rfl rfl)
theorem dX7_isKept_109 : decode cX7_isKept 109 = .ok (.aload_n 0, 1) := dk_42 (dk_at dksX7_isKept_4 21 rfl rfl)
theorem dX7_isKept_110 : decode cX7_isKept 110 = .ok (.getfield 162, 3) := dk_180 0 162 (dk_at dksX7_isKept_5 0 rfl rfl)
theorem dX7_isKept_113 : decode cX7_isKept 113 = .ok (.ldc2_w 249, 3) := dk_20 0 249 (dk_at dksX7_isKept_5 3 rfl rfl)
theorem dX7_isKept_116 : decode cX7_isKept 116 = .ok (.lcmp, 1) := dk_148 (dk_at dksX7_isKept_5 6 rfl rfl)
theorem dX7_isKept_117 : decode cX7_isKept 117 = .ok (.ifCond .eq 113, 3) := dk_153 0 113 (dk_at dksX7_isKept_5 7 rfl rfl)
theorem dX7_isKept_120 : decode cX7_isKept 120 = .ok (.aload_n 0, 1) := dk_42 (dk_at dksX7_isKept_5 10 rfl rfl)
theorem dX7_isKept_121 : decode cX7_isKept 121 = .ok (.getfield 162, 3) := dk_180 0 162 (dk_at dksX7_isKept_5 11 rfl rfl)
theorem dX7_isKept_124 : decode cX7_isKept 124 = .ok (.ldc2_w 251, 3) := dk_20 0 251 (dk_at dksX7_isKept_5 14 rfl rfl)
theorem dX7_isKept_127 : decode cX7_isKept 127 = .ok (.lcmp, 1) := dk_148 (dk_at dksX7_isKept_5 17 rfl rfl)
theorem dX7_isKept_128 : decode cX7_isKept 128 = .ok (.ifCond .eq 102, 3) := dk_153 0 102 (dk_at dksX7_isKept_5 18 rfl rfl)
theorem dX7_isKept_131 : decode cX7_isKept 131 = .ok (.aload_n 0, 1) := dk_42 (dk_at dksX7_isKept_5 21 rfl rfl)
theorem dX7_isKept_132 : decode cX7_isKept 132 = .ok (.getfield 162, 3) := dk_180 0 162 (dk_at dksX7_isKept_6 0 rfl rfl)
theorem dX7_isKept_135 : decode cX7_isKept 135 = .ok (.ldc2_w 253, 3) := dk_20 0 253 (dk_at dksX7_isKept_6 3 rfl rfl)
theorem dX7_isKept_138 : decode cX7_isKept 138 = .ok (.lcmp, 1) := dk_148 (dk_at dksX7_isKept_6 6 rfl rfl)
theorem dX7_isKept_139 : decode cX7_isKept 139 = .ok (.ifCond .eq 91, 3) := dk_153 0 91 (dk_at dksX7_isKept_6 7 rfl rfl)
theorem dX7_isKept_142 : decode cX7_isKept 142 = .ok (.aload_n 0, 1) := dk_42 (dk_at dksX7_isKept_6 10 rfl rfl)
theorem dX7_isKept_143 : decode cX7_isKept 143 = .ok (.getfield 162, 3) := dk_180 0 162 (dk_at dksX7_isKept_6 11 rfl rfl)
theorem dX7_isKept_146 : decode cX7_isKept 146 = .ok (.ldc2_w 255, 3) := dk_20 0 255 (dk_at dksX7_isKept_6 14 rfl rfl)
theorem dX7_isKept_149 : decode cX7_isKept 149 = .ok (.lcmp, 1) := dk_148 (dk_at dksX7_isKept_6 17 rfl rfl)
theorem dX7_isKept_150 : decode cX7_isKept 150 = .ok (.ifCond .eq 80, 3) := dk_153 0 80 (dk_at dksX7_isKept_6 18 rfl rfl)
theorem dX7_isKept_153 : decode cX7_isKept 153 = .ok (.aload_n 0, 1) := dk_42 (dk_at dksX7_isKept_6 21 rfl rfl)
theorem dX7_isKept_154 : decode cX7_isKept 154 = .ok (.getfield 162, 3) := dk_180 0 162 (dk_at dksX7_isKept_7 0 rfl rfl)
theorem dX7_isKept_157 : decode cX7_isKept 157 = .ok (.ldc2_w 257, 3) := dk_20 1 1 (dk_at dksX7_isKept_7 3 rfl rfl)
theorem dX7_isKept_160 : decode cX7_isKept 160 = .ok (.lcmp, 1) := dk_148 (dk_at dksX7_isKept_7 6 rfl rfl)
theorem dX7_isKept_161 : decode cX7_isKept 161 = .ok (.ifCond .eq 69, 3) := dk_153 0 69 (dk_at dksX7_isKept_7 7 rfl rfl)
theorem dX7_isKept_164 : decode cX7_isKept 164 = .ok (.aload_n 0, 1) := dk_42 (dk_at dksX7_isKept_7 10 rfl rfl)
theorem dX7_isKept_165 : decode cX7_isKept 165 = .ok (.getfield 162, 3) := dk_180 0 162 (dk_at dksX7_isKept_7 11 rfl rfl)
theorem dX7_isKept_168 : decode cX7_isKept 168 = .ok (.ldc2_w 259, 3) := dk_20 1 3 (dk_at dksX7_isKept_7 14 rfl rfl)
theorem dX7_isKept_171 : decode cX7_isKept 171 = .ok (.lcmp, 1) := dk_148 (dk_at dksX7_isKept_7 17 rfl rfl)
theorem dX7_isKept_172 : decode cX7_isKept 172 = .ok (.ifCond .eq 58, 3) := dk_153 0 58 (dk_at dksX7_isKept_7 18 rfl rfl)
theorem dX7_isKept_175 : decode cX7_isKept 175 = .ok (.aload_n 0, 1) := dk_42 (dk_at dksX7_isKept_7 21 rfl rfl)
theorem dX7_isKept_176 : decode cX7_isKept 176 = .ok (.getfield 162, 3) := dk_180 0 162 (dk_at dksX7_isKept_8 0 rfl rfl)
theorem dX7_isKept_179 : decode cX7_isKept 179 = .ok (.ldc2_w 261, 3) := dk_20 1 5 (dk_at dksX7_isKept_8 3 rfl rfl)
theorem dX7_isKept_182 : decode cX7_isKept 182 = .ok (.lcmp, 1) := dk_148 (dk_at dksX7_isKept_8 6 rfl rfl)
theorem dX7_isKept_183 : decode cX7_isKept 183 = .ok (.ifCond .eq 47, 3) := dk_153 0 47 (dk_at dksX7_isKept_8 7 rfl rfl)
theorem dX7_isKept_186 : decode cX7_isKept 186 = .ok (.aload_n 0, 1) := dk_42 (dk_at dksX7_isKept_8 10 rfl rfl)
theorem dX7_isKept_187 : decode cX7_isKept 187 = .ok (.getfield 162, 3) := dk_180 0 162 (dk_at dksX7_isKept_8 11 rfl rfl)
theorem dX7_isKept_190 : decode cX7_isKept 190 = .ok (.ldc2_w 263, 3) := dk_20 1 7 (dk_at dksX7_isKept_8 14 rfl rfl)
theorem dX7_isKept_193 : decode cX7_isKept 193 = .ok (.lcmp, 1) := dk_148 (dk_at dksX7_isKept_8 17 rfl rfl)
theorem dX7_isKept_194 : decode cX7_isKept 194 = .ok (.ifCond .eq 36, 3) := dk_153 0 36 (dk_at dksX7_isKept_8 18 rfl rfl)
theorem dX7_isKept_197 : decode cX7_isKept 197 = .ok (.aload_n 0, 1) := dk_42 (dk_at dksX7_isKept_8 21 rfl rfl)
theorem dX7_isKept_198 : decode cX7_isKept 198 = .ok (.getfield 162, 3) := dk_180 0 162 (dk_at dksX7_isKept_9 0 rfl rfl)
theorem dX7_isKept_201 : decode cX7_isKept 201 = .ok (.ldc2_w 198, 3) := dk_20 0 198 (dk_at dksX7_isKept_9 3 rfl rfl)
theorem dX7_isKept_204 : decode cX7_isKept 204 = .ok (.lcmp, 1) := dk_148 (dk_at dksX7_isKept_9 6 rfl rfl)
theorem dX7_isKept_205 : decode cX7_isKept 205 = .ok (.ifCond .eq 25, 3) := dk_153 0 25 (dk_at dksX7_isKept_9 7 rfl rfl)
theorem dX7_isKept_208 : decode cX7_isKept 208 = .ok (.aload_n 0, 1) := dk_42 (dk_at dksX7_isKept_9 10 rfl rfl)
theorem dX7_isKept_209 : decode cX7_isKept 209 = .ok (.getfield 162, 3) := dk_180 0 162 (dk_at dksX7_isKept_9 11 rfl rfl)
theorem dX7_isKept_212 : decode cX7_isKept 212 = .ok (.ldc2_w 218, 3) := dk_20 0 218 (dk_at dksX7_isKept_9 14 rfl rfl)
theorem dX7_isKept_215 : decode cX7_isKept 215 = .ok (.lcmp, 1) := dk_148 (dk_at dksX7_isKept_9 17 rfl rfl)
theorem dX7_isKept_216 : decode cX7_isKept 216 = .ok (.ifCond .eq 14, 3) := dk_153 0 14 (dk_at dksX7_isKept_9 18 rfl rfl)
theorem dX7_isKept_219 : decode cX7_isKept 219 = .ok (.aload_n 0, 1) := dk_42 (dk_at dksX7_isKept_9 21 rfl rfl)
theorem dX7_isKept_220 : decode cX7_isKept 220 = .ok (.getfield 162, 3) := dk_180 0 162 (dk_at dksX7_isKept_10 0 rfl rfl)
theorem dX7_isKept_223 : decode cX7_isKept 223 = .ok (.ldc2_w 220, 3) := dk_20 0 220 (dk_at dksX7_isKept_10 3 rfl rfl)
theorem dX7_isKept_226 : decode cX7_isKept 226 = .ok (.lcmp, 1) := dk_148 (dk_at dksX7_isKept_10 6 rfl rfl)
theorem dX7_isKept_227 : decode cX7_isKept 227 = .ok (.ifCond .ne 7, 3) := dk_154 0 7 (dk_at dksX7_isKept_10 7 rfl rfl)
theorem dX7_isKept_230 : decode cX7_isKept 230 = .ok (.iconst 1, 1) := dk_4 (dk_at dksX7_isKept_10 10 rfl rfl)
theorem dX7_isKept_231 : decode cX7_isKept 231 = .ok (.goto 4, 3) := dk_167 0 4 (dk_at dksX7_isKept_10 11 rfl rfl)
theorem dX7_isKept_234 : decode cX7_isKept 234 = .ok (.iconst 0, 1) := dk_3 (dk_at dksX7_isKept_10 14 rfl rfl)
theorem dX7_isKept_235 : decode cX7_isKept 235 = .ok (.ireturn, 1) := dk_172 (dk_at dksX7_isKept_10 15 rfl rfl)
abbrev cX7_skinNamed : ByteArray := prog_32_method_19_code
abbrev yX7_skinNamed : MethodName := { cls := "WornSkinModel", name := "skinNamed", desc := "(I)I" }
def dkwX7_skinNamed_2 : List UInt8 := [167, 255, 215, 2, 172]
abbrev dktX7_skinNamed_2 : List UInt8 := dkwX7_skinNamed_2 ++ []
def dkwX7_skinNamed_1 : List UInt8 := [180, 0, 16, 28, 47, 42, 180, 0, 162, 148, 154, 0, 9, 28, 6, 27, 104, 100, 172, 132, 2, 1]
abbrev dktX7_skinNamed_1 : List UInt8 := dkwX7_skinNamed_1 ++ dktX7_skinNamed_2
def dkwX7_skinNamed_0 : List UInt8 := [6, 27, 104, 61, 28, 6, 27, 104, 42, 180, 0, 13, 6, 27, 104, 3, 96, 46, 96, 162, 0, 29, 42]
abbrev dktX7_skinNamed_0 : List UInt8 := dkwX7_skinNamed_0 ++ dktX7_skinNamed_1
theorem dksX7_skinNamed_0 : cX7_skinNamed.data.toList.drop 0 = dktX7_skinNamed_0 := by decide +kernel
theorem dksX7_skinNamed_1 : cX7_skinNamed.data.toList.drop 23 = dktX7_skinNamed_1 := dk_seg dksX7_skinNamed_0 23 rfl rfl
theorem dksX7_skinNamed_2 : cX7_skinNamed.data.toList.drop 45 = dktX7_skinNamed_2 := dk_seg dksX7_skinNamed_1 22 rfl rfl
theorem dX7_skinNamed_0 : decode cX7_skinNamed 0 = .ok (.iconst 3, 1) := dk_6 (dk_at dksX7_skinNamed_0 0 rfl rfl)
theorem dX7_skinNamed_1 : decode cX7_skinNamed 1 = .ok (.iload_n 1, 1) := dk_27 (dk_at dksX7_skinNamed_0 1 rfl rfl)
theorem dX7_skinNamed_2 : decode cX7_skinNamed 2 = .ok (.imul, 1) := dk_104 (dk_at dksX7_skinNamed_0 2 rfl rfl)
theorem dX7_skinNamed_3 : decode cX7_skinNamed 3 = .ok (.istore_n 2, 1) := dk_61 (dk_at dksX7_skinNamed_0 3 rfl rfl)
theorem dX7_skinNamed_4 : decode cX7_skinNamed 4 = .ok (.iload_n 2, 1) := dk_28 (dk_at dksX7_skinNamed_0 4 rfl rfl)
theorem dX7_skinNamed_5 : decode cX7_skinNamed 5 = .ok (.iconst 3, 1) := dk_6 (dk_at dksX7_skinNamed_0 5 rfl rfl)
theorem dX7_skinNamed_6 : decode cX7_skinNamed 6 = .ok (.iload_n 1, 1) := dk_27 (dk_at dksX7_skinNamed_0 6 rfl rfl)
theorem dX7_skinNamed_7 : decode cX7_skinNamed 7 = .ok (.imul, 1) := dk_104 (dk_at dksX7_skinNamed_0 7 rfl rfl)
theorem dX7_skinNamed_8 : decode cX7_skinNamed 8 = .ok (.aload_n 0, 1) := dk_42 (dk_at dksX7_skinNamed_0 8 rfl rfl)
theorem dX7_skinNamed_9 : decode cX7_skinNamed 9 = .ok (.getfield 13, 3) := dk_180 0 13 (dk_at dksX7_skinNamed_0 9 rfl rfl)
theorem dX7_skinNamed_12 : decode cX7_skinNamed 12 = .ok (.iconst 3, 1) := dk_6 (dk_at dksX7_skinNamed_0 12 rfl rfl)
theorem dX7_skinNamed_13 : decode cX7_skinNamed 13 = .ok (.iload_n 1, 1) := dk_27 (dk_at dksX7_skinNamed_0 13 rfl rfl)
theorem dX7_skinNamed_14 : decode cX7_skinNamed 14 = .ok (.imul, 1) := dk_104 (dk_at dksX7_skinNamed_0 14 rfl rfl)
theorem dX7_skinNamed_15 : decode cX7_skinNamed 15 = .ok (.iconst 0, 1) := dk_3 (dk_at dksX7_skinNamed_0 15 rfl rfl)
theorem dX7_skinNamed_16 : decode cX7_skinNamed 16 = .ok (.iadd, 1) := dk_96 (dk_at dksX7_skinNamed_0 16 rfl rfl)
theorem dX7_skinNamed_17 : decode cX7_skinNamed 17 = .ok (.iaload, 1) := dk_46 (dk_at dksX7_skinNamed_0 17 rfl rfl)
theorem dX7_skinNamed_18 : decode cX7_skinNamed 18 = .ok (.iadd, 1) := dk_96 (dk_at dksX7_skinNamed_0 18 rfl rfl)
theorem dX7_skinNamed_19 : decode cX7_skinNamed 19 = .ok (.if_icmp .ge 29, 3) := dk_162 0 29 (dk_at dksX7_skinNamed_0 19 rfl rfl)
theorem dX7_skinNamed_22 : decode cX7_skinNamed 22 = .ok (.aload_n 0, 1) := dk_42 (dk_at dksX7_skinNamed_0 22 rfl rfl)
theorem dX7_skinNamed_23 : decode cX7_skinNamed 23 = .ok (.getfield 16, 3) := dk_180 0 16 (dk_at dksX7_skinNamed_1 0 rfl rfl)
theorem dX7_skinNamed_26 : decode cX7_skinNamed 26 = .ok (.iload_n 2, 1) := dk_28 (dk_at dksX7_skinNamed_1 3 rfl rfl)
theorem dX7_skinNamed_27 : decode cX7_skinNamed 27 = .ok (.laload, 1) := dk_47 (dk_at dksX7_skinNamed_1 4 rfl rfl)
theorem dX7_skinNamed_28 : decode cX7_skinNamed 28 = .ok (.aload_n 0, 1) := dk_42 (dk_at dksX7_skinNamed_1 5 rfl rfl)
theorem dX7_skinNamed_29 : decode cX7_skinNamed 29 = .ok (.getfield 162, 3) := dk_180 0 162 (dk_at dksX7_skinNamed_1 6 rfl rfl)
theorem dX7_skinNamed_32 : decode cX7_skinNamed 32 = .ok (.lcmp, 1) := dk_148 (dk_at dksX7_skinNamed_1 9 rfl rfl)
theorem dX7_skinNamed_33 : decode cX7_skinNamed 33 = .ok (.ifCond .ne 9, 3) := dk_154 0 9 (dk_at dksX7_skinNamed_1 10 rfl rfl)
theorem dX7_skinNamed_36 : decode cX7_skinNamed 36 = .ok (.iload_n 2, 1) := dk_28 (dk_at dksX7_skinNamed_1 13 rfl rfl)
theorem dX7_skinNamed_37 : decode cX7_skinNamed 37 = .ok (.iconst 3, 1) := dk_6 (dk_at dksX7_skinNamed_1 14 rfl rfl)
theorem dX7_skinNamed_38 : decode cX7_skinNamed 38 = .ok (.iload_n 1, 1) := dk_27 (dk_at dksX7_skinNamed_1 15 rfl rfl)
theorem dX7_skinNamed_39 : decode cX7_skinNamed 39 = .ok (.imul, 1) := dk_104 (dk_at dksX7_skinNamed_1 16 rfl rfl)
theorem dX7_skinNamed_40 : decode cX7_skinNamed 40 = .ok (.isub, 1) := dk_100 (dk_at dksX7_skinNamed_1 17 rfl rfl)
theorem dX7_skinNamed_41 : decode cX7_skinNamed 41 = .ok (.ireturn, 1) := dk_172 (dk_at dksX7_skinNamed_1 18 rfl rfl)
theorem dX7_skinNamed_42 : decode cX7_skinNamed 42 = .ok (.iinc 2 1, 3) := dk_132 2 1 (dk_at dksX7_skinNamed_1 19 rfl rfl)
theorem dX7_skinNamed_45 : decode cX7_skinNamed 45 = .ok (.goto (-41), 3) := dk_167 255 215 (dk_at dksX7_skinNamed_2 0 rfl rfl)
theorem dX7_skinNamed_48 : decode cX7_skinNamed 48 = .ok (.iconst (-1), 1) := dk_2 (dk_at dksX7_skinNamed_2 3 rfl rfl)
theorem dX7_skinNamed_49 : decode cX7_skinNamed 49 = .ok (.ireturn, 1) := dk_172 (dk_at dksX7_skinNamed_2 4 rfl rfl)
abbrev cX7_textNamed : ByteArray := prog_32_method_20_code
abbrev yX7_textNamed : MethodName := { cls := "WornSkinModel", name := "textNamed", desc := "(I)I" }
def dkwX7_textNamed_2 : List UInt8 := [167, 255, 213, 2, 172]
abbrev dktX7_textNamed_2 : List UInt8 := dkwX7_textNamed_2 ++ []
def dkwX7_textNamed_1 : List UInt8 := [42, 180, 0, 20, 28, 47, 42, 180, 0, 162, 148, 154, 0, 10, 28, 16, 6, 27, 104, 100, 172, 132, 2, 1]
abbrev dktX7_textNamed_1 : List UInt8 := dkwX7_textNamed_1 ++ dktX7_textNamed_2
def dkwX7_textNamed_0 : List UInt8 := [16, 6, 27, 104, 61, 28, 16, 6, 27, 104, 42, 180, 0, 13, 6, 27, 104, 4, 96, 46, 96, 162, 0, 30]
abbrev dktX7_textNamed_0 : List UInt8 := dkwX7_textNamed_0 ++ dktX7_textNamed_1
theorem dksX7_textNamed_0 : cX7_textNamed.data.toList.drop 0 = dktX7_textNamed_0 := by decide +kernel
theorem dksX7_textNamed_1 : cX7_textNamed.data.toList.drop 24 = dktX7_textNamed_1 := dk_seg dksX7_textNamed_0 24 rfl rfl
theorem dksX7_textNamed_2 : cX7_textNamed.data.toList.drop 48 = dktX7_textNamed_2 := dk_seg dksX7_textNamed_1 24 rfl rfl
theorem dX7_textNamed_0 : decode cX7_textNamed 0 = .ok (.bipush 6, 2) := dk_16 6 (dk_at dksX7_textNamed_0 0 rfl rfl)
theorem dX7_textNamed_2 : decode cX7_textNamed 2 = .ok (.iload_n 1, 1) := dk_27 (dk_at dksX7_textNamed_0 2 rfl rfl)
theorem dX7_textNamed_3 : decode cX7_textNamed 3 = .ok (.imul, 1) := dk_104 (dk_at dksX7_textNamed_0 3 rfl rfl)
theorem dX7_textNamed_4 : decode cX7_textNamed 4 = .ok (.istore_n 2, 1) := dk_61 (dk_at dksX7_textNamed_0 4 rfl rfl)
theorem dX7_textNamed_5 : decode cX7_textNamed 5 = .ok (.iload_n 2, 1) := dk_28 (dk_at dksX7_textNamed_0 5 rfl rfl)
theorem dX7_textNamed_6 : decode cX7_textNamed 6 = .ok (.bipush 6, 2) := dk_16 6 (dk_at dksX7_textNamed_0 6 rfl rfl)
theorem dX7_textNamed_8 : decode cX7_textNamed 8 = .ok (.iload_n 1, 1) := dk_27 (dk_at dksX7_textNamed_0 8 rfl rfl)
theorem dX7_textNamed_9 : decode cX7_textNamed 9 = .ok (.imul, 1) := dk_104 (dk_at dksX7_textNamed_0 9 rfl rfl)
theorem dX7_textNamed_10 : decode cX7_textNamed 10 = .ok (.aload_n 0, 1) := dk_42 (dk_at dksX7_textNamed_0 10 rfl rfl)
theorem dX7_textNamed_11 : decode cX7_textNamed 11 = .ok (.getfield 13, 3) := dk_180 0 13 (dk_at dksX7_textNamed_0 11 rfl rfl)
theorem dX7_textNamed_14 : decode cX7_textNamed 14 = .ok (.iconst 3, 1) := dk_6 (dk_at dksX7_textNamed_0 14 rfl rfl)
theorem dX7_textNamed_15 : decode cX7_textNamed 15 = .ok (.iload_n 1, 1) := dk_27 (dk_at dksX7_textNamed_0 15 rfl rfl)
theorem dX7_textNamed_16 : decode cX7_textNamed 16 = .ok (.imul, 1) := dk_104 (dk_at dksX7_textNamed_0 16 rfl rfl)
theorem dX7_textNamed_17 : decode cX7_textNamed 17 = .ok (.iconst 1, 1) := dk_4 (dk_at dksX7_textNamed_0 17 rfl rfl)
theorem dX7_textNamed_18 : decode cX7_textNamed 18 = .ok (.iadd, 1) := dk_96 (dk_at dksX7_textNamed_0 18 rfl rfl)
theorem dX7_textNamed_19 : decode cX7_textNamed 19 = .ok (.iaload, 1) := dk_46 (dk_at dksX7_textNamed_0 19 rfl rfl)
theorem dX7_textNamed_20 : decode cX7_textNamed 20 = .ok (.iadd, 1) := dk_96 (dk_at dksX7_textNamed_0 20 rfl rfl)
theorem dX7_textNamed_21 : decode cX7_textNamed 21 = .ok (.if_icmp .ge 30, 3) := dk_162 0 30 (dk_at dksX7_textNamed_0 21 rfl rfl)
theorem dX7_textNamed_24 : decode cX7_textNamed 24 = .ok (.aload_n 0, 1) := dk_42 (dk_at dksX7_textNamed_1 0 rfl rfl)
theorem dX7_textNamed_25 : decode cX7_textNamed 25 = .ok (.getfield 20, 3) := dk_180 0 20 (dk_at dksX7_textNamed_1 1 rfl rfl)
theorem dX7_textNamed_28 : decode cX7_textNamed 28 = .ok (.iload_n 2, 1) := dk_28 (dk_at dksX7_textNamed_1 4 rfl rfl)
theorem dX7_textNamed_29 : decode cX7_textNamed 29 = .ok (.laload, 1) := dk_47 (dk_at dksX7_textNamed_1 5 rfl rfl)
theorem dX7_textNamed_30 : decode cX7_textNamed 30 = .ok (.aload_n 0, 1) := dk_42 (dk_at dksX7_textNamed_1 6 rfl rfl)
theorem dX7_textNamed_31 : decode cX7_textNamed 31 = .ok (.getfield 162, 3) := dk_180 0 162 (dk_at dksX7_textNamed_1 7 rfl rfl)
theorem dX7_textNamed_34 : decode cX7_textNamed 34 = .ok (.lcmp, 1) := dk_148 (dk_at dksX7_textNamed_1 10 rfl rfl)
theorem dX7_textNamed_35 : decode cX7_textNamed 35 = .ok (.ifCond .ne 10, 3) := dk_154 0 10 (dk_at dksX7_textNamed_1 11 rfl rfl)
theorem dX7_textNamed_38 : decode cX7_textNamed 38 = .ok (.iload_n 2, 1) := dk_28 (dk_at dksX7_textNamed_1 14 rfl rfl)
theorem dX7_textNamed_39 : decode cX7_textNamed 39 = .ok (.bipush 6, 2) := dk_16 6 (dk_at dksX7_textNamed_1 15 rfl rfl)
theorem dX7_textNamed_41 : decode cX7_textNamed 41 = .ok (.iload_n 1, 1) := dk_27 (dk_at dksX7_textNamed_1 17 rfl rfl)
theorem dX7_textNamed_42 : decode cX7_textNamed 42 = .ok (.imul, 1) := dk_104 (dk_at dksX7_textNamed_1 18 rfl rfl)
theorem dX7_textNamed_43 : decode cX7_textNamed 43 = .ok (.isub, 1) := dk_100 (dk_at dksX7_textNamed_1 19 rfl rfl)
theorem dX7_textNamed_44 : decode cX7_textNamed 44 = .ok (.ireturn, 1) := dk_172 (dk_at dksX7_textNamed_1 20 rfl rfl)
theorem dX7_textNamed_45 : decode cX7_textNamed 45 = .ok (.iinc 2 1, 3) := dk_132 2 1 (dk_at dksX7_textNamed_1 21 rfl rfl)
theorem dX7_textNamed_48 : decode cX7_textNamed 48 = .ok (.goto (-43), 3) := dk_167 255 213 (dk_at dksX7_textNamed_2 0 rfl rfl)
theorem dX7_textNamed_51 : decode cX7_textNamed 51 = .ok (.iconst (-1), 1) := dk_2 (dk_at dksX7_textNamed_2 3 rfl rfl)
theorem dX7_textNamed_52 : decode cX7_textNamed 52 = .ok (.ireturn, 1) := dk_172 (dk_at dksX7_textNamed_2 4 rfl rfl)
abbrev cX7_needsNew : ByteArray := prog_32_method_24_code
abbrev yX7_needsNew : MethodName := { cls := "WornSkinModel", name := "needsNew", desc := "()Z" }
def dkwX7_needsNew_2 : List UInt8 := [4, 172]
abbrev dktX7_needsNew_2 : List UInt8 := dkwX7_needsNew_2 ++ []
def dkwX7_needsNew_1 : List UInt8 := [182, 1, 27, 155, 0, 9, 42, 6, 182, 0, 208, 172, 42, 42, 180, 0, 162, 181, 1, 30, 42, 182, 0, 215]
abbrev dktX7_needsNew_1 : List UInt8 := dkwX7_needsNew_1 ++ dktX7_needsNew_2
def dkwX7_needsNew_0 : List UInt8 := [42, 182, 1, 20, 153, 0, 9, 42, 4, 182, 0, 208, 172, 42, 4, 182, 1, 24, 156, 0, 11, 42, 4]
abbrev dktX7_needsNew_0 : List UInt8 := dkwX7_needsNew_0 ++ dktX7_needsNew_1
theorem dksX7_needsNew_0 : cX7_needsNew.data.toList.drop 0 = dktX7_needsNew_0 := by decide +kernel
theorem dksX7_needsNew_1 : cX7_needsNew.data.toList.drop 23 = dktX7_needsNew_1 := dk_seg dksX7_needsNew_0 23 rfl rfl
theorem dksX7_needsNew_2 : cX7_needsNew.data.toList.drop 47 = dktX7_needsNew_2 := dk_seg dksX7_needsNew_1 24 rfl rfl
theorem dX7_needsNew_0 : decode cX7_needsNew 0 = .ok (.aload_n 0, 1) := dk_42 (dk_at dksX7_needsNew_0 0 rfl rfl)
theorem dX7_needsNew_1 : decode cX7_needsNew 1 = .ok (.invokevirtual 276, 3) := dk_182 1 20 (dk_at dksX7_needsNew_0 1 rfl rfl)
theorem dX7_needsNew_4 : decode cX7_needsNew 4 = .ok (.ifCond .eq 9, 3) := dk_153 0 9 (dk_at dksX7_needsNew_0 4 rfl rfl)
theorem dX7_needsNew_7 : decode cX7_needsNew 7 = .ok (.aload_n 0, 1) := dk_42 (dk_at dksX7_needsNew_0 7 rfl rfl)
theorem dX7_needsNew_8 : decode cX7_needsNew 8 = .ok (.iconst 1, 1) := dk_4 (dk_at dksX7_needsNew_0 8 rfl rfl)
theorem dX7_needsNew_9 : decode cX7_needsNew 9 = .ok (.invokevirtual 208, 3) := dk_182 0 208 (dk_at dksX7_needsNew_0 9 rfl rfl)
theorem dX7_needsNew_12 : decode cX7_needsNew 12 = .ok (.ireturn, 1) := dk_172 (dk_at dksX7_needsNew_0 12 rfl rfl)
theorem dX7_needsNew_13 : decode cX7_needsNew 13 = .ok (.aload_n 0, 1) := dk_42 (dk_at dksX7_needsNew_0 13 rfl rfl)
theorem dX7_needsNew_14 : decode cX7_needsNew 14 = .ok (.iconst 1, 1) := dk_4 (dk_at dksX7_needsNew_0 14 rfl rfl)
theorem dX7_needsNew_15 : decode cX7_needsNew 15 = .ok (.invokevirtual 280, 3) := dk_182 1 24 (dk_at dksX7_needsNew_0 15 rfl rfl)
theorem dX7_needsNew_18 : decode cX7_needsNew 18 = .ok (.ifCond .ge 11, 3) := dk_156 0 11 (dk_at dksX7_needsNew_0 18 rfl rfl)
theorem dX7_needsNew_21 : decode cX7_needsNew 21 = .ok (.aload_n 0, 1) := dk_42 (dk_at dksX7_needsNew_0 21 rfl rfl)
theorem dX7_needsNew_22 : decode cX7_needsNew 22 = .ok (.iconst 1, 1) := dk_4 (dk_at dksX7_needsNew_0 22 rfl rfl)
theorem dX7_needsNew_23 : decode cX7_needsNew 23 = .ok (.invokevirtual 283, 3) := dk_182 1 27 (dk_at dksX7_needsNew_1 0 rfl rfl)
theorem dX7_needsNew_26 : decode cX7_needsNew 26 = .ok (.ifCond .lt 9, 3) := dk_155 0 9 (dk_at dksX7_needsNew_1 3 rfl rfl)
theorem dX7_needsNew_29 : decode cX7_needsNew 29 = .ok (.aload_n 0, 1) := dk_42 (dk_at dksX7_needsNew_1 6 rfl rfl)
theorem dX7_needsNew_30 : decode cX7_needsNew 30 = .ok (.iconst 3, 1) := dk_6 (dk_at dksX7_needsNew_1 7 rfl rfl)
theorem dX7_needsNew_31 : decode cX7_needsNew 31 = .ok (.invokevirtual 208, 3) := dk_182 0 208 (dk_at dksX7_needsNew_1 8 rfl rfl)
theorem dX7_needsNew_34 : decode cX7_needsNew 34 = .ok (.ireturn, 1) := dk_172 (dk_at dksX7_needsNew_1 11 rfl rfl)
theorem dX7_needsNew_35 : decode cX7_needsNew 35 = .ok (.aload_n 0, 1) := dk_42 (dk_at dksX7_needsNew_1 12 rfl rfl)
theorem dX7_needsNew_36 : decode cX7_needsNew 36 = .ok (.aload_n 0, 1) := dk_42 (dk_at dksX7_needsNew_1 13 rfl rfl)
theorem dX7_needsNew_37 : decode cX7_needsNew 37 = .ok (.getfield 162, 3) := dk_180 0 162 (dk_at dksX7_needsNew_1 14 rfl rfl)
theorem dX7_needsNew_40 : decode cX7_needsNew 40 = .ok (.putfield 286, 3) := dk_181 1 30 (dk_at dksX7_needsNew_1 17 rfl rfl)
theorem dX7_needsNew_43 : decode cX7_needsNew 43 = .ok (.aload_n 0, 1) := dk_42 (dk_at dksX7_needsNew_1 20 rfl rfl)
theorem dX7_needsNew_44 : decode cX7_needsNew 44 = .ok (.invokevirtual 215, 3) := dk_182 0 215 (dk_at dksX7_needsNew_1 21 rfl rfl)
theorem dX7_needsNew_47 : decode cX7_needsNew 47 = .ok (.iconst 1, 1) := dk_4 (dk_at dksX7_needsNew_2 0 rfl rfl)
theorem dX7_needsNew_48 : decode cX7_needsNew 48 = .ok (.ireturn, 1) := dk_172 (dk_at dksX7_needsNew_2 1 rfl rfl)
abbrev cX7_within : ByteArray := prog_32_method_3_code
abbrev yX7_within : MethodName := { cls := "WornSkinModel", name := "within", desc := "(III)Z" }
def dkwX7_within_0 : List UInt8 := [26, 27, 161, 0, 12, 26, 28, 163, 0, 7, 4, 167, 0, 4, 3, 172]
abbrev dktX7_within_0 : List UInt8 := dkwX7_within_0 ++ []
theorem dksX7_within_0 : cX7_within.data.toList.drop 0 = dktX7_within_0 := by decide +kernel
theorem dX7_within_0 : decode cX7_within 0 = .ok (.iload_n 0, 1) := dk_26 (dk_at dksX7_within_0 0 rfl rfl)
theorem dX7_within_1 : decode cX7_within 1 = .ok (.iload_n 1, 1) := dk_27 (dk_at dksX7_within_0 1 rfl rfl)
theorem dX7_within_2 : decode cX7_within 2 = .ok (.if_icmp .lt 12, 3) := dk_161 0 12 (dk_at dksX7_within_0 2 rfl rfl)
theorem dX7_within_5 : decode cX7_within 5 = .ok (.iload_n 0, 1) := dk_26 (dk_at dksX7_within_0 5 rfl rfl)
theorem dX7_within_6 : decode cX7_within 6 = .ok (.iload_n 2, 1) := dk_28 (dk_at dksX7_within_0 6 rfl rfl)
theorem dX7_within_7 : decode cX7_within 7 = .ok (.if_icmp .gt 7, 3) := dk_163 0 7 (dk_at dksX7_within_0 7 rfl rfl)
theorem dX7_within_10 : decode cX7_within 10 = .ok (.iconst 1, 1) := dk_4 (dk_at dksX7_within_0 10 rfl rfl)
theorem dX7_within_11 : decode cX7_within 11 = .ok (.goto 4, 3) := dk_167 0 4 (dk_at dksX7_within_0 11 rfl rfl)
theorem dX7_within_14 : decode cX7_within 14 = .ok (.iconst 0, 1) := dk_3 (dk_at dksX7_within_0 14 rfl rfl)
theorem dX7_within_15 : decode cX7_within 15 = .ok (.ireturn, 1) := dk_172 (dk_at dksX7_within_0 15 rfl rfl)
abbrev cX7_needsNumber : ByteArray := prog_32_method_21_code
abbrev yX7_needsNumber : MethodName := { cls := "WornSkinModel", name := "needsNumber", desc := "(II)Z" }
def dkwX7_needsNumber_1 : List UInt8 := [154, 0, 9, 42, 7, 182, 0, 208, 172, 42, 42, 180, 0, 166, 181, 1, 13, 42, 182, 0, 215, 4, 172]
abbrev dktX7_needsNumber_1 : List UInt8 := dkwX7_needsNumber_1 ++ []
def dkwX7_needsNumber_0 : List UInt8 := [42, 180, 0, 169, 5, 159, 0, 9, 42, 4, 182, 0, 208, 172, 42, 180, 0, 166, 27, 28, 184, 1, 9]
abbrev dktX7_needsNumber_0 : List UInt8 := dkwX7_needsNumber_0 ++ dktX7_needsNumber_1
theorem dksX7_needsNumber_0 : cX7_needsNumber.data.toList.drop 0 = dktX7_needsNumber_0 := by decide +kernel
theorem dksX7_needsNumber_1 : cX7_needsNumber.data.toList.drop 23 = dktX7_needsNumber_1 := dk_seg dksX7_needsNumber_0 23 rfl rfl
theorem dX7_needsNumber_0 : decode cX7_needsNumber 0 = .ok (.aload_n 0, 1) := dk_42 (dk_at dksX7_needsNumber_0 0 rfl rfl)
theorem dX7_needsNumber_1 : decode cX7_needsNumber 1 = .ok (.getfield 169, 3) := dk_180 0 169 (dk_at dksX7_needsNumber_0 1 rfl rfl)
theorem dX7_needsNumber_4 : decode cX7_needsNumber 4 = .ok (.iconst 2, 1) := dk_5 (dk_at dksX7_needsNumber_0 4 rfl rfl)
theorem dX7_needsNumber_5 : decode cX7_needsNumber 5 = .ok (.if_icmp .eq 9, 3) := dk_159 0 9 (dk_at dksX7_needsNumber_0 5 rfl rfl)
theorem dX7_needsNumber_8 : decode cX7_needsNumber 8 = .ok (.aload_n 0, 1) := dk_42 (dk_at dksX7_needsNumber_0 8 rfl rfl)
theorem dX7_needsNumber_9 : decode cX7_needsNumber 9 = .ok (.iconst 1, 1) := dk_4 (dk_at dksX7_needsNumber_0 9 rfl rfl)
theorem dX7_needsNumber_10 : decode cX7_needsNumber 10 = .ok (.invokevirtual 208, 3) := dk_182 0 208 (dk_at dksX7_needsNumber_0 10 rfl rfl)
theorem dX7_needsNumber_13 : decode cX7_needsNumber 13 = .ok (.ireturn, 1) := dk_172 (dk_at dksX7_needsNumber_0 13 rfl rfl)
theorem dX7_needsNumber_14 : decode cX7_needsNumber 14 = .ok (.aload_n 0, 1) := dk_42 (dk_at dksX7_needsNumber_0 14 rfl rfl)
theorem dX7_needsNumber_15 : decode cX7_needsNumber 15 = .ok (.getfield 166, 3) := dk_180 0 166 (dk_at dksX7_needsNumber_0 15 rfl rfl)
theorem dX7_needsNumber_18 : decode cX7_needsNumber 18 = .ok (.iload_n 1, 1) := dk_27 (dk_at dksX7_needsNumber_0 18 rfl rfl)
theorem dX7_needsNumber_19 : decode cX7_needsNumber 19 = .ok (.iload_n 2, 1) := dk_28 (dk_at dksX7_needsNumber_0 19 rfl rfl)
theorem dX7_needsNumber_20 : decode cX7_needsNumber 20 = .ok (.invokestatic 265, 3) := dk_184 1 9 (dk_at dksX7_needsNumber_0 20 rfl rfl)
theorem dX7_needsNumber_23 : decode cX7_needsNumber 23 = .ok (.ifCond .ne 9, 3) := dk_154 0 9 (dk_at dksX7_needsNumber_1 0 rfl rfl)
theorem dX7_needsNumber_26 : decode cX7_needsNumber 26 = .ok (.aload_n 0, 1) := dk_42 (dk_at dksX7_needsNumber_1 3 rfl rfl)
theorem dX7_needsNumber_27 : decode cX7_needsNumber 27 = .ok (.iconst 4, 1) := dk_7 (dk_at dksX7_needsNumber_1 4 rfl rfl)
theorem dX7_needsNumber_28 : decode cX7_needsNumber 28 = .ok (.invokevirtual 208, 3) := dk_182 0 208 (dk_at dksX7_needsNumber_1 5 rfl rfl)
theorem dX7_needsNumber_31 : decode cX7_needsNumber 31 = .ok (.ireturn, 1) := dk_172 (dk_at dksX7_needsNumber_1 8 rfl rfl)
theorem dX7_needsNumber_32 : decode cX7_needsNumber 32 = .ok (.aload_n 0, 1) := dk_42 (dk_at dksX7_needsNumber_1 9 rfl rfl)
theorem dX7_needsNumber_33 : decode cX7_needsNumber 33 = .ok (.aload_n 0, 1) := dk_42 (dk_at dksX7_needsNumber_1 10 rfl rfl)
theorem dX7_needsNumber_34 : decode cX7_needsNumber 34 = .ok (.getfield 166, 3) := dk_180 0 166 (dk_at dksX7_needsNumber_1 11 rfl rfl)
theorem dX7_needsNumber_37 : decode cX7_needsNumber 37 = .ok (.putfield 269, 3) := dk_181 1 13 (dk_at dksX7_needsNumber_1 14 rfl rfl)
theorem dX7_needsNumber_40 : decode cX7_needsNumber 40 = .ok (.aload_n 0, 1) := dk_42 (dk_at dksX7_needsNumber_1 17 rfl rfl)
theorem dX7_needsNumber_41 : decode cX7_needsNumber 41 = .ok (.invokevirtual 215, 3) := dk_182 0 215 (dk_at dksX7_needsNumber_1 18 rfl rfl)
theorem dX7_needsNumber_44 : decode cX7_needsNumber 44 = .ok (.iconst 1, 1) := dk_4 (dk_at dksX7_needsNumber_1 21 rfl rfl)
theorem dX7_needsNumber_45 : decode cX7_needsNumber 45 = .ok (.ireturn, 1) := dk_172 (dk_at dksX7_needsNumber_1 22 rfl rfl)
abbrev cX7_needsBoth : ByteArray := prog_32_method_22_code
abbrev yX7_needsBoth : MethodName := { cls := "WornSkinModel", name := "needsBoth", desc := "(JII)Z" }
def dkwX7_needsBoth_1 : List UInt8 := [182, 1, 16, 172]
abbrev dktX7_needsBoth_1 : List UInt8 := dkwX7_needsBoth_1 ++ []
def dkwX7_needsBoth_0 : List UInt8 := [42, 31, 182, 0, 200, 154, 0, 9, 42, 4, 182, 0, 208, 172, 42, 182, 0, 215, 42, 29, 21, 4]
abbrev dktX7_needsBoth_0 : List UInt8 := dkwX7_needsBoth_0 ++ dktX7_needsBoth_1
theorem dksX7_needsBoth_0 : cX7_needsBoth.data.toList.drop 0 = dktX7_needsBoth_0 := by decide +kernel
theorem dksX7_needsBoth_1 : cX7_needsBoth.data.toList.drop 22 = dktX7_needsBoth_1 := dk_seg dksX7_needsBoth_0 22 rfl rfl
theorem dX7_needsBoth_0 : decode cX7_needsBoth 0 = .ok (.aload_n 0, 1) := dk_42 (dk_at dksX7_needsBoth_0 0 rfl rfl)
theorem dX7_needsBoth_1 : decode cX7_needsBoth 1 = .ok (.lload_n 1, 1) := dk_31 (dk_at dksX7_needsBoth_0 1 rfl rfl)
theorem dX7_needsBoth_2 : decode cX7_needsBoth 2 = .ok (.invokevirtual 200, 3) := dk_182 0 200 (dk_at dksX7_needsBoth_0 2 rfl rfl)
theorem dX7_needsBoth_5 : decode cX7_needsBoth 5 = .ok (.ifCond .ne 9, 3) := dk_154 0 9 (dk_at dksX7_needsBoth_0 5 rfl rfl)
theorem dX7_needsBoth_8 : decode cX7_needsBoth 8 = .ok (.aload_n 0, 1) := dk_42 (dk_at dksX7_needsBoth_0 8 rfl rfl)
theorem dX7_needsBoth_9 : decode cX7_needsBoth 9 = .ok (.iconst 1, 1) := dk_4 (dk_at dksX7_needsBoth_0 9 rfl rfl)
theorem dX7_needsBoth_10 : decode cX7_needsBoth 10 = .ok (.invokevirtual 208, 3) := dk_182 0 208 (dk_at dksX7_needsBoth_0 10 rfl rfl)
theorem dX7_needsBoth_13 : decode cX7_needsBoth 13 = .ok (.ireturn, 1) := dk_172 (dk_at dksX7_needsBoth_0 13 rfl rfl)
theorem dX7_needsBoth_14 : decode cX7_needsBoth 14 = .ok (.aload_n 0, 1) := dk_42 (dk_at dksX7_needsBoth_0 14 rfl rfl)
theorem dX7_needsBoth_15 : decode cX7_needsBoth 15 = .ok (.invokevirtual 215, 3) := dk_182 0 215 (dk_at dksX7_needsBoth_0 15 rfl rfl)
theorem dX7_needsBoth_18 : decode cX7_needsBoth 18 = .ok (.aload_n 0, 1) := dk_42 (dk_at dksX7_needsBoth_0 18 rfl rfl)
theorem dX7_needsBoth_19 : decode cX7_needsBoth 19 = .ok (.iload_n 3, 1) := dk_29 (dk_at dksX7_needsBoth_0 19 rfl rfl)
theorem dX7_needsBoth_20 : decode cX7_needsBoth 20 = .ok (.iload 4, 2) := dk_21 4 (dk_at dksX7_needsBoth_0 20 rfl rfl)
theorem dX7_needsBoth_22 : decode cX7_needsBoth 22 = .ok (.invokevirtual 272, 3) := dk_182 1 16 (dk_at dksX7_needsBoth_1 0 rfl rfl)
theorem dX7_needsBoth_25 : decode cX7_needsBoth 25 = .ok (.ireturn, 1) := dk_172 (dk_at dksX7_needsBoth_1 3 rfl rfl)
abbrev cX7_isSign : ByteArray := prog_32_method_9_code
abbrev yX7_isSign : MethodName := { cls := "WornSkinModel", name := "isSign", desc := "(I)Z" }
def dkwX7_isSign_1 : List UInt8 := [167, 0, 4, 3, 172]
abbrev dktX7_isSign_1 : List UInt8 := dkwX7_isSign_1 ++ []
def dkwX7_isSign_0 : List UInt8 := [42, 180, 0, 169, 6, 160, 0, 20, 42, 180, 0, 7, 42, 180, 0, 159, 46, 27, 160, 0, 7, 4]
abbrev dktX7_isSign_0 : List UInt8 := dkwX7_isSign_0 ++ dktX7_isSign_1
theorem dksX7_isSign_0 : cX7_isSign.data.toList.drop 0 = dktX7_isSign_0 := by decide +kernel
theorem dksX7_isSign_1 : cX7_isSign.data.toList.drop 22 = dktX7_isSign_1 := dk_seg dksX7_isSign_0 22 rfl rfl
theorem dX7_isSign_0 : decode cX7_isSign 0 = .ok (.aload_n 0, 1) := dk_42 (dk_at dksX7_isSign_0 0 rfl rfl)
theorem dX7_isSign_1 : decode cX7_isSign 1 = .ok (.getfield 169, 3) := dk_180 0 169 (dk_at dksX7_isSign_0 1 rfl rfl)
theorem dX7_isSign_4 : decode cX7_isSign 4 = .ok (.iconst 3, 1) := dk_6 (dk_at dksX7_isSign_0 4 rfl rfl)
theorem dX7_isSign_5 : decode cX7_isSign 5 = .ok (.if_icmp .ne 20, 3) := dk_160 0 20 (dk_at dksX7_isSign_0 5 rfl rfl)
theorem dX7_isSign_8 : decode cX7_isSign 8 = .ok (.aload_n 0, 1) := dk_42 (dk_at dksX7_isSign_0 8 rfl rfl)
theorem dX7_isSign_9 : decode cX7_isSign 9 = .ok (.getfield 7, 3) := dk_180 0 7 (dk_at dksX7_isSign_0 9 rfl rfl)
theorem dX7_isSign_12 : decode cX7_isSign 12 = .ok (.aload_n 0, 1) := dk_42 (dk_at dksX7_isSign_0 12 rfl rfl)
theorem dX7_isSign_13 : decode cX7_isSign 13 = .ok (.getfield 159, 3) := dk_180 0 159 (dk_at dksX7_isSign_0 13 rfl rfl)
theorem dX7_isSign_16 : decode cX7_isSign 16 = .ok (.iaload, 1) := dk_46 (dk_at dksX7_isSign_0 16 rfl rfl)
theorem dX7_isSign_17 : decode cX7_isSign 17 = .ok (.iload_n 1, 1) := dk_27 (dk_at dksX7_isSign_0 17 rfl rfl)
theorem dX7_isSign_18 : decode cX7_isSign 18 = .ok (.if_icmp .ne 7, 3) := dk_160 0 7 (dk_at dksX7_isSign_0 18 rfl rfl)
theorem dX7_isSign_21 : decode cX7_isSign 21 = .ok (.iconst 1, 1) := dk_4 (dk_at dksX7_isSign_0 21 rfl rfl)
theorem dX7_isSign_22 : decode cX7_isSign 22 = .ok (.goto 4, 3) := dk_167 0 4 (dk_at dksX7_isSign_1 0 rfl rfl)
theorem dX7_isSign_25 : decode cX7_isSign 25 = .ok (.iconst 0, 1) := dk_3 (dk_at dksX7_isSign_1 3 rfl rfl)
theorem dX7_isSign_26 : decode cX7_isSign 26 = .ok (.ireturn, 1) := dk_172 (dk_at dksX7_isSign_1 4 rfl rfl)
abbrev cX7_closes : ByteArray := prog_32_method_23_code
abbrev yX7_closes : MethodName := { cls := "WornSkinModel", name := "closes", desc := "()Z" }
def dkwX7_closes_0 : List UInt8 := [42, 16, 59, 182, 0, 204, 154, 0, 9, 42, 4, 182, 0, 208, 172, 42, 182, 0, 215, 4, 172]
abbrev dktX7_closes_0 : List UInt8 := dkwX7_closes_0 ++ []
theorem dksX7_closes_0 : cX7_closes.data.toList.drop 0 = dktX7_closes_0 := by decide +kernel
theorem dX7_closes_0 : decode cX7_closes 0 = .ok (.aload_n 0, 1) := dk_42 (dk_at dksX7_closes_0 0 rfl rfl)
theorem dX7_closes_1 : decode cX7_closes 1 = .ok (.bipush 59, 2) := dk_16 59 (dk_at dksX7_closes_0 1 rfl rfl)
theorem dX7_closes_3 : decode cX7_closes 3 = .ok (.invokevirtual 204, 3) := dk_182 0 204 (dk_at dksX7_closes_0 3 rfl rfl)
theorem dX7_closes_6 : decode cX7_closes 6 = .ok (.ifCond .ne 9, 3) := dk_154 0 9 (dk_at dksX7_closes_0 6 rfl rfl)
theorem dX7_closes_9 : decode cX7_closes 9 = .ok (.aload_n 0, 1) := dk_42 (dk_at dksX7_closes_0 9 rfl rfl)
theorem dX7_closes_10 : decode cX7_closes 10 = .ok (.iconst 1, 1) := dk_4 (dk_at dksX7_closes_0 10 rfl rfl)
theorem dX7_closes_11 : decode cX7_closes 11 = .ok (.invokevirtual 208, 3) := dk_182 0 208 (dk_at dksX7_closes_0 11 rfl rfl)
theorem dX7_closes_14 : decode cX7_closes 14 = .ok (.ireturn, 1) := dk_172 (dk_at dksX7_closes_0 14 rfl rfl)
theorem dX7_closes_15 : decode cX7_closes 15 = .ok (.aload_n 0, 1) := dk_42 (dk_at dksX7_closes_0 15 rfl rfl)
theorem dX7_closes_16 : decode cX7_closes 16 = .ok (.invokevirtual 215, 3) := dk_182 0 215 (dk_at dksX7_closes_0 16 rfl rfl)
theorem dX7_closes_19 : decode cX7_closes 19 = .ok (.iconst 1, 1) := dk_4 (dk_at dksX7_closes_0 19 rfl rfl)
theorem dX7_closes_20 : decode cX7_closes 20 = .ok (.ireturn, 1) := dk_172 (dk_at dksX7_closes_0 20 rfl rfl)
abbrev cX7_readsSkin : ByteArray := prog_32_method_27_code
abbrev yX7_readsSkin : MethodName := { cls := "WornSkinModel", name := "readsSkin", desc := "()Z" }
def dkwX7_readsSkin_4 : List UInt8 := [42, 180, 1, 30, 80, 42, 180, 0, 13, 6, 92, 46, 4, 96, 79, 42, 182, 1, 40, 172]
abbrev dktX7_readsSkin_4 : List UInt8 := dkwX7_readsSkin_4 ++ []
def dkwX7_readsSkin_3 : List UInt8 := [3, 172, 42, 180, 0, 26, 27, 42, 180, 1, 13, 79, 42, 180, 0, 29, 27, 3, 79, 42, 180, 0, 16, 27]
abbrev dktX7_readsSkin_3 : List UInt8 := dkwX7_readsSkin_3 ++ dktX7_readsSkin_4
def dkwX7_readsSkin_2 : List UInt8 := [172, 42, 180, 0, 23, 27, 42, 180, 1, 13, 79, 42, 20, 0, 235, 4, 16, 30, 182, 1, 36, 154, 0, 5]
abbrev dktX7_readsSkin_2 : List UInt8 := dkwX7_readsSkin_2 ++ dktX7_readsSkin_3
def dkwX7_readsSkin_1 : List UInt8 := [182, 0, 215, 42, 182, 1, 33, 153, 0, 16, 42, 20, 0, 233, 4, 16, 6, 182, 1, 36, 154, 0, 5, 3]
abbrev dktX7_readsSkin_1 : List UInt8 := dkwX7_readsSkin_1 ++ dktX7_readsSkin_2
def dkwX7_readsSkin_0 : List UInt8 := [6, 42, 180, 0, 13, 6, 46, 96, 60, 27, 16, 6, 160, 0, 9, 42, 8, 182, 0, 208, 172, 42]
abbrev dktX7_readsSkin_0 : List UInt8 := dkwX7_readsSkin_0 ++ dktX7_readsSkin_1
theorem dksX7_readsSkin_0 : cX7_readsSkin.data.toList.drop 0 = dktX7_readsSkin_0 := by decide +kernel
theorem dksX7_readsSkin_1 : cX7_readsSkin.data.toList.drop 22 = dktX7_readsSkin_1 := dk_seg dksX7_readsSkin_0 22 rfl rfl
theorem dksX7_readsSkin_2 : cX7_readsSkin.data.toList.drop 46 = dktX7_readsSkin_2 := dk_seg dksX7_readsSkin_1 24 rfl rfl
theorem dksX7_readsSkin_3 : cX7_readsSkin.data.toList.drop 70 = dktX7_readsSkin_3 := dk_seg dksX7_readsSkin_2 24 rfl rfl
theorem dksX7_readsSkin_4 : cX7_readsSkin.data.toList.drop 94 = dktX7_readsSkin_4 := dk_seg dksX7_readsSkin_3 24 rfl rfl
theorem dX7_readsSkin_0 : decode cX7_readsSkin 0 = .ok (.iconst 3, 1) := dk_6 (dk_at dksX7_readsSkin_0 0 rfl rfl)
theorem dX7_readsSkin_1 : decode cX7_readsSkin 1 = .ok (.aload_n 0, 1) := dk_42 (dk_at dksX7_readsSkin_0 1 rfl rfl)
theorem dX7_readsSkin_2 : decode cX7_readsSkin 2 = .ok (.getfield 13, 3) := dk_180 0 13 (dk_at dksX7_readsSkin_0 2 rfl rfl)
theorem dX7_readsSkin_5 : decode cX7_readsSkin 5 = .ok (.iconst 3, 1) := dk_6 (dk_at dksX7_readsSkin_0 5 rfl rfl)
theorem dX7_readsSkin_6 : decode cX7_readsSkin 6 = .ok (.iaload, 1) := dk_46 (dk_at dksX7_readsSkin_0 6 rfl rfl)
theorem dX7_readsSkin_7 : decode cX7_readsSkin 7 = .ok (.iadd, 1) := dk_96 (dk_at dksX7_readsSkin_0 7 rfl rfl)
theorem dX7_readsSkin_8 : decode cX7_readsSkin 8 = .ok (.istore_n 1, 1) := dk_60 (dk_at dksX7_readsSkin_0 8 rfl rfl)
theorem dX7_readsSkin_9 : decode cX7_readsSkin 9 = .ok (.iload_n 1, 1) := dk_27 (dk_at dksX7_readsSkin_0 9 rfl rfl)
theorem dX7_readsSkin_10 : decode cX7_readsSkin 10 = .ok (.bipush 6, 2) := dk_16 6 (dk_at dksX7_readsSkin_0 10 rfl rfl)
theorem dX7_readsSkin_12 : decode cX7_readsSkin 12 = .ok (.if_icmp .ne 9, 3) := dk_160 0 9 (dk_at dksX7_readsSkin_0 12 rfl rfl)
theorem dX7_readsSkin_15 : decode cX7_readsSkin 15 = .ok (.aload_n 0, 1) := dk_42 (dk_at dksX7_readsSkin_0 15 rfl rfl)
theorem dX7_readsSkin_16 : decode cX7_readsSkin 16 = .ok (.iconst 5, 1) := dk_8 (dk_at dksX7_readsSkin_0 16 rfl rfl)
theorem dX7_readsSkin_17 : decode cX7_readsSkin 17 = .ok (.invokevirtual 208, 3) := dk_182 0 208 (dk_at dksX7_readsSkin_0 17 rfl rfl)
theorem dX7_readsSkin_20 : decode cX7_readsSkin 20 = .ok (.ireturn, 1) := dk_172 (dk_at dksX7_readsSkin_0 20 rfl rfl)
theorem dX7_readsSkin_21 : decode cX7_readsSkin 21 = .ok (.aload_n 0, 1) := dk_42 (dk_at dksX7_readsSkin_0 21 rfl rfl)
theorem dX7_readsSkin_22 : decode cX7_readsSkin 22 = .ok (.invokevirtual 215, 3) := dk_182 0 215 (dk_at dksX7_readsSkin_1 0 rfl rfl)
theorem dX7_readsSkin_25 : decode cX7_readsSkin 25 = .ok (.aload_n 0, 1) := dk_42 (dk_at dksX7_readsSkin_1 3 rfl rfl)
theorem dX7_readsSkin_26 : decode cX7_readsSkin 26 = .ok (.invokevirtual 289, 3) := dk_182 1 33 (dk_at dksX7_readsSkin_1 4 rfl rfl)
theorem dX7_readsSkin_29 : decode cX7_readsSkin 29 = .ok (.ifCond .eq 16, 3) := dk_153 0 16 (dk_at dksX7_readsSkin_1 7 rfl rfl)
theorem dX7_readsSkin_32 : decode cX7_readsSkin 32 = .ok (.aload_n 0, 1) := dk_42 (dk_at dksX7_readsSkin_1 10 rfl rfl)
theorem dX7_readsSkin_33 : decode cX7_readsSkin 33 = .ok (.ldc2_w 233, 3) := dk_20 0 233 (dk_at dksX7_readsSkin_1 11 rfl rfl)
theorem dX7_readsSkin_36 : decode cX7_readsSkin 36 = .ok (.iconst 1, 1) := dk_4 (dk_at dksX7_readsSkin_1 14 rfl rfl)
theorem dX7_readsSkin_37 : decode cX7_readsSkin 37 = .ok (.bipush 6, 2) := dk_16 6 (dk_at dksX7_readsSkin_1 15 rfl rfl)
theorem dX7_readsSkin_39 : decode cX7_readsSkin 39 = .ok (.invokevirtual 292, 3) := dk_182 1 36 (dk_at dksX7_readsSkin_1 17 rfl rfl)
theorem dX7_readsSkin_42 : decode cX7_readsSkin 42 = .ok (.ifCond .ne 5, 3) := dk_154 0 5 (dk_at dksX7_readsSkin_1 20 rfl rfl)
theorem dX7_readsSkin_45 : decode cX7_readsSkin 45 = .ok (.iconst 0, 1) := dk_3 (dk_at dksX7_readsSkin_1 23 rfl rfl)
theorem dX7_readsSkin_46 : decode cX7_readsSkin 46 = .ok (.ireturn, 1) := dk_172 (dk_at dksX7_readsSkin_2 0 rfl rfl)
theorem dX7_readsSkin_47 : decode cX7_readsSkin 47 = .ok (.aload_n 0, 1) := dk_42 (dk_at dksX7_readsSkin_2 1 rfl rfl)
theorem dX7_readsSkin_48 : decode cX7_readsSkin 48 = .ok (.getfield 23, 3) := dk_180 0 23 (dk_at dksX7_readsSkin_2 2 rfl rfl)
theorem dX7_readsSkin_51 : decode cX7_readsSkin 51 = .ok (.iload_n 1, 1) := dk_27 (dk_at dksX7_readsSkin_2 5 rfl rfl)
theorem dX7_readsSkin_52 : decode cX7_readsSkin 52 = .ok (.aload_n 0, 1) := dk_42 (dk_at dksX7_readsSkin_2 6 rfl rfl)
theorem dX7_readsSkin_53 : decode cX7_readsSkin 53 = .ok (.getfield 269, 3) := dk_180 1 13 (dk_at dksX7_readsSkin_2 7 rfl rfl)
theorem dX7_readsSkin_56 : decode cX7_readsSkin 56 = .ok (.iastore, 1) := dk_79 (dk_at dksX7_readsSkin_2 10 rfl rfl)
theorem dX7_readsSkin_57 : decode cX7_readsSkin 57 = .ok (.aload_n 0, 1) := dk_42 (dk_at dksX7_readsSkin_2 11 rfl rfl)
theorem dX7_readsSkin_58 : decode cX7_readsSkin 58 = .ok (.ldc2_w 235, 3) := dk_20 0 235 (dk_at dksX7_readsSkin_2 12 rfl rfl)
theorem dX7_readsSkin_61 : decode cX7_readsSkin 61 = .ok (.iconst 1, 1) := dk_4 (dk_at dksX7_readsSkin_2 15 rfl rfl)
theorem dX7_readsSkin_62 : decode cX7_readsSkin 62 = .ok (.bipush 30, 2) := dk_16 30 (dk_at dksX7_readsSkin_2 16 rfl rfl)
theorem dX7_readsSkin_64 : decode cX7_readsSkin 64 = .ok (.invokevirtual 292, 3) := dk_182 1 36 (dk_at dksX7_readsSkin_2 18 rfl rfl)
theorem dX7_readsSkin_67 : decode cX7_readsSkin 67 = .ok (.ifCond .ne 5, 3) := dk_154 0 5 (dk_at dksX7_readsSkin_2 21 rfl rfl)
theorem dX7_readsSkin_70 : decode cX7_readsSkin 70 = .ok (.iconst 0, 1) := dk_3 (dk_at dksX7_readsSkin_3 0 rfl rfl)
theorem dX7_readsSkin_71 : decode cX7_readsSkin 71 = .ok (.ireturn, 1) := dk_172 (dk_at dksX7_readsSkin_3 1 rfl rfl)
theorem dX7_readsSkin_72 : decode cX7_readsSkin 72 = .ok (.aload_n 0, 1) := dk_42 (dk_at dksX7_readsSkin_3 2 rfl rfl)
theorem dX7_readsSkin_73 : decode cX7_readsSkin 73 = .ok (.getfield 26, 3) := dk_180 0 26 (dk_at dksX7_readsSkin_3 3 rfl rfl)
theorem dX7_readsSkin_76 : decode cX7_readsSkin 76 = .ok (.iload_n 1, 1) := dk_27 (dk_at dksX7_readsSkin_3 6 rfl rfl)
theorem dX7_readsSkin_77 : decode cX7_readsSkin 77 = .ok (.aload_n 0, 1) := dk_42 (dk_at dksX7_readsSkin_3 7 rfl rfl)
theorem dX7_readsSkin_78 : decode cX7_readsSkin 78 = .ok (.getfield 269, 3) := dk_180 1 13 (dk_at dksX7_readsSkin_3 8 rfl rfl)
theorem dX7_readsSkin_81 : decode cX7_readsSkin 81 = .ok (.iastore, 1) := dk_79 (dk_at dksX7_readsSkin_3 11 rfl rfl)
theorem dX7_readsSkin_82 : decode cX7_readsSkin 82 = .ok (.aload_n 0, 1) := dk_42 (dk_at dksX7_readsSkin_3 12 rfl rfl)
theorem dX7_readsSkin_83 : decode cX7_readsSkin 83 = .ok (.getfield 29, 3) := dk_180 0 29 (dk_at dksX7_readsSkin_3 13 rfl rfl)
theorem dX7_readsSkin_86 : decode cX7_readsSkin 86 = .ok (.iload_n 1, 1) := dk_27 (dk_at dksX7_readsSkin_3 16 rfl rfl)
theorem dX7_readsSkin_87 : decode cX7_readsSkin 87 = .ok (.iconst 0, 1) := dk_3 (dk_at dksX7_readsSkin_3 17 rfl rfl)
theorem dX7_readsSkin_88 : decode cX7_readsSkin 88 = .ok (.iastore, 1) := dk_79 (dk_at dksX7_readsSkin_3 18 rfl rfl)
theorem dX7_readsSkin_89 : decode cX7_readsSkin 89 = .ok (.aload_n 0, 1) := dk_42 (dk_at dksX7_readsSkin_3 19 rfl rfl)
theorem dX7_readsSkin_90 : decode cX7_readsSkin 90 = .ok (.getfield 16, 3) := dk_180 0 16 (dk_at dksX7_readsSkin_3 20 rfl rfl)
theorem dX7_readsSkin_93 : decode cX7_readsSkin 93 = .ok (.iload_n 1, 1) := dk_27 (dk_at dksX7_readsSkin_3 23 rfl rfl)
theorem dX7_readsSkin_94 : decode cX7_readsSkin 94 = .ok (.aload_n 0, 1) := dk_42 (dk_at dksX7_readsSkin_4 0 rfl rfl)
theorem dX7_readsSkin_95 : decode cX7_readsSkin 95 = .ok (.getfield 286, 3) := dk_180 1 30 (dk_at dksX7_readsSkin_4 1 rfl rfl)
theorem dX7_readsSkin_98 : decode cX7_readsSkin 98 = .ok (.lastore, 1) := dk_80 (dk_at dksX7_readsSkin_4 4 rfl rfl)
theorem dX7_readsSkin_99 : decode cX7_readsSkin 99 = .ok (.aload_n 0, 1) := dk_42 (dk_at dksX7_readsSkin_4 5 rfl rfl)
theorem dX7_readsSkin_100 : decode cX7_readsSkin 100 = .ok (.getfield 13, 3) := dk_180 0 13 (dk_at dksX7_readsSkin_4 6 rfl rfl)
theorem dX7_readsSkin_103 : decode cX7_readsSkin 103 = .ok (.iconst 3, 1) := dk_6 (dk_at dksX7_readsSkin_4 9 rfl rfl)
theorem dX7_readsSkin_104 : decode cX7_readsSkin 104 = .ok (.dup2, 1) := dk_92 (dk_at dksX7_readsSkin_4 10 rfl rfl)
theorem dX7_readsSkin_105 : decode cX7_readsSkin 105 = .ok (.iaload, 1) := dk_46 (dk_at dksX7_readsSkin_4 11 rfl rfl)
theorem dX7_readsSkin_106 : decode cX7_readsSkin 106 = .ok (.iconst 1, 1) := dk_4 (dk_at dksX7_readsSkin_4 12 rfl rfl)
theorem dX7_readsSkin_107 : decode cX7_readsSkin 107 = .ok (.iadd, 1) := dk_96 (dk_at dksX7_readsSkin_4 13 rfl rfl)
theorem dX7_readsSkin_108 : decode cX7_readsSkin 108 = .ok (.iastore, 1) := dk_79 (dk_at dksX7_readsSkin_4 14 rfl rfl)
theorem dX7_readsSkin_109 : decode cX7_readsSkin 109 = .ok (.aload_n 0, 1) := dk_42 (dk_at dksX7_readsSkin_4 15 rfl rfl)
theorem dX7_readsSkin_110 : decode cX7_readsSkin 110 = .ok (.invokevirtual 296, 3) := dk_182 1 40 (dk_at dksX7_readsSkin_4 16 rfl rfl)
theorem dX7_readsSkin_113 : decode cX7_readsSkin 113 = .ok (.ireturn, 1) := dk_172 (dk_at dksX7_readsSkin_4 19 rfl rfl)
abbrev cX7_needsSkin : ByteArray := prog_32_method_25_code
abbrev yX7_needsSkin : MethodName := { cls := "WornSkinModel", name := "needsSkin", desc := "(I)Z" }
def dkwX7_needsSkin_1 : List UInt8 := [180, 1, 13, 156, 0, 9, 42, 5, 182, 0, 208, 172, 42, 182, 0, 215, 4, 172]
abbrev dktX7_needsSkin_1 : List UInt8 := dkwX7_needsSkin_1 ++ []
def dkwX7_needsSkin_0 : List UInt8 := [42, 182, 1, 20, 153, 0, 9, 42, 4, 182, 0, 208, 172, 42, 42, 27, 182, 1, 24, 181, 1, 13, 42]
abbrev dktX7_needsSkin_0 : List UInt8 := dkwX7_needsSkin_0 ++ dktX7_needsSkin_1
theorem dksX7_needsSkin_0 : cX7_needsSkin.data.toList.drop 0 = dktX7_needsSkin_0 := by decide +kernel
theorem dksX7_needsSkin_1 : cX7_needsSkin.data.toList.drop 23 = dktX7_needsSkin_1 := dk_seg dksX7_needsSkin_0 23 rfl rfl
theorem dX7_needsSkin_0 : decode cX7_needsSkin 0 = .ok (.aload_n 0, 1) := dk_42 (dk_at dksX7_needsSkin_0 0 rfl rfl)
theorem dX7_needsSkin_1 : decode cX7_needsSkin 1 = .ok (.invokevirtual 276, 3) := dk_182 1 20 (dk_at dksX7_needsSkin_0 1 rfl rfl)
theorem dX7_needsSkin_4 : decode cX7_needsSkin 4 = .ok (.ifCond .eq 9, 3) := dk_153 0 9 (dk_at dksX7_needsSkin_0 4 rfl rfl)
theorem dX7_needsSkin_7 : decode cX7_needsSkin 7 = .ok (.aload_n 0, 1) := dk_42 (dk_at dksX7_needsSkin_0 7 rfl rfl)
theorem dX7_needsSkin_8 : decode cX7_needsSkin 8 = .ok (.iconst 1, 1) := dk_4 (dk_at dksX7_needsSkin_0 8 rfl rfl)
theorem dX7_needsSkin_9 : decode cX7_needsSkin 9 = .ok (.invokevirtual 208, 3) := dk_182 0 208 (dk_at dksX7_needsSkin_0 9 rfl rfl)
theorem dX7_needsSkin_12 : decode cX7_needsSkin 12 = .ok (.ireturn, 1) := dk_172 (dk_at dksX7_needsSkin_0 12 rfl rfl)
theorem dX7_needsSkin_13 : decode cX7_needsSkin 13 = .ok (.aload_n 0, 1) := dk_42 (dk_at dksX7_needsSkin_0 13 rfl rfl)
theorem dX7_needsSkin_14 : decode cX7_needsSkin 14 = .ok (.aload_n 0, 1) := dk_42 (dk_at dksX7_needsSkin_0 14 rfl rfl)
theorem dX7_needsSkin_15 : decode cX7_needsSkin 15 = .ok (.iload_n 1, 1) := dk_27 (dk_at dksX7_needsSkin_0 15 rfl rfl)
theorem dX7_needsSkin_16 : decode cX7_needsSkin 16 = .ok (.invokevirtual 280, 3) := dk_182 1 24 (dk_at dksX7_needsSkin_0 16 rfl rfl)
theorem dX7_needsSkin_19 : decode cX7_needsSkin 19 = .ok (.putfield 269, 3) := dk_181 1 13 (dk_at dksX7_needsSkin_0 19 rfl rfl)
theorem dX7_needsSkin_22 : decode cX7_needsSkin 22 = .ok (.aload_n 0, 1) := dk_42 (dk_at dksX7_needsSkin_0 22 rfl rfl)
theorem dX7_needsSkin_23 : decode cX7_needsSkin 23 = .ok (.getfield 269, 3) := dk_180 1 13 (dk_at dksX7_needsSkin_1 0 rfl rfl)
theorem dX7_needsSkin_26 : decode cX7_needsSkin 26 = .ok (.ifCond .ge 9, 3) := dk_156 0 9 (dk_at dksX7_needsSkin_1 3 rfl rfl)
theorem dX7_needsSkin_29 : decode cX7_needsSkin 29 = .ok (.aload_n 0, 1) := dk_42 (dk_at dksX7_needsSkin_1 6 rfl rfl)
theorem dX7_needsSkin_30 : decode cX7_needsSkin 30 = .ok (.iconst 2, 1) := dk_5 (dk_at dksX7_needsSkin_1 7 rfl rfl)
theorem dX7_needsSkin_31 : decode cX7_needsSkin 31 = .ok (.invokevirtual 208, 3) := dk_182 0 208 (dk_at dksX7_needsSkin_1 8 rfl rfl)
theorem dX7_needsSkin_34 : decode cX7_needsSkin 34 = .ok (.ireturn, 1) := dk_172 (dk_at dksX7_needsSkin_1 11 rfl rfl)
theorem dX7_needsSkin_35 : decode cX7_needsSkin 35 = .ok (.aload_n 0, 1) := dk_42 (dk_at dksX7_needsSkin_1 12 rfl rfl)
theorem dX7_needsSkin_36 : decode cX7_needsSkin 36 = .ok (.invokevirtual 215, 3) := dk_182 0 215 (dk_at dksX7_needsSkin_1 13 rfl rfl)
theorem dX7_needsSkin_39 : decode cX7_needsSkin 39 = .ok (.iconst 1, 1) := dk_4 (dk_at dksX7_needsSkin_1 16 rfl rfl)
theorem dX7_needsSkin_40 : decode cX7_needsSkin 40 = .ok (.ireturn, 1) := dk_172 (dk_at dksX7_needsSkin_1 17 rfl rfl)
abbrev cX7_readsHole : ByteArray := prog_32_method_28_code
abbrev yX7_readsHole : MethodName := { cls := "WornSkinModel", name := "readsHole", desc := "()Z" }
def dkwX7_readsHole_4 : List UInt8 := [42, 182, 0, 215, 42, 182, 1, 40, 172]
abbrev dktX7_readsHole_4 : List UInt8 := dkwX7_readsHole_4 ++ []
def dkwX7_readsHole_3 : List UInt8 := [160, 0, 9, 42, 6, 182, 0, 208, 172, 42, 180, 0, 29, 27, 92, 46, 4, 42, 180, 0, 166, 120, 128, 79]
abbrev dktX7_readsHole_3 : List UInt8 := dkwX7_readsHole_3 ++ dktX7_readsHole_4
def dkwX7_readsHole_2 : List UInt8 := [161, 0, 9, 42, 7, 182, 0, 208, 172, 42, 180, 0, 29, 27, 46, 42, 180, 0, 166, 122, 4, 126, 4]
abbrev dktX7_readsHole_2 : List UInt8 := dkwX7_readsHole_2 ++ dktX7_readsHole_3
def dkwX7_readsHole_1 : List UInt8 := [180, 0, 169, 5, 159, 0, 9, 42, 4, 182, 0, 208, 172, 42, 180, 0, 166, 42, 180, 0, 23, 27, 46]
abbrev dktX7_readsHole_1 : List UInt8 := dkwX7_readsHole_1 ++ dktX7_readsHole_2
def dkwX7_readsHole_0 : List UInt8 := [42, 182, 0, 215, 42, 4, 182, 1, 43, 154, 0, 5, 3, 172, 6, 42, 180, 1, 13, 96, 60, 42]
abbrev dktX7_readsHole_0 : List UInt8 := dkwX7_readsHole_0 ++ dktX7_readsHole_1
theorem dksX7_readsHole_0 : cX7_readsHole.data.toList.drop 0 = dktX7_readsHole_0 := by decide +kernel
theorem dksX7_readsHole_1 : cX7_readsHole.data.toList.drop 22 = dktX7_readsHole_1 := dk_seg dksX7_readsHole_0 22 rfl rfl
theorem dksX7_readsHole_2 : cX7_readsHole.data.toList.drop 45 = dktX7_readsHole_2 := dk_seg dksX7_readsHole_1 23 rfl rfl
theorem dksX7_readsHole_3 : cX7_readsHole.data.toList.drop 68 = dktX7_readsHole_3 := dk_seg dksX7_readsHole_2 23 rfl rfl
theorem dksX7_readsHole_4 : cX7_readsHole.data.toList.drop 92 = dktX7_readsHole_4 := dk_seg dksX7_readsHole_3 24 rfl rfl
theorem dX7_readsHole_0 : decode cX7_readsHole 0 = .ok (.aload_n 0, 1) := dk_42 (dk_at dksX7_readsHole_0 0 rfl rfl)
theorem dX7_readsHole_1 : decode cX7_readsHole 1 = .ok (.invokevirtual 215, 3) := dk_182 0 215 (dk_at dksX7_readsHole_0 1 rfl rfl)
theorem dX7_readsHole_4 : decode cX7_readsHole 4 = .ok (.aload_n 0, 1) := dk_42 (dk_at dksX7_readsHole_0 4 rfl rfl)
theorem dX7_readsHole_5 : decode cX7_readsHole 5 = .ok (.iconst 1, 1) := dk_4 (dk_at dksX7_readsHole_0 5 rfl rfl)
theorem dX7_readsHole_6 : decode cX7_readsHole 6 = .ok (.invokevirtual 299, 3) := dk_182 1 43 (dk_at dksX7_readsHole_0 6 rfl rfl)
theorem dX7_readsHole_9 : decode cX7_readsHole 9 = .ok (.ifCond .ne 5, 3) := dk_154 0 5 (dk_at dksX7_readsHole_0 9 rfl rfl)
theorem dX7_readsHole_12 : decode cX7_readsHole 12 = .ok (.iconst 0, 1) := dk_3 (dk_at dksX7_readsHole_0 12 rfl rfl)
theorem dX7_readsHole_13 : decode cX7_readsHole 13 = .ok (.ireturn, 1) := dk_172 (dk_at dksX7_readsHole_0 13 rfl rfl)
theorem dX7_readsHole_14 : decode cX7_readsHole 14 = .ok (.iconst 3, 1) := dk_6 (dk_at dksX7_readsHole_0 14 rfl rfl)
theorem dX7_readsHole_15 : decode cX7_readsHole 15 = .ok (.aload_n 0, 1) := dk_42 (dk_at dksX7_readsHole_0 15 rfl rfl)
theorem dX7_readsHole_16 : decode cX7_readsHole 16 = .ok (.getfield 269, 3) := dk_180 1 13 (dk_at dksX7_readsHole_0 16 rfl rfl)
theorem dX7_readsHole_19 : decode cX7_readsHole 19 = .ok (.iadd, 1) := dk_96 (dk_at dksX7_readsHole_0 19 rfl rfl)
theorem dX7_readsHole_20 : decode cX7_readsHole 20 = .ok (.istore_n 1, 1) := dk_60 (dk_at dksX7_readsHole_0 20 rfl rfl)
theorem dX7_readsHole_21 : decode cX7_readsHole 21 = .ok (.aload_n 0, 1) := dk_42 (dk_at dksX7_readsHole_0 21 rfl rfl)
theorem dX7_readsHole_22 : decode cX7_readsHole 22 = .ok (.getfield 169, 3) := dk_180 0 169 (dk_at dksX7_readsHole_1 0 rfl rfl)
theorem dX7_readsHole_25 : decode cX7_readsHole 25 = .ok (.iconst 2, 1) := dk_5 (dk_at dksX7_readsHole_1 3 rfl rfl)
theorem dX7_readsHole_26 : decode cX7_readsHole 26 = .ok (.if_icmp .eq 9, 3) := dk_159 0 9 (dk_at dksX7_readsHole_1 4 rfl rfl)
theorem dX7_readsHole_29 : decode cX7_readsHole 29 = .ok (.aload_n 0, 1) := dk_42 (dk_at dksX7_readsHole_1 7 rfl rfl)
theorem dX7_readsHole_30 : decode cX7_readsHole 30 = .ok (.iconst 1, 1) := dk_4 (dk_at dksX7_readsHole_1 8 rfl rfl)
theorem dX7_readsHole_31 : decode cX7_readsHole 31 = .ok (.invokevirtual 208, 3) := dk_182 0 208 (dk_at dksX7_readsHole_1 9 rfl rfl)
theorem dX7_readsHole_34 : decode cX7_readsHole 34 = .ok (.ireturn, 1) := dk_172 (dk_at dksX7_readsHole_1 12 rfl rfl)
theorem dX7_readsHole_35 : decode cX7_readsHole 35 = .ok (.aload_n 0, 1) := dk_42 (dk_at dksX7_readsHole_1 13 rfl rfl)
theorem dX7_readsHole_36 : decode cX7_readsHole 36 = .ok (.getfield 166, 3) := dk_180 0 166 (dk_at dksX7_readsHole_1 14 rfl rfl)
theorem dX7_readsHole_39 : decode cX7_readsHole 39 = .ok (.aload_n 0, 1) := dk_42 (dk_at dksX7_readsHole_1 17 rfl rfl)
theorem dX7_readsHole_40 : decode cX7_readsHole 40 = .ok (.getfield 23, 3) := dk_180 0 23 (dk_at dksX7_readsHole_1 18 rfl rfl)
theorem dX7_readsHole_43 : decode cX7_readsHole 43 = .ok (.iload_n 1, 1) := dk_27 (dk_at dksX7_readsHole_1 21 rfl rfl)
theorem dX7_readsHole_44 : decode cX7_readsHole 44 = .ok (.iaload, 1) := dk_46 (dk_at dksX7_readsHole_1 22 rfl rfl)
theorem dX7_readsHole_45 : decode cX7_readsHole 45 = .ok (.if_icmp .lt 9, 3) := dk_161 0 9 (dk_at dksX7_readsHole_2 0 rfl rfl)
theorem dX7_readsHole_48 : decode cX7_readsHole 48 = .ok (.aload_n 0, 1) := dk_42 (dk_at dksX7_readsHole_2 3 rfl rfl)
theorem dX7_readsHole_49 : decode cX7_readsHole 49 = .ok (.iconst 4, 1) := dk_7 (dk_at dksX7_readsHole_2 4 rfl rfl)
theorem dX7_readsHole_50 : decode cX7_readsHole 50 = .ok (.invokevirtual 208, 3) := dk_182 0 208 (dk_at dksX7_readsHole_2 5 rfl rfl)
theorem dX7_readsHole_53 : decode cX7_readsHole 53 = .ok (.ireturn, 1) := dk_172 (dk_at dksX7_readsHole_2 8 rfl rfl)
theorem dX7_readsHole_54 : decode cX7_readsHole 54 = .ok (.aload_n 0, 1) := dk_42 (dk_at dksX7_readsHole_2 9 rfl rfl)
theorem dX7_readsHole_55 : decode cX7_readsHole 55 = .ok (.getfield 29, 3) := dk_180 0 29 (dk_at dksX7_readsHole_2 10 rfl rfl)
theorem dX7_readsHole_58 : decode cX7_readsHole 58 = .ok (.iload_n 1, 1) := dk_27 (dk_at dksX7_readsHole_2 13 rfl rfl)
theorem dX7_readsHole_59 : decode cX7_readsHole 59 = .ok (.iaload, 1) := dk_46 (dk_at dksX7_readsHole_2 14 rfl rfl)
theorem dX7_readsHole_60 : decode cX7_readsHole 60 = .ok (.aload_n 0, 1) := dk_42 (dk_at dksX7_readsHole_2 15 rfl rfl)
theorem dX7_readsHole_61 : decode cX7_readsHole 61 = .ok (.getfield 166, 3) := dk_180 0 166 (dk_at dksX7_readsHole_2 16 rfl rfl)
theorem dX7_readsHole_64 : decode cX7_readsHole 64 = .ok (.ishr, 1) := dk_122 (dk_at dksX7_readsHole_2 19 rfl rfl)
theorem dX7_readsHole_65 : decode cX7_readsHole 65 = .ok (.iconst 1, 1) := dk_4 (dk_at dksX7_readsHole_2 20 rfl rfl)
theorem dX7_readsHole_66 : decode cX7_readsHole 66 = .ok (.iand, 1) := dk_126 (dk_at dksX7_readsHole_2 21 rfl rfl)
theorem dX7_readsHole_67 : decode cX7_readsHole 67 = .ok (.iconst 1, 1) := dk_4 (dk_at dksX7_readsHole_2 22 rfl rfl)
theorem dX7_readsHole_68 : decode cX7_readsHole 68 = .ok (.if_icmp .ne 9, 3) := dk_160 0 9 (dk_at dksX7_readsHole_3 0 rfl rfl)
theorem dX7_readsHole_71 : decode cX7_readsHole 71 = .ok (.aload_n 0, 1) := dk_42 (dk_at dksX7_readsHole_3 3 rfl rfl)
theorem dX7_readsHole_72 : decode cX7_readsHole 72 = .ok (.iconst 3, 1) := dk_6 (dk_at dksX7_readsHole_3 4 rfl rfl)
theorem dX7_readsHole_73 : decode cX7_readsHole 73 = .ok (.invokevirtual 208, 3) := dk_182 0 208 (dk_at dksX7_readsHole_3 5 rfl rfl)
theorem dX7_readsHole_76 : decode cX7_readsHole 76 = .ok (.ireturn, 1) := dk_172 (dk_at dksX7_readsHole_3 8 rfl rfl)
theorem dX7_readsHole_77 : decode cX7_readsHole 77 = .ok (.aload_n 0, 1) := dk_42 (dk_at dksX7_readsHole_3 9 rfl rfl)
theorem dX7_readsHole_78 : decode cX7_readsHole 78 = .ok (.getfield 29, 3) := dk_180 0 29 (dk_at dksX7_readsHole_3 10 rfl rfl)
theorem dX7_readsHole_81 : decode cX7_readsHole 81 = .ok (.iload_n 1, 1) := dk_27 (dk_at dksX7_readsHole_3 13 rfl rfl)
theorem dX7_readsHole_82 : decode cX7_readsHole 82 = .ok (.dup2, 1) := dk_92 (dk_at dksX7_readsHole_3 14 rfl rfl)
theorem dX7_readsHole_83 : decode cX7_readsHole 83 = .ok (.iaload, 1) := dk_46 (dk_at dksX7_readsHole_3 15 rfl rfl)
theorem dX7_readsHole_84 : decode cX7_readsHole 84 = .ok (.iconst 1, 1) := dk_4 (dk_at dksX7_readsHole_3 16 rfl rfl)
theorem dX7_readsHole_85 : decode cX7_readsHole 85 = .ok (.aload_n 0, 1) := dk_42 (dk_at dksX7_readsHole_3 17 rfl rfl)
theorem dX7_readsHole_86 : decode cX7_readsHole 86 = .ok (.getfield 166, 3) := dk_180 0 166 (dk_at dksX7_readsHole_3 18 rfl rfl)
theorem dX7_readsHole_89 : decode cX7_readsHole 89 = .ok (.ishl, 1) := dk_120 (dk_at dksX7_readsHole_3 21 rfl rfl)
theorem dX7_readsHole_90 : decode cX7_readsHole 90 = .ok (.ior, 1) := dk_128 (dk_at dksX7_readsHole_3 22 rfl rfl)
theorem dX7_readsHole_91 : decode cX7_readsHole 91 = .ok (.iastore, 1) := dk_79 (dk_at dksX7_readsHole_3 23 rfl rfl)
theorem dX7_readsHole_92 : decode cX7_readsHole 92 = .ok (.aload_n 0, 1) := dk_42 (dk_at dksX7_readsHole_4 0 rfl rfl)
theorem dX7_readsHole_93 : decode cX7_readsHole 93 = .ok (.invokevirtual 215, 3) := dk_182 0 215 (dk_at dksX7_readsHole_4 1 rfl rfl)
theorem dX7_readsHole_96 : decode cX7_readsHole 96 = .ok (.aload_n 0, 1) := dk_42 (dk_at dksX7_readsHole_4 4 rfl rfl)
theorem dX7_readsHole_97 : decode cX7_readsHole 97 = .ok (.invokevirtual 296, 3) := dk_182 1 40 (dk_at dksX7_readsHole_4 5 rfl rfl)
theorem dX7_readsHole_100 : decode cX7_readsHole 100 = .ok (.ireturn, 1) := dk_172 (dk_at dksX7_readsHole_4 8 rfl rfl)
abbrev cX7_readsText : ByteArray := prog_32_method_29_code
abbrev yX7_readsText : MethodName := { cls := "WornSkinModel", name := "readsText", desc := "()Z" }
def dkwX7_readsText_9 : List UInt8 := [92, 46, 4, 96, 79, 42, 182, 1, 40, 172]
abbrev dktX7_readsText_9 : List UInt8 := dkwX7_readsText_9 ++ []
def dkwX7_readsText_8 : List UInt8 := [180, 0, 38, 27, 42, 180, 1, 13, 79, 42, 180, 0, 20, 27, 42, 180, 1, 30, 80, 42, 180, 0, 13, 7]
abbrev dktX7_readsText_8 : List UInt8 := dkwX7_readsText_8 ++ dktX7_readsText_9
def dkwX7_readsText_7 : List UInt8 := [182, 0, 208, 172, 42, 182, 0, 215, 42, 20, 0, 233, 4, 16, 6, 182, 1, 36, 154, 0, 5, 3, 172, 42]
abbrev dktX7_readsText_7 : List UInt8 := dkwX7_readsText_7 ++ dktX7_readsText_8
def dkwX7_readsText_6 : List UInt8 := [182, 0, 200, 153, 0, 7, 3, 167, 0, 4, 2, 79, 42, 180, 0, 35, 27, 46, 156, 0, 9, 42, 4]
abbrev dktX7_readsText_6 : List UInt8 := dkwX7_readsText_6 ++ dktX7_readsText_7
def dkwX7_readsText_5 : List UInt8 := [42, 180, 0, 35, 27, 42, 20, 0, 253, 182, 0, 200, 153, 0, 7, 4, 167, 0, 18, 42, 20, 0, 255]
abbrev dktX7_readsText_5 : List UInt8 := dkwX7_readsText_5 ++ dktX7_readsText_6
def dkwX7_readsText_4 : List UInt8 := [167, 0, 4, 2, 79, 42, 180, 0, 32, 27, 46, 156, 0, 9, 42, 4, 182, 0, 208, 172, 42, 182, 0, 215]
abbrev dktX7_readsText_4 : List UInt8 := dkwX7_readsText_4 ++ dktX7_readsText_5
def dkwX7_readsText_3 : List UInt8 := [20, 1, 5, 182, 0, 200, 153, 0, 7, 5, 167, 0, 18, 42, 20, 1, 7, 182, 0, 200, 153, 0, 7, 6]
abbrev dktX7_readsText_3 : List UInt8 := dkwX7_readsText_3 ++ dktX7_readsText_4
def dkwX7_readsText_2 : List UInt8 := [153, 0, 7, 3, 167, 0, 46, 42, 20, 1, 3, 182, 0, 200, 153, 0, 7, 4, 167, 0, 32, 42]
abbrev dktX7_readsText_2 : List UInt8 := dkwX7_readsText_2 ++ dktX7_readsText_3
def dkwX7_readsText_1 : List UInt8 := [182, 0, 215, 42, 182, 1, 33, 154, 0, 5, 3, 172, 42, 180, 0, 32, 27, 42, 20, 1, 1, 182, 0, 200]
abbrev dktX7_readsText_1 : List UInt8 := dkwX7_readsText_1 ++ dktX7_readsText_2
def dkwX7_readsText_0 : List UInt8 := [16, 6, 42, 180, 0, 13, 7, 46, 96, 60, 27, 16, 12, 160, 0, 9, 42, 8, 182, 0, 208, 172, 42]
abbrev dktX7_readsText_0 : List UInt8 := dkwX7_readsText_0 ++ dktX7_readsText_1
theorem dksX7_readsText_0 : cX7_readsText.data.toList.drop 0 = dktX7_readsText_0 := by decide +kernel
theorem dksX7_readsText_1 : cX7_readsText.data.toList.drop 23 = dktX7_readsText_1 := dk_seg dksX7_readsText_0 23 rfl rfl
theorem dksX7_readsText_2 : cX7_readsText.data.toList.drop 47 = dktX7_readsText_2 := dk_seg dksX7_readsText_1 24 rfl rfl
theorem dksX7_readsText_3 : cX7_readsText.data.toList.drop 69 = dktX7_readsText_3 := dk_seg dksX7_readsText_2 22 rfl rfl
theorem dksX7_readsText_4 : cX7_readsText.data.toList.drop 93 = dktX7_readsText_4 := dk_seg dksX7_readsText_3 24 rfl rfl
theorem dksX7_readsText_5 : cX7_readsText.data.toList.drop 117 = dktX7_readsText_5 := dk_seg dksX7_readsText_4 24 rfl rfl
theorem dksX7_readsText_6 : cX7_readsText.data.toList.drop 140 = dktX7_readsText_6 := dk_seg dksX7_readsText_5 23 rfl rfl
theorem dksX7_readsText_7 : cX7_readsText.data.toList.drop 163 = dktX7_readsText_7 := dk_seg dksX7_readsText_6 23 rfl rfl
theorem dksX7_readsText_8 : cX7_readsText.data.toList.drop 187 = dktX7_readsText_8 := dk_seg dksX7_readsText_7 24 rfl rfl
theorem dksX7_readsText_9 : cX7_readsText.data.toList.drop 211 = dktX7_readsText_9 := dk_seg dksX7_readsText_8 24 rfl rfl
theorem dX7_readsText_0 : decode cX7_readsText 0 = .ok (.bipush 6, 2) := dk_16 6 (dk_at dksX7_readsText_0 0 rfl rfl)
theorem dX7_readsText_2 : decode cX7_readsText 2 = .ok (.aload_n 0, 1) := dk_42 (dk_at dksX7_readsText_0 2 rfl rfl)
theorem dX7_readsText_3 : decode cX7_readsText 3 = .ok (.getfield 13, 3) := dk_180 0 13 (dk_at dksX7_readsText_0 3 rfl rfl)
theorem dX7_readsText_6 : decode cX7_readsText 6 = .ok (.iconst 4, 1) := dk_7 (dk_at dksX7_readsText_0 6 rfl rfl)
theorem dX7_readsText_7 : decode cX7_readsText 7 = .ok (.iaload, 1) := dk_46 (dk_at dksX7_readsText_0 7 rfl rfl)
theorem dX7_readsText_8 : decode cX7_readsText 8 = .ok (.iadd, 1) := dk_96 (dk_at dksX7_readsText_0 8 rfl rfl)
theorem dX7_readsText_9 : decode cX7_readsText 9 = .ok (.istore_n 1, 1) := dk_60 (dk_at dksX7_readsText_0 9 rfl rfl)
theorem dX7_readsText_10 : decode cX7_readsText 10 = .ok (.iload_n 1, 1) := dk_27 (dk_at dksX7_readsText_0 10 rfl rfl)
theorem dX7_readsText_11 : decode cX7_readsText 11 = .ok (.bipush 12, 2) := dk_16 12 (dk_at dksX7_readsText_0 11 rfl rfl)
theorem dX7_readsText_13 : decode cX7_readsText 13 = .ok (.if_icmp .ne 9, 3) := dk_160 0 9 (dk_at dksX7_readsText_0 13 rfl rfl)
theorem dX7_readsText_16 : decode cX7_readsText 16 = .ok (.aload_n 0, 1) := dk_42 (dk_at dksX7_readsText_0 16 rfl rfl)
theorem dX7_readsText_17 : decode cX7_readsText 17 = .ok (.iconst 5, 1) := dk_8 (dk_at dksX7_readsText_0 17 rfl rfl)
theorem dX7_readsText_18 : decode cX7_readsText 18 = .ok (.invokevirtual 208, 3) := dk_182 0 208 (dk_at dksX7_readsText_0 18 rfl rfl)
theorem dX7_readsText_21 : decode cX7_readsText 21 = .ok (.ireturn, 1) := dk_172 (dk_at dksX7_readsText_0 21 rfl rfl)
theorem dX7_readsText_22 : decode cX7_readsText 22 = .ok (.aload_n 0, 1) := dk_42 (dk_at dksX7_readsText_0 22 rfl rfl)
theorem dX7_readsText_23 : decode cX7_readsText 23 = .ok (.invokevirtual 215, 3) := dk_182 0 215 (dk_at dksX7_readsText_1 0 rfl rfl)
theorem dX7_readsText_26 : decode cX7_readsText 26 = .ok (.aload_n 0, 1) := dk_42 (dk_at dksX7_readsText_1 3 rfl rfl)
theorem dX7_readsText_27 : decode cX7_readsText 27 = .ok (.invokevirtual 289, 3) := dk_182 1 33 (dk_at dksX7_readsText_1 4 rfl rfl)
theorem dX7_readsText_30 : decode cX7_readsText 30 = .ok (.ifCond .ne 5, 3) := dk_154 0 5 (dk_at dksX7_readsText_1 7 rfl rfl)
theorem dX7_readsText_33 : decode cX7_readsText 33 = .ok (.iconst 0, 1) := dk_3 (dk_at dksX7_readsText_1 10 rfl rfl)
theorem dX7_readsText_34 : decode cX7_readsText 34 = .ok (.ireturn, 1) := dk_172 (dk_at dksX7_readsText_1 11 rfl rfl)
theorem dX7_readsText_35 : decode cX7_readsText 35 = .ok (.aload_n 0, 1) := dk_42 (dk_at dksX7_readsText_1 12 rfl rfl)
theorem dX7_readsText_36 : decode cX7_readsText 36 = .ok (.getfield 32, 3) := dk_180 0 32 (dk_at dksX7_readsText_1 13 rfl rfl)
theorem dX7_readsText_39 : decode cX7_readsText 39 = .ok (.iload_n 1, 1) := dk_27 (dk_at dksX7_readsText_1 16 rfl rfl)
theorem dX7_readsText_40 : decode cX7_readsText 40 = .ok (.aload_n 0, 1) := dk_42 (dk_at dksX7_readsText_1 17 rfl rfl)
theorem dX7_readsText_41 : decode cX7_readsText 41 = .ok (.ldc2_w 257, 3) := dk_20 1 1 (dk_at dksX7_readsText_1 18 rfl rfl)
theorem dX7_readsText_44 : decode cX7_readsText 44 = .ok (.invokevirtual 200, 3) := dk_182 0 200 (dk_at dksX7_readsText_1 21 rfl rfl)
theorem dX7_readsText_47 : decode cX7_readsText 47 = .ok (.ifCond .eq 7, 3) := dk_153 0 7 (dk_at dksX7_readsText_2 0 rfl rfl)
theorem dX7_readsText_50 : decode cX7_readsText 50 = .ok (.iconst 0, 1) := dk_3 (dk_at dksX7_readsText_2 3 rfl rfl)
theorem dX7_readsText_51 : decode cX7_readsText 51 = .ok (.goto 46, 3) := dk_167 0 46 (dk_at dksX7_readsText_2 4 rfl rfl)
theorem dX7_readsText_54 : decode cX7_readsText 54 = .ok (.aload_n 0, 1) := dk_42 (dk_at dksX7_readsText_2 7 rfl rfl)
theorem dX7_readsText_55 : decode cX7_readsText 55 = .ok (.ldc2_w 259, 3) := dk_20 1 3 (dk_at dksX7_readsText_2 8 rfl rfl)
theorem dX7_readsText_58 : decode cX7_readsText 58 = .ok (.invokevirtual 200, 3) := dk_182 0 200 (dk_at dksX7_readsText_2 11 rfl rfl)
theorem dX7_readsText_61 : decode cX7_readsText 61 = .ok (.ifCond .eq 7, 3) := dk_153 0 7 (dk_at dksX7_readsText_2 14 rfl rfl)
theorem dX7_readsText_64 : decode cX7_readsText 64 = .ok (.iconst 1, 1) := dk_4 (dk_at dksX7_readsText_2 17 rfl rfl)
theorem dX7_readsText_65 : decode cX7_readsText 65 = .ok (.goto 32, 3) := dk_167 0 32 (dk_at dksX7_readsText_2 18 rfl rfl)
theorem dX7_readsText_68 : decode cX7_readsText 68 = .ok (.aload_n 0, 1) := dk_42 (dk_at dksX7_readsText_2 21 rfl rfl)
theorem dX7_readsText_69 : decode cX7_readsText 69 = .ok (.ldc2_w 261, 3) := dk_20 1 5 (dk_at dksX7_readsText_3 0 rfl rfl)
theorem dX7_readsText_72 : decode cX7_readsText 72 = .ok (.invokevirtual 200, 3) := dk_182 0 200 (dk_at dksX7_readsText_3 3 rfl rfl)
theorem dX7_readsText_75 : decode cX7_readsText 75 = .ok (.ifCond .eq 7, 3) := dk_153 0 7 (dk_at dksX7_readsText_3 6 rfl rfl)
theorem dX7_readsText_78 : decode cX7_readsText 78 = .ok (.iconst 2, 1) := dk_5 (dk_at dksX7_readsText_3 9 rfl rfl)
theorem dX7_readsText_79 : decode cX7_readsText 79 = .ok (.goto 18, 3) := dk_167 0 18 (dk_at dksX7_readsText_3 10 rfl rfl)
theorem dX7_readsText_82 : decode cX7_readsText 82 = .ok (.aload_n 0, 1) := dk_42 (dk_at dksX7_readsText_3 13 rfl rfl)
theorem dX7_readsText_83 : decode cX7_readsText 83 = .ok (.ldc2_w 263, 3) := dk_20 1 7 (dk_at dksX7_readsText_3 14 rfl rfl)
theorem dX7_readsText_86 : decode cX7_readsText 86 = .ok (.invokevirtual 200, 3) := dk_182 0 200 (dk_at dksX7_readsText_3 17 rfl rfl)
theorem dX7_readsText_89 : decode cX7_readsText 89 = .ok (.ifCond .eq 7, 3) := dk_153 0 7 (dk_at dksX7_readsText_3 20 rfl rfl)
theorem dX7_readsText_92 : decode cX7_readsText 92 = .ok (.iconst 3, 1) := dk_6 (dk_at dksX7_readsText_3 23 rfl rfl)
theorem dX7_readsText_93 : decode cX7_readsText 93 = .ok (.goto 4, 3) := dk_167 0 4 (dk_at dksX7_readsText_4 0 rfl rfl)
theorem dX7_readsText_96 : decode cX7_readsText 96 = .ok (.iconst (-1), 1) := dk_2 (dk_at dksX7_readsText_4 3 rfl rfl)
theorem dX7_readsText_97 : decode cX7_readsText 97 = .ok (.iastore, 1) := dk_79 (dk_at dksX7_readsText_4 4 rfl rfl)
theorem dX7_readsText_98 : decode cX7_readsText 98 = .ok (.aload_n 0, 1) := dk_42 (dk_at dksX7_readsText_4 5 rfl rfl)
theorem dX7_readsText_99 : decode cX7_readsText 99 = .ok (.getfield 32, 3) := dk_180 0 32 (dk_at dksX7_readsText_4 6 rfl rfl)
theorem dX7_readsText_102 : decode cX7_readsText 102 = .ok (.iload_n 1, 1) := dk_27 (dk_at dksX7_readsText_4 9 rfl rfl)
theorem dX7_readsText_103 : decode cX7_readsText 103 = .ok (.iaload, 1) := dk_46 (dk_at dksX7_readsText_4 10 rfl rfl)
theorem dX7_readsText_104 : decode cX7_readsText 104 = .ok (.ifCond .ge 9, 3) := dk_156 0 9 (dk_at dksX7_readsText_4 11 rfl rfl)
theorem dX7_readsText_107 : decode cX7_readsText 107 = .ok (.aload_n 0, 1) := dk_42 (dk_at dksX7_readsText_4 14 rfl rfl)
theorem dX7_readsText_108 : decode cX7_readsText 108 = .ok (.iconst 1, 1) := dk_4 (dk_at dksX7_readsText_4 15 rfl rfl)
theorem dX7_readsText_109 : decode cX7_readsText 109 = .ok (.invokevirtual 208, 3) := dk_182 0 208 (dk_at dksX7_readsText_4 16 rfl rfl)
theorem dX7_readsText_112 : decode cX7_readsText 112 = .ok (.ireturn, 1) := dk_172 (dk_at dksX7_readsText_4 19 rfl rfl)
theorem dX7_readsText_113 : decode cX7_readsText 113 = .ok (.aload_n 0, 1) := dk_42 (dk_at dksX7_readsText_4 20 rfl rfl)
theorem dX7_readsText_114 : decode cX7_readsText 114 = .ok (.invokevirtual 215, 3) := dk_182 0 215 (dk_at dksX7_readsText_4 21 rfl rfl)
theorem dX7_readsText_117 : decode cX7_readsText 117 = .ok (.aload_n 0, 1) := dk_42 (dk_at dksX7_readsText_5 0 rfl rfl)
theorem dX7_readsText_118 : decode cX7_readsText 118 = .ok (.getfield 35, 3) := dk_180 0 35 (dk_at dksX7_readsText_5 1 rfl rfl)
theorem dX7_readsText_121 : decode cX7_readsText 121 = .ok (.iload_n 1, 1) := dk_27 (dk_at dksX7_readsText_5 4 rfl rfl)
theorem dX7_readsText_122 : decode cX7_readsText 122 = .ok (.aload_n 0, 1) := dk_42 (dk_at dksX7_readsText_5 5 rfl rfl)
theorem dX7_readsText_123 : decode cX7_readsText 123 = .ok (.ldc2_w 253, 3) := dk_20 0 253 (dk_at dksX7_readsText_5 6 rfl rfl)
theorem dX7_readsText_126 : decode cX7_readsText 126 = .ok (.invokevirtual 200, 3) := dk_182 0 200 (dk_at dksX7_readsText_5 9 rfl rfl)
theorem dX7_readsText_129 : decode cX7_readsText 129 = .ok (.ifCond .eq 7, 3) := dk_153 0 7 (dk_at dksX7_readsText_5 12 rfl rfl)
theorem dX7_readsText_132 : decode cX7_readsText 132 = .ok (.iconst 1, 1) := dk_4 (dk_at dksX7_readsText_5 15 rfl rfl)
theorem dX7_readsText_133 : decode cX7_readsText 133 = .ok (.goto 18, 3) := dk_167 0 18 (dk_at dksX7_readsText_5 16 rfl rfl)
theorem dX7_readsText_136 : decode cX7_readsText 136 = .ok (.aload_n 0, 1) := dk_42 (dk_at dksX7_readsText_5 19 rfl rfl)
theorem dX7_readsText_137 : decode cX7_readsText 137 = .ok (.ldc2_w 255, 3) := dk_20 0 255 (dk_at dksX7_readsText_5 20 rfl rfl)
theorem dX7_readsText_140 : decode cX7_readsText 140 = .ok (.invokevirtual 200, 3) := dk_182 0 200 (dk_at dksX7_readsText_6 0 rfl rfl)
theorem dX7_readsText_143 : decode cX7_readsText 143 = .ok (.ifCond .eq 7, 3) := dk_153 0 7 (dk_at dksX7_readsText_6 3 rfl rfl)
theorem dX7_readsText_146 : decode cX7_readsText 146 = .ok (.iconst 0, 1) := dk_3 (dk_at dksX7_readsText_6 6 rfl rfl)
theorem dX7_readsText_147 : decode cX7_readsText 147 = .ok (.goto 4, 3) := dk_167 0 4 (dk_at dksX7_readsText_6 7 rfl rfl)
theorem dX7_readsText_150 : decode cX7_readsText 150 = .ok (.iconst (-1), 1) := dk_2 (dk_at dksX7_readsText_6 10 rfl rfl)
theorem dX7_readsText_151 : decode cX7_readsText 151 = .ok (.iastore, 1) := dk_79 (dk_at dksX7_readsText_6 11 rfl rfl)
theorem dX7_readsText_152 : decode cX7_readsText 152 = .ok (.aload_n 0, 1) := dk_42 (dk_at dksX7_readsText_6 12 rfl rfl)
theorem dX7_readsText_153 : decode cX7_readsText 153 = .ok (.getfield 35, 3) := dk_180 0 35 (dk_at dksX7_readsText_6 13 rfl rfl)
theorem dX7_readsText_156 : decode cX7_readsText 156 = .ok (.iload_n 1, 1) := dk_27 (dk_at dksX7_readsText_6 16 rfl rfl)
theorem dX7_readsText_157 : decode cX7_readsText 157 = .ok (.iaload, 1) := dk_46 (dk_at dksX7_readsText_6 17 rfl rfl)
theorem dX7_readsText_158 : decode cX7_readsText 158 = .ok (.ifCond .ge 9, 3) := dk_156 0 9 (dk_at dksX7_readsText_6 18 rfl rfl)
theorem dX7_readsText_161 : decode cX7_readsText 161 = .ok (.aload_n 0, 1) := dk_42 (dk_at dksX7_readsText_6 21 rfl rfl)
theorem dX7_readsText_162 : decode cX7_readsText 162 = .ok (.iconst 1, 1) := dk_4 (dk_at dksX7_readsText_6 22 rfl rfl)
theorem dX7_readsText_163 : decode cX7_readsText 163 = .ok (.invokevirtual 208, 3) := dk_182 0 208 (dk_at dksX7_readsText_7 0 rfl rfl)
theorem dX7_readsText_166 : decode cX7_readsText 166 = .ok (.ireturn, 1) := dk_172 (dk_at dksX7_readsText_7 3 rfl rfl)
theorem dX7_readsText_167 : decode cX7_readsText 167 = .ok (.aload_n 0, 1) := dk_42 (dk_at dksX7_readsText_7 4 rfl rfl)
theorem dX7_readsText_168 : decode cX7_readsText 168 = .ok (.invokevirtual 215, 3) := dk_182 0 215 (dk_at dksX7_readsText_7 5 rfl rfl)
theorem dX7_readsText_171 : decode cX7_readsText 171 = .ok (.aload_n 0, 1) := dk_42 (dk_at dksX7_readsText_7 8 rfl rfl)
theorem dX7_readsText_172 : decode cX7_readsText 172 = .ok (.ldc2_w 233, 3) := dk_20 0 233 (dk_at dksX7_readsText_7 9 rfl rfl)
theorem dX7_readsText_175 : decode cX7_readsText 175 = .ok (.iconst 1, 1) := dk_4 (dk_at dksX7_readsText_7 12 rfl rfl)
theorem dX7_readsText_176 : decode cX7_readsText 176 = .ok (.bipush 6, 2) := dk_16 6 (dk_at dksX7_readsText_7 13 rfl rfl)
theorem dX7_readsText_178 : decode cX7_readsText 178 = .ok (.invokevirtual 292, 3) := dk_182 1 36 (dk_at dksX7_readsText_7 15 rfl rfl)
theorem dX7_readsText_181 : decode cX7_readsText 181 = .ok (.ifCond .ne 5, 3) := dk_154 0 5 (dk_at dksX7_readsText_7 18 rfl rfl)
theorem dX7_readsText_184 : decode cX7_readsText 184 = .ok (.iconst 0, 1) := dk_3 (dk_at dksX7_readsText_7 21 rfl rfl)
theorem dX7_readsText_185 : decode cX7_readsText 185 = .ok (.ireturn, 1) := dk_172 (dk_at dksX7_readsText_7 22 rfl rfl)
theorem dX7_readsText_186 : decode cX7_readsText 186 = .ok (.aload_n 0, 1) := dk_42 (dk_at dksX7_readsText_7 23 rfl rfl)
theorem dX7_readsText_187 : decode cX7_readsText 187 = .ok (.getfield 38, 3) := dk_180 0 38 (dk_at dksX7_readsText_8 0 rfl rfl)
theorem dX7_readsText_190 : decode cX7_readsText 190 = .ok (.iload_n 1, 1) := dk_27 (dk_at dksX7_readsText_8 3 rfl rfl)
theorem dX7_readsText_191 : decode cX7_readsText 191 = .ok (.aload_n 0, 1) := dk_42 (dk_at dksX7_readsText_8 4 rfl rfl)
theorem dX7_readsText_192 : decode cX7_readsText 192 = .ok (.getfield 269, 3) := dk_180 1 13 (dk_at dksX7_readsText_8 5 rfl rfl)
theorem dX7_readsText_195 : decode cX7_readsText 195 = .ok (.iastore, 1) := dk_79 (dk_at dksX7_readsText_8 8 rfl rfl)
theorem dX7_readsText_196 : decode cX7_readsText 196 = .ok (.aload_n 0, 1) := dk_42 (dk_at dksX7_readsText_8 9 rfl rfl)
theorem dX7_readsText_197 : decode cX7_readsText 197 = .ok (.getfield 20, 3) := dk_180 0 20 (dk_at dksX7_readsText_8 10 rfl rfl)
theorem dX7_readsText_200 : decode cX7_readsText 200 = .ok (.iload_n 1, 1) := dk_27 (dk_at dksX7_readsText_8 13 rfl rfl)
theorem dX7_readsText_201 : decode cX7_readsText 201 = .ok (.aload_n 0, 1) := dk_42 (dk_at dksX7_readsText_8 14 rfl rfl)
theorem dX7_readsText_202 : decode cX7_readsText 202 = .ok (.getfield 286, 3) := dk_180 1 30 (dk_at dksX7_readsText_8 15 rfl rfl)
theorem dX7_readsText_205 : decode cX7_readsText 205 = .ok (.lastore, 1) := dk_80 (dk_at dksX7_readsText_8 18 rfl rfl)
theorem dX7_readsText_206 : decode cX7_readsText 206 = .ok (.aload_n 0, 1) := dk_42 (dk_at dksX7_readsText_8 19 rfl rfl)
theorem dX7_readsText_207 : decode cX7_readsText 207 = .ok (.getfield 13, 3) := dk_180 0 13 (dk_at dksX7_readsText_8 20 rfl rfl)
theorem dX7_readsText_210 : decode cX7_readsText 210 = .ok (.iconst 4, 1) := dk_7 (dk_at dksX7_readsText_8 23 rfl rfl)
theorem dX7_readsText_211 : decode cX7_readsText 211 = .ok (.dup2, 1) := dk_92 (dk_at dksX7_readsText_9 0 rfl rfl)
theorem dX7_readsText_212 : decode cX7_readsText 212 = .ok (.iaload, 1) := dk_46 (dk_at dksX7_readsText_9 1 rfl rfl)
theorem dX7_readsText_213 : decode cX7_readsText 213 = .ok (.iconst 1, 1) := dk_4 (dk_at dksX7_readsText_9 2 rfl rfl)
theorem dX7_readsText_214 : decode cX7_readsText 214 = .ok (.iadd, 1) := dk_96 (dk_at dksX7_readsText_9 3 rfl rfl)
theorem dX7_readsText_215 : decode cX7_readsText 215 = .ok (.iastore, 1) := dk_79 (dk_at dksX7_readsText_9 4 rfl rfl)
theorem dX7_readsText_216 : decode cX7_readsText 216 = .ok (.aload_n 0, 1) := dk_42 (dk_at dksX7_readsText_9 5 rfl rfl)
theorem dX7_readsText_217 : decode cX7_readsText 217 = .ok (.invokevirtual 296, 3) := dk_182 1 40 (dk_at dksX7_readsText_9 6 rfl rfl)
theorem dX7_readsText_220 : decode cX7_readsText 220 = .ok (.ireturn, 1) := dk_172 (dk_at dksX7_readsText_9 9 rfl rfl)
abbrev cX7_readsDamp : ByteArray := prog_32_method_30_code
abbrev yX7_readsDamp : MethodName := { cls := "WornSkinModel", name := "readsDamp", desc := "()Z" }
def dkwX7_readsDamp_5 : List UInt8 := [182, 1, 40, 172]
abbrev dktX7_readsDamp_5 : List UInt8 := dkwX7_readsDamp_5 ++ []
def dkwX7_readsDamp_4 : List UInt8 := [96, 42, 180, 0, 166, 79, 42, 180, 0, 13, 8, 92, 46, 4, 96, 79, 42, 182, 0, 215, 167, 255, 161, 42]
abbrev dktX7_readsDamp_4 : List UInt8 := dkwX7_readsDamp_4 ++ dktX7_readsDamp_5
def dkwX7_readsDamp_3 : List UInt8 := [46, 16, 12, 160, 0, 9, 42, 8, 182, 0, 208, 172, 42, 180, 0, 41, 16, 12, 42, 180, 0, 13, 8, 46]
abbrev dktX7_readsDamp_3 : List UInt8 := dkwX7_readsDamp_3 ++ dktX7_readsDamp_4
def dkwX7_readsDamp_2 : List UInt8 := [182, 0, 208, 172, 42, 180, 0, 166, 16, 9, 164, 0, 9, 42, 7, 182, 0, 208, 172, 42, 180, 0, 13, 8]
abbrev dktX7_readsDamp_2 : List UInt8 := dkwX7_readsDamp_2 ++ dktX7_readsDamp_3
def dkwX7_readsDamp_1 : List UInt8 := [46, 153, 0, 11, 42, 180, 0, 169, 5, 160, 0, 84, 42, 180, 0, 169, 5, 159, 0, 9, 42, 4]
abbrev dktX7_readsDamp_1 : List UInt8 := dkwX7_readsDamp_1 ++ dktX7_readsDamp_2
def dkwX7_readsDamp_0 : List UInt8 := [42, 180, 0, 13, 8, 46, 158, 0, 9, 42, 6, 182, 0, 208, 172, 42, 182, 0, 215, 42, 180, 0, 13, 8]
abbrev dktX7_readsDamp_0 : List UInt8 := dkwX7_readsDamp_0 ++ dktX7_readsDamp_1
theorem dksX7_readsDamp_0 : cX7_readsDamp.data.toList.drop 0 = dktX7_readsDamp_0 := by decide +kernel
theorem dksX7_readsDamp_1 : cX7_readsDamp.data.toList.drop 24 = dktX7_readsDamp_1 := dk_seg dksX7_readsDamp_0 24 rfl rfl
theorem dksX7_readsDamp_2 : cX7_readsDamp.data.toList.drop 46 = dktX7_readsDamp_2 := dk_seg dksX7_readsDamp_1 22 rfl rfl
theorem dksX7_readsDamp_3 : cX7_readsDamp.data.toList.drop 70 = dktX7_readsDamp_3 := dk_seg dksX7_readsDamp_2 24 rfl rfl
theorem dksX7_readsDamp_4 : cX7_readsDamp.data.toList.drop 94 = dktX7_readsDamp_4 := dk_seg dksX7_readsDamp_3 24 rfl rfl
theorem dksX7_readsDamp_5 : cX7_readsDamp.data.toList.drop 118 = dktX7_readsDamp_5 := dk_seg dksX7_readsDamp_4 24 rfl rfl
theorem dX7_readsDamp_0 : decode cX7_readsDamp 0 = .ok (.aload_n 0, 1) := dk_42 (dk_at dksX7_readsDamp_0 0 rfl rfl)
theorem dX7_readsDamp_1 : decode cX7_readsDamp 1 = .ok (.getfield 13, 3) := dk_180 0 13 (dk_at dksX7_readsDamp_0 1 rfl rfl)
theorem dX7_readsDamp_4 : decode cX7_readsDamp 4 = .ok (.iconst 5, 1) := dk_8 (dk_at dksX7_readsDamp_0 4 rfl rfl)
theorem dX7_readsDamp_5 : decode cX7_readsDamp 5 = .ok (.iaload, 1) := dk_46 (dk_at dksX7_readsDamp_0 5 rfl rfl)
theorem dX7_readsDamp_6 : decode cX7_readsDamp 6 = .ok (.ifCond .le 9, 3) := dk_158 0 9 (dk_at dksX7_readsDamp_0 6 rfl rfl)
theorem dX7_readsDamp_9 : decode cX7_readsDamp 9 = .ok (.aload_n 0, 1) := dk_42 (dk_at dksX7_readsDamp_0 9 rfl rfl)
theorem dX7_readsDamp_10 : decode cX7_readsDamp 10 = .ok (.iconst 3, 1) := dk_6 (dk_at dksX7_readsDamp_0 10 rfl rfl)
theorem dX7_readsDamp_11 : decode cX7_readsDamp 11 = .ok (.invokevirtual 208, 3) := dk_182 0 208 (dk_at dksX7_readsDamp_0 11 rfl rfl)
theorem dX7_readsDamp_14 : decode cX7_readsDamp 14 = .ok (.ireturn, 1) := dk_172 (dk_at dksX7_readsDamp_0 14 rfl rfl)
theorem dX7_readsDamp_15 : decode cX7_readsDamp 15 = .ok (.aload_n 0, 1) := dk_42 (dk_at dksX7_readsDamp_0 15 rfl rfl)
theorem dX7_readsDamp_16 : decode cX7_readsDamp 16 = .ok (.invokevirtual 215, 3) := dk_182 0 215 (dk_at dksX7_readsDamp_0 16 rfl rfl)
theorem dX7_readsDamp_19 : decode cX7_readsDamp 19 = .ok (.aload_n 0, 1) := dk_42 (dk_at dksX7_readsDamp_0 19 rfl rfl)
theorem dX7_readsDamp_20 : decode cX7_readsDamp 20 = .ok (.getfield 13, 3) := dk_180 0 13 (dk_at dksX7_readsDamp_0 20 rfl rfl)
theorem dX7_readsDamp_23 : decode cX7_readsDamp 23 = .ok (.iconst 5, 1) := dk_8 (dk_at dksX7_readsDamp_0 23 rfl rfl)
theorem dX7_readsDamp_24 : decode cX7_readsDamp 24 = .ok (.iaload, 1) := dk_46 (dk_at dksX7_readsDamp_1 0 rfl rfl)
theorem dX7_readsDamp_25 : decode cX7_readsDamp 25 = .ok (.ifCond .eq 11, 3) := dk_153 0 11 (dk_at dksX7_readsDamp_1 1 rfl rfl)
theorem dX7_readsDamp_28 : decode cX7_readsDamp 28 = .ok (.aload_n 0, 1) := dk_42 (dk_at dksX7_readsDamp_1 4 rfl rfl)
theorem dX7_readsDamp_29 : decode cX7_readsDamp 29 = .ok (.getfield 169, 3) := dk_180 0 169 (dk_at dksX7_readsDamp_1 5 rfl rfl)
theorem dX7_readsDamp_32 : decode cX7_readsDamp 32 = .ok (.iconst 2, 1) := dk_5 (dk_at dksX7_readsDamp_1 8 rfl rfl)
theorem dX7_readsDamp_33 : decode cX7_readsDamp 33 = .ok (.if_icmp .ne 84, 3) := dk_160 0 84 (dk_at dksX7_readsDamp_1 9 rfl rfl)
theorem dX7_readsDamp_36 : decode cX7_readsDamp 36 = .ok (.aload_n 0, 1) := dk_42 (dk_at dksX7_readsDamp_1 12 rfl rfl)
theorem dX7_readsDamp_37 : decode cX7_readsDamp 37 = .ok (.getfield 169, 3) := dk_180 0 169 (dk_at dksX7_readsDamp_1 13 rfl rfl)
theorem dX7_readsDamp_40 : decode cX7_readsDamp 40 = .ok (.iconst 2, 1) := dk_5 (dk_at dksX7_readsDamp_1 16 rfl rfl)
theorem dX7_readsDamp_41 : decode cX7_readsDamp 41 = .ok (.if_icmp .eq 9, 3) := dk_159 0 9 (dk_at dksX7_readsDamp_1 17 rfl rfl)
theorem dX7_readsDamp_44 : decode cX7_readsDamp 44 = .ok (.aload_n 0, 1) := dk_42 (dk_at dksX7_readsDamp_1 20 rfl rfl)
theorem dX7_readsDamp_45 : decode cX7_readsDamp 45 = .ok (.iconst 1, 1) := dk_4 (dk_at dksX7_readsDamp_1 21 rfl rfl)
theorem dX7_readsDamp_46 : decode cX7_readsDamp 46 = .ok (.invokevirtual 208, 3) := dk_182 0 208 (dk_at dksX7_readsDamp_2 0 rfl rfl)
theorem dX7_readsDamp_49 : decode cX7_readsDamp 49 = .ok (.ireturn, 1) := dk_172 (dk_at dksX7_readsDamp_2 3 rfl rfl)
theorem dX7_readsDamp_50 : decode cX7_readsDamp 50 = .ok (.aload_n 0, 1) := dk_42 (dk_at dksX7_readsDamp_2 4 rfl rfl)
theorem dX7_readsDamp_51 : decode cX7_readsDamp 51 = .ok (.getfield 166, 3) := dk_180 0 166 (dk_at dksX7_readsDamp_2 5 rfl rfl)
theorem dX7_readsDamp_54 : decode cX7_readsDamp 54 = .ok (.bipush 9, 2) := dk_16 9 (dk_at dksX7_readsDamp_2 8 rfl rfl)
theorem dX7_readsDamp_56 : decode cX7_readsDamp 56 = .ok (.if_icmp .le 9, 3) := dk_164 0 9 (dk_at dksX7_readsDamp_2 10 rfl rfl)
theorem dX7_readsDamp_59 : decode cX7_readsDamp 59 = .ok (.aload_n 0, 1) := dk_42 (dk_at dksX7_readsDamp_2 13 rfl rfl)
theorem dX7_readsDamp_60 : decode cX7_readsDamp 60 = .ok (.iconst 4, 1) := dk_7 (dk_at dksX7_readsDamp_2 14 rfl rfl)
theorem dX7_readsDamp_61 : decode cX7_readsDamp 61 = .ok (.invokevirtual 208, 3) := dk_182 0 208 (dk_at dksX7_readsDamp_2 15 rfl rfl)
theorem dX7_readsDamp_64 : decode cX7_readsDamp 64 = .ok (.ireturn, 1) := dk_172 (dk_at dksX7_readsDamp_2 18 rfl rfl)
theorem dX7_readsDamp_65 : decode cX7_readsDamp 65 = .ok (.aload_n 0, 1) := dk_42 (dk_at dksX7_readsDamp_2 19 rfl rfl)
theorem dX7_readsDamp_66 : decode cX7_readsDamp 66 = .ok (.getfield 13, 3) := dk_180 0 13 (dk_at dksX7_readsDamp_2 20 rfl rfl)
theorem dX7_readsDamp_69 : decode cX7_readsDamp 69 = .ok (.iconst 5, 1) := dk_8 (dk_at dksX7_readsDamp_2 23 rfl rfl)
theorem dX7_readsDamp_70 : decode cX7_readsDamp 70 = .ok (.iaload, 1) := dk_46 (dk_at dksX7_readsDamp_3 0 rfl rfl)
theorem dX7_readsDamp_71 : decode cX7_readsDamp 71 = .ok (.bipush 12, 2) := dk_16 12 (dk_at dksX7_readsDamp_3 1 rfl rfl)
theorem dX7_readsDamp_73 : decode cX7_readsDamp 73 = .ok (.if_icmp .ne 9, 3) := dk_160 0 9 (dk_at dksX7_readsDamp_3 3 rfl rfl)
theorem dX7_readsDamp_76 : decode cX7_readsDamp 76 = .ok (.aload_n 0, 1) := dk_42 (dk_at dksX7_readsDamp_3 6 rfl rfl)
theorem dX7_readsDamp_77 : decode cX7_readsDamp 77 = .ok (.iconst 5, 1) := dk_8 (dk_at dksX7_readsDamp_3 7 rfl rfl)
theorem dX7_readsDamp_78 : decode cX7_readsDamp 78 = .ok (.invokevirtual 208, 3) := dk_182 0 208 (dk_at dksX7_readsDamp_3 8 rfl rfl)
theorem dX7_readsDamp_81 : decode cX7_readsDamp 81 = .ok (.ireturn, 1) := dk_172 (dk_at dksX7_readsDamp_3 11 rfl rfl)
theorem dX7_readsDamp_82 : decode cX7_readsDamp 82 = .ok (.aload_n 0, 1) := dk_42 (dk_at dksX7_readsDamp_3 12 rfl rfl)
theorem dX7_readsDamp_83 : decode cX7_readsDamp 83 = .ok (.getfield 41, 3) := dk_180 0 41 (dk_at dksX7_readsDamp_3 13 rfl rfl)
theorem dX7_readsDamp_86 : decode cX7_readsDamp 86 = .ok (.bipush 12, 2) := dk_16 12 (dk_at dksX7_readsDamp_3 16 rfl rfl)
theorem dX7_readsDamp_88 : decode cX7_readsDamp 88 = .ok (.aload_n 0, 1) := dk_42 (dk_at dksX7_readsDamp_3 18 rfl rfl)
theorem dX7_readsDamp_89 : decode cX7_readsDamp 89 = .ok (.getfield 13, 3) := dk_180 0 13 (dk_at dksX7_readsDamp_3 19 rfl rfl)
theorem dX7_readsDamp_92 : decode cX7_readsDamp 92 = .ok (.iconst 5, 1) := dk_8 (dk_at dksX7_readsDamp_3 22 rfl rfl)
theorem dX7_readsDamp_93 : decode cX7_readsDamp 93 = .ok (.iaload, 1) := dk_46 (dk_at dksX7_readsDamp_3 23 rfl rfl)
theorem dX7_readsDamp_94 : decode cX7_readsDamp 94 = .ok (.iadd, 1) := dk_96 (dk_at dksX7_readsDamp_4 0 rfl rfl)
theorem dX7_readsDamp_95 : decode cX7_readsDamp 95 = .ok (.aload_n 0, 1) := dk_42 (dk_at dksX7_readsDamp_4 1 rfl rfl)
theorem dX7_readsDamp_96 : decode cX7_readsDamp 96 = .ok (.getfield 166, 3) := dk_180 0 166 (dk_at dksX7_readsDamp_4 2 rfl rfl)
theorem dX7_readsDamp_99 : decode cX7_readsDamp 99 = .ok (.iastore, 1) := dk_79 (dk_at dksX7_readsDamp_4 5 rfl rfl)
theorem dX7_readsDamp_100 : decode cX7_readsDamp 100 = .ok (.aload_n 0, 1) := dk_42 (dk_at dksX7_readsDamp_4 6 rfl rfl)
theorem dX7_readsDamp_101 : decode cX7_readsDamp 101 = .ok (.getfield 13, 3) := dk_180 0 13 (dk_at dksX7_readsDamp_4 7 rfl rfl)
theorem dX7_readsDamp_104 : decode cX7_readsDamp 104 = .ok (.iconst 5, 1) := dk_8 (dk_at dksX7_readsDamp_4 10 rfl rfl)
theorem dX7_readsDamp_105 : decode cX7_readsDamp 105 = .ok (.dup2, 1) := dk_92 (dk_at dksX7_readsDamp_4 11 rfl rfl)
theorem dX7_readsDamp_106 : decode cX7_readsDamp 106 = .ok (.iaload, 1) := dk_46 (dk_at dksX7_readsDamp_4 12 rfl rfl)
theorem dX7_readsDamp_107 : decode cX7_readsDamp 107 = .ok (.iconst 1, 1) := dk_4 (dk_at dksX7_readsDamp_4 13 rfl rfl)
theorem dX7_readsDamp_108 : decode cX7_readsDamp 108 = .ok (.iadd, 1) := dk_96 (dk_at dksX7_readsDamp_4 14 rfl rfl)
theorem dX7_readsDamp_109 : decode cX7_readsDamp 109 = .ok (.iastore, 1) := dk_79 (dk_at dksX7_readsDamp_4 15 rfl rfl)
theorem dX7_readsDamp_110 : decode cX7_readsDamp 110 = .ok (.aload_n 0, 1) := dk_42 (dk_at dksX7_readsDamp_4 16 rfl rfl)
theorem dX7_readsDamp_111 : decode cX7_readsDamp 111 = .ok (.invokevirtual 215, 3) := dk_182 0 215 (dk_at dksX7_readsDamp_4 17 rfl rfl)
theorem dX7_readsDamp_114 : decode cX7_readsDamp 114 = .ok (.goto (-95), 3) := dk_167 255 161 (dk_at dksX7_readsDamp_4 20 rfl rfl)
theorem dX7_readsDamp_117 : decode cX7_readsDamp 117 = .ok (.aload_n 0, 1) := dk_42 (dk_at dksX7_readsDamp_4 23 rfl rfl)
theorem dX7_readsDamp_118 : decode cX7_readsDamp 118 = .ok (.invokevirtual 296, 3) := dk_182 1 40 (dk_at dksX7_readsDamp_5 0 rfl rfl)
theorem dX7_readsDamp_121 : decode cX7_readsDamp 121 = .ok (.ireturn, 1) := dk_172 (dk_at dksX7_readsDamp_5 3 rfl rfl)
abbrev cX7_fact : ByteArray := prog_32_method_12_code
abbrev yX7_fact : MethodName := { cls := "WornSkinModel", name := "fact", desc := "()I" }
def dkwX7_fact_2 : List UInt8 := [167, 0, 19, 42, 180, 0, 162, 20, 0, 192, 148, 154, 0, 7, 7, 167, 0, 4, 3, 172]
abbrev dktX7_fact_2 : List UInt8 := dkwX7_fact_2 ++ []
def dkwX7_fact_1 : List UInt8 := [180, 0, 162, 20, 0, 188, 148, 154, 0, 5, 5, 172, 42, 180, 0, 162, 20, 0, 190, 148, 154, 0, 7, 6]
abbrev dktX7_fact_1 : List UInt8 := dkwX7_fact_1 ++ dktX7_fact_2
def dkwX7_fact_0 : List UInt8 := [42, 180, 0, 169, 4, 159, 0, 5, 3, 172, 42, 180, 0, 162, 20, 0, 186, 148, 154, 0, 5, 4, 172, 42]
abbrev dktX7_fact_0 : List UInt8 := dkwX7_fact_0 ++ dktX7_fact_1
theorem dksX7_fact_0 : cX7_fact.data.toList.drop 0 = dktX7_fact_0 := by decide +kernel
theorem dksX7_fact_1 : cX7_fact.data.toList.drop 24 = dktX7_fact_1 := dk_seg dksX7_fact_0 24 rfl rfl
theorem dksX7_fact_2 : cX7_fact.data.toList.drop 48 = dktX7_fact_2 := dk_seg dksX7_fact_1 24 rfl rfl
theorem dX7_fact_0 : decode cX7_fact 0 = .ok (.aload_n 0, 1) := dk_42 (dk_at dksX7_fact_0 0 rfl rfl)
theorem dX7_fact_1 : decode cX7_fact 1 = .ok (.getfield 169, 3) := dk_180 0 169 (dk_at dksX7_fact_0 1 rfl rfl)
theorem dX7_fact_4 : decode cX7_fact 4 = .ok (.iconst 1, 1) := dk_4 (dk_at dksX7_fact_0 4 rfl rfl)
theorem dX7_fact_5 : decode cX7_fact 5 = .ok (.if_icmp .eq 5, 3) := dk_159 0 5 (dk_at dksX7_fact_0 5 rfl rfl)
theorem dX7_fact_8 : decode cX7_fact 8 = .ok (.iconst 0, 1) := dk_3 (dk_at dksX7_fact_0 8 rfl rfl)
theorem dX7_fact_9 : decode cX7_fact 9 = .ok (.ireturn, 1) := dk_172 (dk_at dksX7_fact_0 9 rfl rfl)
theorem dX7_fact_10 : decode cX7_fact 10 = .ok (.aload_n 0, 1) := dk_42 (dk_at dksX7_fact_0 10 rfl rfl)
theorem dX7_fact_11 : decode cX7_fact 11 = .ok (.getfield 162, 3) := dk_180 0 162 (dk_at dksX7_fact_0 11 rfl rfl)
theorem dX7_fact_14 : decode cX7_fact 14 = .ok (.ldc2_w 186, 3) := dk_20 0 186 (dk_at dksX7_fact_0 14 rfl rfl)
theorem dX7_fact_17 : decode cX7_fact 17 = .ok (.lcmp, 1) := dk_148 (dk_at dksX7_fact_0 17 rfl rfl)
theorem dX7_fact_18 : decode cX7_fact 18 = .ok (.ifCond .ne 5, 3) := dk_154 0 5 (dk_at dksX7_fact_0 18 rfl rfl)
theorem dX7_fact_21 : decode cX7_fact 21 = .ok (.iconst 1, 1) := dk_4 (dk_at dksX7_fact_0 21 rfl rfl)
theorem dX7_fact_22 : decode cX7_fact 22 = .ok (.ireturn, 1) := dk_172 (dk_at dksX7_fact_0 22 rfl rfl)
theorem dX7_fact_23 : decode cX7_fact 23 = .ok (.aload_n 0, 1) := dk_42 (dk_at dksX7_fact_0 23 rfl rfl)
theorem dX7_fact_24 : decode cX7_fact 24 = .ok (.getfield 162, 3) := dk_180 0 162 (dk_at dksX7_fact_1 0 rfl rfl)
theorem dX7_fact_27 : decode cX7_fact 27 = .ok (.ldc2_w 188, 3) := dk_20 0 188 (dk_at dksX7_fact_1 3 rfl rfl)
theorem dX7_fact_30 : decode cX7_fact 30 = .ok (.lcmp, 1) := dk_148 (dk_at dksX7_fact_1 6 rfl rfl)
theorem dX7_fact_31 : decode cX7_fact 31 = .ok (.ifCond .ne 5, 3) := dk_154 0 5 (dk_at dksX7_fact_1 7 rfl rfl)
theorem dX7_fact_34 : decode cX7_fact 34 = .ok (.iconst 2, 1) := dk_5 (dk_at dksX7_fact_1 10 rfl rfl)
theorem dX7_fact_35 : decode cX7_fact 35 = .ok (.ireturn, 1) := dk_172 (dk_at dksX7_fact_1 11 rfl rfl)
theorem dX7_fact_36 : decode cX7_fact 36 = .ok (.aload_n 0, 1) := dk_42 (dk_at dksX7_fact_1 12 rfl rfl)
theorem dX7_fact_37 : decode cX7_fact 37 = .ok (.getfield 162, 3) := dk_180 0 162 (dk_at dksX7_fact_1 13 rfl rfl)
theorem dX7_fact_40 : decode cX7_fact 40 = .ok (.ldc2_w 190, 3) := dk_20 0 190 (dk_at dksX7_fact_1 16 rfl rfl)
theorem dX7_fact_43 : decode cX7_fact 43 = .ok (.lcmp, 1) := dk_148 (dk_at dksX7_fact_1 19 rfl rfl)
theorem dX7_fact_44 : decode cX7_fact 44 = .ok (.ifCond .ne 7, 3) := dk_154 0 7 (dk_at dksX7_fact_1 20 rfl rfl)
theorem dX7_fact_47 : decode cX7_fact 47 = .ok (.iconst 3, 1) := dk_6 (dk_at dksX7_fact_1 23 rfl rfl)
theorem dX7_fact_48 : decode cX7_fact 48 = .ok (.goto 19, 3) := dk_167 0 19 (dk_at dksX7_fact_2 0 rfl rfl)
theorem dX7_fact_51 : decode cX7_fact 51 = .ok (.aload_n 0, 1) := dk_42 (dk_at dksX7_fact_2 3 rfl rfl)
theorem dX7_fact_52 : decode cX7_fact 52 = .ok (.getfield 162, 3) := dk_180 0 162 (dk_at dksX7_fact_2 4 rfl rfl)
theorem dX7_fact_55 : decode cX7_fact 55 = .ok (.ldc2_w 192, 3) := dk_20 0 192 (dk_at dksX7_fact_2 7 rfl rfl)
theorem dX7_fact_58 : decode cX7_fact 58 = .ok (.lcmp, 1) := dk_148 (dk_at dksX7_fact_2 10 rfl rfl)
theorem dX7_fact_59 : decode cX7_fact 59 = .ok (.ifCond .ne 7, 3) := dk_154 0 7 (dk_at dksX7_fact_2 11 rfl rfl)
theorem dX7_fact_62 : decode cX7_fact 62 = .ok (.iconst 4, 1) := dk_7 (dk_at dksX7_fact_2 14 rfl rfl)
theorem dX7_fact_63 : decode cX7_fact 63 = .ok (.goto 4, 3) := dk_167 0 4 (dk_at dksX7_fact_2 15 rfl rfl)
theorem dX7_fact_66 : decode cX7_fact 66 = .ok (.iconst 0, 1) := dk_3 (dk_at dksX7_fact_2 18 rfl rfl)
theorem dX7_fact_67 : decode cX7_fact 67 = .ok (.ireturn, 1) := dk_172 (dk_at dksX7_fact_2 19 rfl rfl)
abbrev cX7_puts : ByteArray := prog_32_method_11_code
abbrev yX7_puts : MethodName := { cls := "WornSkinModel", name := "puts", desc := "(I)V" }
def dkwX7_puts_0 : List UInt8 := [42, 180, 0, 50, 42, 180, 0, 183, 27, 79, 42, 89, 180, 0, 183, 4, 96, 181, 0, 183, 177]
abbrev dktX7_puts_0 : List UInt8 := dkwX7_puts_0 ++ []
theorem dksX7_puts_0 : cX7_puts.data.toList.drop 0 = dktX7_puts_0 := by decide +kernel
theorem dX7_puts_0 : decode cX7_puts 0 = .ok (.aload_n 0, 1) := dk_42 (dk_at dksX7_puts_0 0 rfl rfl)
theorem dX7_puts_1 : decode cX7_puts 1 = .ok (.getfield 50, 3) := dk_180 0 50 (dk_at dksX7_puts_0 1 rfl rfl)
theorem dX7_puts_4 : decode cX7_puts 4 = .ok (.aload_n 0, 1) := dk_42 (dk_at dksX7_puts_0 4 rfl rfl)
theorem dX7_puts_5 : decode cX7_puts 5 = .ok (.getfield 183, 3) := dk_180 0 183 (dk_at dksX7_puts_0 5 rfl rfl)
theorem dX7_puts_8 : decode cX7_puts 8 = .ok (.iload_n 1, 1) := dk_27 (dk_at dksX7_puts_0 8 rfl rfl)
theorem dX7_puts_9 : decode cX7_puts 9 = .ok (.iastore, 1) := dk_79 (dk_at dksX7_puts_0 9 rfl rfl)
theorem dX7_puts_10 : decode cX7_puts 10 = .ok (.aload_n 0, 1) := dk_42 (dk_at dksX7_puts_0 10 rfl rfl)
theorem dX7_puts_11 : decode cX7_puts 11 = .ok (.dup, 1) := dk_89 (dk_at dksX7_puts_0 11 rfl rfl)
theorem dX7_puts_12 : decode cX7_puts 12 = .ok (.getfield 183, 3) := dk_180 0 183 (dk_at dksX7_puts_0 12 rfl rfl)
theorem dX7_puts_15 : decode cX7_puts 15 = .ok (.iconst 1, 1) := dk_4 (dk_at dksX7_puts_0 15 rfl rfl)
theorem dX7_puts_16 : decode cX7_puts 16 = .ok (.iadd, 1) := dk_96 (dk_at dksX7_puts_0 16 rfl rfl)
theorem dX7_puts_17 : decode cX7_puts 17 = .ok (.putfield 183, 3) := dk_181 0 183 (dk_at dksX7_puts_0 17 rfl rfl)
theorem dX7_puts_20 : decode cX7_puts 20 = .ok (.return_, 1) := dk_177 (dk_at dksX7_puts_0 20 rfl rfl)
abbrev cX7_reads : ByteArray := prog_32_method_13_code
abbrev yX7_reads : MethodName := { cls := "WornSkinModel", name := "reads", desc := "()Z" }
def dkwX7_reads_18 : List UInt8 := [182, 0, 208, 172, 42, 182, 0, 215, 167, 254, 95]
abbrev dktX7_reads_18 : List UInt8 := dkwX7_reads_18 ++ []
def dkwX7_reads_17 : List UInt8 := [167, 255, 239, 27, 154, 0, 18, 42, 16, 59, 182, 0, 204, 153, 0, 9, 42, 182, 0, 215, 4, 172, 42, 4]
abbrev dktX7_reads_17 : List UInt8 := dkwX7_reads_17 ++ dktX7_reads_18
def dkwX7_reads_16 : List UInt8 := [182, 0, 211, 132, 1, 255, 27, 158, 0, 44, 42, 180, 0, 53, 27, 46, 4, 160, 0, 34, 132, 1, 255]
abbrev dktX7_reads_16 : List UInt8 := dkwX7_reads_16 ++ dktX7_reads_17
def dkwX7_reads_15 : List UInt8 := [27, 3, 84, 4, 61, 167, 0, 70, 42, 16, 41, 182, 0, 204, 153, 0, 36, 27, 158, 0, 32, 42, 16, 29]
abbrev dktX7_reads_15 : List UInt8 := dkwX7_reads_15 ++ dktX7_reads_16
def dkwX7_reads_14 : List UInt8 := [42, 20, 0, 218, 182, 0, 200, 153, 0, 8, 16, 26, 167, 0, 5, 16, 27, 182, 0, 211, 42, 180, 0, 56]
abbrev dktX7_reads_14 : List UInt8 := dkwX7_reads_14 ++ dktX7_reads_15
def dkwX7_reads_13 : List UInt8 := [167, 0, 123, 42, 20, 0, 218, 182, 0, 200, 154, 0, 13, 42, 20, 0, 220, 182, 0, 200, 153, 0, 36, 42]
abbrev dktX7_reads_13 : List UInt8 := dkwX7_reads_13 ++ dktX7_reads_14
def dkwX7_reads_12 : List UInt8 := [153, 0, 8, 16, 24, 167, 0, 5, 16, 25, 182, 0, 211, 42, 180, 0, 56, 27, 4, 84, 4, 61]
abbrev dktX7_reads_12 : List UInt8 := dkwX7_reads_12 ++ dktX7_reads_13
def dkwX7_reads_11 : List UInt8 := [16, 61, 182, 0, 204, 153, 0, 44, 42, 180, 0, 56, 27, 51, 154, 0, 35, 42, 42, 16, 60, 182, 0, 204]
abbrev dktX7_reads_11 : List UInt8 := dkwX7_reads_11 ++ dktX7_reads_12
def dkwX7_reads_10 : List UInt8 := [167, 0, 5, 16, 22, 182, 0, 211, 4, 61, 167, 0, 182, 42, 16, 60, 182, 0, 204, 154, 0, 12, 42]
abbrev dktX7_reads_10 : List UInt8 := dkwX7_reads_10 ++ dktX7_reads_11
def dkwX7_reads_9 : List UInt8 := [16, 43, 182, 0, 204, 153, 0, 8, 16, 20, 167, 0, 19, 42, 16, 45, 182, 0, 204, 153, 0, 8, 16, 21]
abbrev dktX7_reads_9 : List UInt8 := dkwX7_reads_9 ++ dktX7_reads_10
def dkwX7_reads_8 : List UInt8 := [154, 0, 21, 42, 16, 45, 182, 0, 204, 154, 0, 12, 42, 16, 42, 182, 0, 204, 153, 0, 42, 42, 42]
abbrev dktX7_reads_8 : List UInt8 := dkwX7_reads_8 ++ dktX7_reads_9
def dkwX7_reads_7 : List UInt8 := [160, 0, 9, 132, 1, 255, 167, 255, 239, 42, 182, 0, 215, 167, 255, 91, 42, 16, 43, 182, 0, 204]
abbrev dktX7_reads_7 : List UInt8 := dkwX7_reads_7 ++ dktX7_reads_8
def dkwX7_reads_6 : List UInt8 := [16, 100, 42, 180, 0, 166, 96, 182, 0, 211, 3, 61, 27, 158, 0, 19, 42, 180, 0, 53, 27, 46, 4]
abbrev dktX7_reads_6 : List UInt8 := dkwX7_reads_6 ++ dktX7_reads_7
def dkwX7_reads_5 : List UInt8 := [167, 0, 4, 5, 79, 42, 180, 0, 56, 27, 3, 84, 167, 0, 44, 42, 29, 158, 0, 7, 29, 167, 0, 10]
abbrev dktX7_reads_5 : List UInt8 := dkwX7_reads_5 ++ dktX7_reads_6
def dkwX7_reads_4 : List UInt8 := [167, 0, 5, 16, 28, 182, 0, 211, 132, 1, 1, 42, 180, 0, 53, 27, 21, 4, 153, 0, 7, 4]
abbrev dktX7_reads_4 : List UInt8 := dkwX7_reads_4 ++ dktX7_reads_5
def dkwX7_reads_3 : List UInt8 := [182, 0, 208, 172, 21, 4, 154, 0, 8, 21, 5, 153, 0, 48, 42, 21, 4, 153, 0, 8, 16, 30]
abbrev dktX7_reads_3 : List UInt8 := dkwX7_reads_3 ++ dktX7_reads_4
def dkwX7_reads_2 : List UInt8 := [154, 0, 17, 42, 180, 0, 169, 5, 159, 0, 9, 42, 4, 182, 0, 208, 172, 27, 8, 160, 0, 9, 42, 8]
abbrev dktX7_reads_2 : List UInt8 := dkwX7_reads_2 ++ dktX7_reads_3
def dkwX7_reads_1 : List UInt8 := [182, 0, 200, 54, 4, 42, 16, 40, 182, 0, 204, 54, 5, 29, 154, 0, 27, 21, 4, 154, 0, 22, 21, 5]
abbrev dktX7_reads_1 : List UInt8 := dkwX7_reads_1 ++ dktX7_reads_2
def dkwX7_reads_0 : List UInt8 := [3, 60, 4, 61, 42, 180, 0, 56, 3, 3, 84, 28, 153, 0, 167, 42, 182, 0, 194, 62, 42, 20, 0, 198]
abbrev dktX7_reads_0 : List UInt8 := dkwX7_reads_0 ++ dktX7_reads_1
theorem dksX7_reads_0 : cX7_reads.data.toList.drop 0 = dktX7_reads_0 := by decide +kernel
theorem dksX7_reads_1 : cX7_reads.data.toList.drop 24 = dktX7_reads_1 := dk_seg dksX7_reads_0 24 rfl rfl
theorem dksX7_reads_2 : cX7_reads.data.toList.drop 48 = dktX7_reads_2 := dk_seg dksX7_reads_1 24 rfl rfl
theorem dksX7_reads_3 : cX7_reads.data.toList.drop 72 = dktX7_reads_3 := dk_seg dksX7_reads_2 24 rfl rfl
theorem dksX7_reads_4 : cX7_reads.data.toList.drop 94 = dktX7_reads_4 := dk_seg dksX7_reads_3 22 rfl rfl
theorem dksX7_reads_5 : cX7_reads.data.toList.drop 116 = dktX7_reads_5 := dk_seg dksX7_reads_4 22 rfl rfl
theorem dksX7_reads_6 : cX7_reads.data.toList.drop 140 = dktX7_reads_6 := dk_seg dksX7_reads_5 24 rfl rfl
theorem dksX7_reads_7 : cX7_reads.data.toList.drop 163 = dktX7_reads_7 := dk_seg dksX7_reads_6 23 rfl rfl
theorem dksX7_reads_8 : cX7_reads.data.toList.drop 185 = dktX7_reads_8 := dk_seg dksX7_reads_7 22 rfl rfl
theorem dksX7_reads_9 : cX7_reads.data.toList.drop 208 = dktX7_reads_9 := dk_seg dksX7_reads_8 23 rfl rfl
theorem dksX7_reads_10 : cX7_reads.data.toList.drop 232 = dktX7_reads_10 := dk_seg dksX7_reads_9 24 rfl rfl
theorem dksX7_reads_11 : cX7_reads.data.toList.drop 255 = dktX7_reads_11 := dk_seg dksX7_reads_10 23 rfl rfl
theorem dksX7_reads_12 : cX7_reads.data.toList.drop 279 = dktX7_reads_12 := dk_seg dksX7_reads_11 24 rfl rfl
theorem dksX7_reads_13 : cX7_reads.data.toList.drop 301 = dktX7_reads_13 := dk_seg dksX7_reads_12 22 rfl rfl
theorem dksX7_reads_14 : cX7_reads.data.toList.drop 325 = dktX7_reads_14 := dk_seg dksX7_reads_13 24 rfl rfl
theorem dksX7_reads_15 : cX7_reads.data.toList.drop 349 = dktX7_reads_15 := dk_seg dksX7_reads_14 24 rfl rfl
theorem dksX7_reads_16 : cX7_reads.data.toList.drop 373 = dktX7_reads_16 := dk_seg dksX7_reads_15 24 rfl rfl
theorem dksX7_reads_17 : cX7_reads.data.toList.drop 396 = dktX7_reads_17 := dk_seg dksX7_reads_16 23 rfl rfl
theorem dksX7_reads_18 : cX7_reads.data.toList.drop 420 = dktX7_reads_18 := dk_seg dksX7_reads_17 24 rfl rfl
theorem dX7_reads_0 : decode cX7_reads 0 = .ok (.iconst 0, 1) := dk_3 (dk_at dksX7_reads_0 0 rfl rfl)
theorem dX7_reads_1 : decode cX7_reads 1 = .ok (.istore_n 1, 1) := dk_60 (dk_at dksX7_reads_0 1 rfl rfl)
theorem dX7_reads_2 : decode cX7_reads 2 = .ok (.iconst 1, 1) := dk_4 (dk_at dksX7_reads_0 2 rfl rfl)
theorem dX7_reads_3 : decode cX7_reads 3 = .ok (.istore_n 2, 1) := dk_61 (dk_at dksX7_reads_0 3 rfl rfl)
theorem dX7_reads_4 : decode cX7_reads 4 = .ok (.aload_n 0, 1) := dk_42 (dk_at dksX7_reads_0 4 rfl rfl)
theorem dX7_reads_5 : decode cX7_reads 5 = .ok (.getfield 56, 3) := dk_180 0 56 (dk_at dksX7_reads_0 5 rfl rfl)
theorem dX7_reads_8 : decode cX7_reads 8 = .ok (.iconst 0, 1) := dk_3 (dk_at dksX7_reads_0 8 rfl rfl)
theorem dX7_reads_9 : decode cX7_reads 9 = .ok (.iconst 0, 1) := dk_3 (dk_at dksX7_reads_0 9 rfl rfl)
theorem dX7_reads_10 : decode cX7_reads 10 = .ok (.bastore, 1) := dk_84 (dk_at dksX7_reads_0 10 rfl rfl)
theorem dX7_reads_11 : decode cX7_reads 11 = .ok (.iload_n 2, 1) := dk_28 (dk_at dksX7_reads_0 11 rfl rfl)
theorem dX7_reads_12 : decode cX7_reads 12 = .ok (.ifCond .eq 167, 3) := dk_153 0 167 (dk_at dksX7_reads_0 12 rfl rfl)
theorem dX7_reads_15 : decode cX7_reads 15 = .ok (.aload_n 0, 1) := dk_42 (dk_at dksX7_reads_0 15 rfl rfl)
theorem dX7_reads_16 : decode cX7_reads 16 = .ok (.invokevirtual 194, 3) := dk_182 0 194 (dk_at dksX7_reads_0 16 rfl rfl)
theorem dX7_reads_19 : decode cX7_reads 19 = .ok (.istore_n 3, 1) := dk_62 (dk_at dksX7_reads_0 19 rfl rfl)
theorem dX7_reads_20 : decode cX7_reads 20 = .ok (.aload_n 0, 1) := dk_42 (dk_at dksX7_reads_0 20 rfl rfl)
theorem dX7_reads_21 : decode cX7_reads 21 = .ok (.ldc2_w 198, 3) := dk_20 0 198 (dk_at dksX7_reads_0 21 rfl rfl)
theorem dX7_reads_24 : decode cX7_reads 24 = .ok (.invokevirtual 200, 3) := dk_182 0 200 (dk_at dksX7_reads_1 0 rfl rfl)
theorem dX7_reads_27 : decode cX7_reads 27 = .ok (.istore 4, 2) := dk_54 4 (dk_at dksX7_reads_1 3 rfl rfl)
theorem dX7_reads_29 : decode cX7_reads 29 = .ok (.aload_n 0, 1) := dk_42 (dk_at dksX7_reads_1 5 rfl rfl)
theorem dX7_reads_30 : decode cX7_reads 30 = .ok (.bipush 40, 2) := dk_16 40 (dk_at dksX7_reads_1 6 rfl rfl)
theorem dX7_reads_32 : decode cX7_reads 32 = .ok (.invokevirtual 204, 3) := dk_182 0 204 (dk_at dksX7_reads_1 8 rfl rfl)
theorem dX7_reads_35 : decode cX7_reads 35 = .ok (.istore 5, 2) := dk_54 5 (dk_at dksX7_reads_1 11 rfl rfl)
theorem dX7_reads_37 : decode cX7_reads 37 = .ok (.iload_n 3, 1) := dk_29 (dk_at dksX7_reads_1 13 rfl rfl)
theorem dX7_reads_38 : decode cX7_reads 38 = .ok (.ifCond .ne 27, 3) := dk_154 0 27 (dk_at dksX7_reads_1 14 rfl rfl)
theorem dX7_reads_41 : decode cX7_reads 41 = .ok (.iload 4, 2) := dk_21 4 (dk_at dksX7_reads_1 17 rfl rfl)
theorem dX7_reads_43 : decode cX7_reads 43 = .ok (.ifCond .ne 22, 3) := dk_154 0 22 (dk_at dksX7_reads_1 19 rfl rfl)
theorem dX7_reads_46 : decode cX7_reads 46 = .ok (.iload 5, 2) := dk_21 5 (dk_at dksX7_reads_1 22 rfl rfl)
theorem dX7_reads_48 : decode cX7_reads 48 = .ok (.ifCond .ne 17, 3) := dk_154 0 17 (dk_at dksX7_reads_2 0 rfl rfl)
theorem dX7_reads_51 : decode cX7_reads 51 = .ok (.aload_n 0, 1) := dk_42 (dk_at dksX7_reads_2 3 rfl rfl)
theorem dX7_reads_52 : decode cX7_reads 52 = .ok (.getfield 169, 3) := dk_180 0 169 (dk_at dksX7_reads_2 4 rfl rfl)
theorem dX7_reads_55 : decode cX7_reads 55 = .ok (.iconst 2, 1) := dk_5 (dk_at dksX7_reads_2 7 rfl rfl)
theorem dX7_reads_56 : decode cX7_reads 56 = .ok (.if_icmp .eq 9, 3) := dk_159 0 9 (dk_at dksX7_reads_2 8 rfl rfl)
theorem dX7_reads_59 : decode cX7_reads 59 = .ok (.aload_n 0, 1) := dk_42 (dk_at dksX7_reads_2 11 rfl rfl)
theorem dX7_reads_60 : decode cX7_reads 60 = .ok (.iconst 1, 1) := dk_4 (dk_at dksX7_reads_2 12 rfl rfl)
theorem dX7_reads_61 : decode cX7_reads 61 = .ok (.invokevirtual 208, 3) := dk_182 0 208 (dk_at dksX7_reads_2 13 rfl rfl)
theorem dX7_reads_64 : decode cX7_reads 64 = .ok (.ireturn, 1) := dk_172 (dk_at dksX7_reads_2 16 rfl rfl)
theorem dX7_reads_65 : decode cX7_reads 65 = .ok (.iload_n 1, 1) := dk_27 (dk_at dksX7_reads_2 17 rfl rfl)
theorem dX7_reads_66 : decode cX7_reads 66 = .ok (.iconst 5, 1) := dk_8 (dk_at dksX7_reads_2 18 rfl rfl)
theorem dX7_reads_67 : decode cX7_reads 67 = .ok (.if_icmp .ne 9, 3) := dk_160 0 9 (dk_at dksX7_reads_2 19 rfl rfl)
theorem dX7_reads_70 : decode cX7_reads 70 = .ok (.aload_n 0, 1) := dk_42 (dk_at dksX7_reads_2 22 rfl rfl)
theorem dX7_reads_71 : decode cX7_reads 71 = .ok (.iconst 5, 1) := dk_8 (dk_at dksX7_reads_2 23 rfl rfl)
theorem dX7_reads_72 : decode cX7_reads 72 = .ok (.invokevirtual 208, 3) := dk_182 0 208 (dk_at dksX7_reads_3 0 rfl rfl)
theorem dX7_reads_75 : decode cX7_reads 75 = .ok (.ireturn, 1) := dk_172 (dk_at dksX7_reads_3 3 rfl rfl)
theorem dX7_reads_76 : decode cX7_reads 76 = .ok (.iload 4, 2) := dk_21 4 (dk_at dksX7_reads_3 4 rfl rfl)
theorem dX7_reads_78 : decode cX7_reads 78 = .ok (.ifCond .ne 8, 3) := dk_154 0 8 (dk_at dksX7_reads_3 6 rfl rfl)
theorem dX7_reads_81 : decode cX7_reads 81 = .ok (.iload 5, 2) := dk_21 5 (dk_at dksX7_reads_3 9 rfl rfl)
theorem dX7_reads_83 : decode cX7_reads 83 = .ok (.ifCond .eq 48, 3) := dk_153 0 48 (dk_at dksX7_reads_3 11 rfl rfl)
theorem dX7_reads_86 : decode cX7_reads 86 = .ok (.aload_n 0, 1) := dk_42 (dk_at dksX7_reads_3 14 rfl rfl)
theorem dX7_reads_87 : decode cX7_reads 87 = .ok (.iload 4, 2) := dk_21 4 (dk_at dksX7_reads_3 15 rfl rfl)
theorem dX7_reads_89 : decode cX7_reads 89 = .ok (.ifCond .eq 8, 3) := dk_153 0 8 (dk_at dksX7_reads_3 17 rfl rfl)
theorem dX7_reads_92 : decode cX7_reads 92 = .ok (.bipush 30, 2) := dk_16 30 (dk_at dksX7_reads_3 20 rfl rfl)
theorem dX7_reads_94 : decode cX7_reads 94 = .ok (.goto 5, 3) := dk_167 0 5 (dk_at dksX7_reads_4 0 rfl rfl)
theorem dX7_reads_97 : decode cX7_reads 97 = .ok (.bipush 28, 2) := dk_16 28 (dk_at dksX7_reads_4 3 rfl rfl)
theorem dX7_reads_99 : decode cX7_reads 99 = .ok (.invokevirtual 211, 3) := dk_182 0 211 (dk_at dksX7_reads_4 5 rfl rfl)
theorem dX7_reads_102 : decode cX7_reads 102 = .ok (.iinc 1 1, 3) := dk_132 1 1 (dk_at dksX7_reads_4 8 rfl rfl)
theorem dX7_reads_105 : decode cX7_reads 105 = .ok (.aload_n 0, 1) := dk_42 (dk_at dksX7_reads_4 11 rfl rfl)
theorem dX7_reads_106 : decode cX7_reads 106 = .ok (.getfield 53, 3) := dk_180 0 53 (dk_at dksX7_reads_4 12 rfl rfl)
theorem dX7_reads_109 : decode cX7_reads 109 = .ok (.iload_n 1, 1) := dk_27 (dk_at dksX7_reads_4 15 rfl rfl)
theorem dX7_reads_110 : decode cX7_reads 110 = .ok (.iload 4, 2) := dk_21 4 (dk_at dksX7_reads_4 16 rfl rfl)
theorem dX7_reads_112 : decode cX7_reads 112 = .ok (.ifCond .eq 7, 3) := dk_153 0 7 (dk_at dksX7_reads_4 18 rfl rfl)
theorem dX7_reads_115 : decode cX7_reads 115 = .ok (.iconst 1, 1) := dk_4 (dk_at dksX7_reads_4 21 rfl rfl)
theorem dX7_reads_116 : decode cX7_reads 116 = .ok (.goto 4, 3) := dk_167 0 4 (dk_at dksX7_reads_5 0 rfl rfl)
theorem dX7_reads_119 : decode cX7_reads 119 = .ok (.iconst 2, 1) := dk_5 (dk_at dksX7_reads_5 3 rfl rfl)
theorem dX7_reads_120 : decode cX7_reads 120 = .ok (.iastore, 1) := dk_79 (dk_at dksX7_reads_5 4 rfl rfl)
theorem dX7_reads_121 : decode cX7_reads 121 = .ok (.aload_n 0, 1) := dk_42 (dk_at dksX7_reads_5 5 rfl rfl)
theorem dX7_reads_122 : decode cX7_reads 122 = .ok (.getfield 56, 3) := dk_180 0 56 (dk_at dksX7_reads_5 6 rfl rfl)
theorem dX7_reads_125 : decode cX7_reads 125 = .ok (.iload_n 1, 1) := dk_27 (dk_at dksX7_reads_5 9 rfl rfl)
theorem dX7_reads_126 : decode cX7_reads 126 = .ok (.iconst 0, 1) := dk_3 (dk_at dksX7_reads_5 10 rfl rfl)
theorem dX7_reads_127 : decode cX7_reads 127 = .ok (.bastore, 1) := dk_84 (dk_at dksX7_reads_5 11 rfl rfl)
theorem dX7_reads_128 : decode cX7_reads 128 = .ok (.goto 44, 3) := dk_167 0 44 (dk_at dksX7_reads_5 12 rfl rfl)
theorem dX7_reads_131 : decode cX7_reads 131 = .ok (.aload_n 0, 1) := dk_42 (dk_at dksX7_reads_5 15 rfl rfl)
theorem dX7_reads_132 : decode cX7_reads 132 = .ok (.iload_n 3, 1) := dk_29 (dk_at dksX7_reads_5 16 rfl rfl)
theorem dX7_reads_133 : decode cX7_reads 133 = .ok (.ifCond .le 7, 3) := dk_158 0 7 (dk_at dksX7_reads_5 17 rfl rfl)
theorem dX7_reads_136 : decode cX7_reads 136 = .ok (.iload_n 3, 1) := dk_29 (dk_at dksX7_reads_5 20 rfl rfl)
theorem dX7_reads_137 : decode cX7_reads 137 = .ok (.goto 10, 3) := dk_167 0 10 (dk_at dksX7_reads_5 21 rfl rfl)
theorem dX7_reads_140 : decode cX7_reads 140 = .ok (.bipush 100, 2) := dk_16 100 (dk_at dksX7_reads_6 0 rfl rfl)
theorem dX7_reads_142 : decode cX7_reads 142 = .ok (.aload_n 0, 1) := dk_42 (dk_at dksX7_reads_6 2 rfl rfl)
theorem dX7_reads_143 : decode cX7_reads 143 = .ok (.getfield 166, 3) := dk_180 0 166 (dk_at dksX7_reads_6 3 rfl rfl)
theorem dX7_reads_146 : decode cX7_reads 146 = .ok (.iadd, 1) := dk_96 (dk_at dksX7_reads_6 6 rfl rfl)
theorem dX7_reads_147 : decode cX7_reads 147 = .ok (.invokevirtual 211, 3) := dk_182 0 211 (dk_at dksX7_reads_6 7 rfl rfl)
theorem dX7_reads_150 : decode cX7_reads 150 = .ok (.iconst 0, 1) := dk_3 (dk_at dksX7_reads_6 10 rfl rfl)
theorem dX7_reads_151 : decode cX7_reads 151 = .ok (.istore_n 2, 1) := dk_61 (dk_at dksX7_reads_6 11 rfl rfl)
theorem dX7_reads_152 : decode cX7_reads 152 = .ok (.iload_n 1, 1) := dk_27 (dk_at dksX7_reads_6 12 rfl rfl)
theorem dX7_reads_153 : decode cX7_reads 153 = .ok (.ifCond .le 19, 3) := dk_158 0 19 (dk_at dksX7_reads_6 13 rfl rfl)
theorem dX7_reads_156 : decode cX7_reads 156 = .ok (.aload_n 0, 1) := dk_42 (dk_at dksX7_reads_6 16 rfl rfl)
theorem dX7_reads_157 : decode cX7_reads 157 = .ok (.getfield 53, 3) := dk_180 0 53 (dk_at dksX7_reads_6 17 rfl rfl)
theorem dX7_reads_160 : decode cX7_reads 160 = .ok (.iload_n 1, 1) := dk_27 (dk_at dksX7_reads_6 20 rfl rfl)
theorem dX7_reads_161 : decode cX7_reads 161 = .ok (.iaload, 1) := dk_46 (dk_at dksX7_reads_6 21 rfl rfl)
theorem dX7_reads_162 : decode cX7_reads 162 = .ok (.iconst 1, 1) := dk_4 (dk_at dksX7_reads_6 22 rfl rfl)
theorem dX7_reads_163 : decode cX7_reads 163 = .ok (.if_icmp .ne 9, 3) := dk_160 0 9 (dk_at dksX7_reads_7 0 rfl rfl)
theorem dX7_reads_166 : decode cX7_reads 166 = .ok (.iinc 1 (-1), 3) := dk_132 1 255 (dk_at dksX7_reads_7 3 rfl rfl)
theorem dX7_reads_169 : decode cX7_reads 169 = .ok (.goto (-17), 3) := dk_167 255 239 (dk_at dksX7_reads_7 6 rfl rfl)
theorem dX7_reads_172 : decode cX7_reads 172 = .ok (.aload_n 0, 1) := dk_42 (dk_at dksX7_reads_7 9 rfl rfl)
theorem dX7_reads_173 : decode cX7_reads 173 = .ok (.invokevirtual 215, 3) := dk_182 0 215 (dk_at dksX7_reads_7 10 rfl rfl)
theorem dX7_reads_176 : decode cX7_reads 176 = .ok (.goto (-165), 3) := dk_167 255 91 (dk_at dksX7_reads_7 13 rfl rfl)
theorem dX7_reads_179 : decode cX7_reads 179 = .ok (.aload_n 0, 1) := dk_42 (dk_at dksX7_reads_7 16 rfl rfl)
theorem dX7_reads_180 : decode cX7_reads 180 = .ok (.bipush 43, 2) := dk_16 43 (dk_at dksX7_reads_7 17 rfl rfl)
theorem dX7_reads_182 : decode cX7_reads 182 = .ok (.invokevirtual 204, 3) := dk_182 0 204 (dk_at dksX7_reads_7 19 rfl rfl)
theorem dX7_reads_185 : decode cX7_reads 185 = .ok (.ifCond .ne 21, 3) := dk_154 0 21 (dk_at dksX7_reads_8 0 rfl rfl)
theorem dX7_reads_188 : decode cX7_reads 188 = .ok (.aload_n 0, 1) := dk_42 (dk_at dksX7_reads_8 3 rfl rfl)
theorem dX7_reads_189 : decode cX7_reads 189 = .ok (.bipush 45, 2) := dk_16 45 (dk_at dksX7_reads_8 4 rfl rfl)
theorem dX7_reads_191 : decode cX7_reads 191 = .ok (.invokevirtual 204, 3) := dk_182 0 204 (dk_at dksX7_reads_8 6 rfl rfl)
theorem dX7_reads_194 : decode cX7_reads 194 = .ok (.ifCond .ne 12, 3) := dk_154 0 12 (dk_at dksX7_reads_8 9 rfl rfl)
theorem dX7_reads_197 : decode cX7_reads 197 = .ok (.aload_n 0, 1) := dk_42 (dk_at dksX7_reads_8 12 rfl rfl)
theorem dX7_reads_198 : decode cX7_reads 198 = .ok (.bipush 42, 2) := dk_16 42 (dk_at dksX7_reads_8 13 rfl rfl)
theorem dX7_reads_200 : decode cX7_reads 200 = .ok (.invokevirtual 204, 3) := dk_182 0 204 (dk_at dksX7_reads_8 15 rfl rfl)
theorem dX7_reads_203 : decode cX7_reads 203 = .ok (.ifCond .eq 42, 3) := dk_153 0 42 (dk_at dksX7_reads_8 18 rfl rfl)
theorem dX7_reads_206 : decode cX7_reads 206 = .ok (.aload_n 0, 1) := dk_42 (dk_at dksX7_reads_8 21 rfl rfl)
theorem dX7_reads_207 : decode cX7_reads 207 = .ok (.aload_n 0, 1) := dk_42 (dk_at dksX7_reads_8 22 rfl rfl)
theorem dX7_reads_208 : decode cX7_reads 208 = .ok (.bipush 43, 2) := dk_16 43 (dk_at dksX7_reads_9 0 rfl rfl)
theorem dX7_reads_210 : decode cX7_reads 210 = .ok (.invokevirtual 204, 3) := dk_182 0 204 (dk_at dksX7_reads_9 2 rfl rfl)
theorem dX7_reads_213 : decode cX7_reads 213 = .ok (.ifCond .eq 8, 3) := dk_153 0 8 (dk_at dksX7_reads_9 5 rfl rfl)
theorem dX7_reads_216 : decode cX7_reads 216 = .ok (.bipush 20, 2) := dk_16 20 (dk_at dksX7_reads_9 8 rfl rfl)
theorem dX7_reads_218 : decode cX7_reads 218 = .ok (.goto 19, 3) := dk_167 0 19 (dk_at dksX7_reads_9 10 rfl rfl)
theorem dX7_reads_221 : decode cX7_reads 221 = .ok (.aload_n 0, 1) := dk_42 (dk_at dksX7_reads_9 13 rfl rfl)
theorem dX7_reads_222 : decode cX7_reads 222 = .ok (.bipush 45, 2) := dk_16 45 (dk_at dksX7_reads_9 14 rfl rfl)
theorem dX7_reads_224 : decode cX7_reads 224 = .ok (.invokevirtual 204, 3) := dk_182 0 204 (dk_at dksX7_reads_9 16 rfl rfl)
theorem dX7_reads_227 : decode cX7_reads 227 = .ok (.ifCond .eq 8, 3) := dk_153 0 8 (dk_at dksX7_reads_9 19 rfl rfl)
theorem dX7_reads_230 : decode cX7_reads 230 = .ok (.bipush 21, 2) := dk_16 21 (dk_at dksX7_reads_9 22 rfl rfl)
theorem dX7_reads_232 : decode cX7_reads 232 = .ok (.goto 5, 3) := dk_167 0 5 (dk_at dksX7_reads_10 0 rfl rfl)
theorem dX7_reads_235 : decode cX7_reads 235 = .ok (.bipush 22, 2) := dk_16 22 (dk_at dksX7_reads_10 3 rfl rfl)
theorem dX7_reads_237 : decode cX7_reads 237 = .ok (.invokevirtual 211, 3) := dk_182 0 211 (dk_at dksX7_reads_10 5 rfl rfl)
theorem dX7_reads_240 : decode cX7_reads 240 = .ok (.iconst 1, 1) := dk_4 (dk_at dksX7_reads_10 8 rfl rfl)
theorem dX7_reads_241 : decode cX7_reads 241 = .ok (.istore_n 2, 1) := dk_61 (dk_at dksX7_reads_10 9 rfl rfl)
theorem dX7_reads_242 : decode cX7_reads 242 = .ok (.goto 182, 3) := dk_167 0 182 (dk_at dksX7_reads_10 10 rfl rfl)
theorem dX7_reads_245 : decode cX7_reads 245 = .ok (.aload_n 0, 1) := dk_42 (dk_at dksX7_reads_10 13 rfl rfl)
theorem dX7_reads_246 : decode cX7_reads 246 = .ok (.bipush 60, 2) := dk_16 60 (dk_at dksX7_reads_10 14 rfl rfl)
theorem dX7_reads_248 : decode cX7_reads 248 = .ok (.invokevirtual 204, 3) := dk_182 0 204 (dk_at dksX7_reads_10 16 rfl rfl)
theorem dX7_reads_251 : decode cX7_reads 251 = .ok (.ifCond .ne 12, 3) := dk_154 0 12 (dk_at dksX7_reads_10 19 rfl rfl)
theorem dX7_reads_254 : decode cX7_reads 254 = .ok (.aload_n 0, 1) := dk_42 (dk_at dksX7_reads_10 22 rfl rfl)
theorem dX7_reads_255 : decode cX7_reads 255 = .ok (.bipush 61, 2) := dk_16 61 (dk_at dksX7_reads_11 0 rfl rfl)
theorem dX7_reads_257 : decode cX7_reads 257 = .ok (.invokevirtual 204, 3) := dk_182 0 204 (dk_at dksX7_reads_11 2 rfl rfl)
theorem dX7_reads_260 : decode cX7_reads 260 = .ok (.ifCond .eq 44, 3) := dk_153 0 44 (dk_at dksX7_reads_11 5 rfl rfl)
theorem dX7_reads_263 : decode cX7_reads 263 = .ok (.aload_n 0, 1) := dk_42 (dk_at dksX7_reads_11 8 rfl rfl)
theorem dX7_reads_264 : decode cX7_reads 264 = .ok (.getfield 56, 3) := dk_180 0 56 (dk_at dksX7_reads_11 9 rfl rfl)
theorem dX7_reads_267 : decode cX7_reads 267 = .ok (.iload_n 1, 1) := dk_27 (dk_at dksX7_reads_11 12 rfl rfl)
theorem dX7_reads_268 : decode cX7_reads 268 = .ok (.baload, 1) := dk_51 (dk_at dksX7_reads_11 13 rfl rfl)
theorem dX7_reads_269 : decode cX7_reads 269 = .ok (.ifCond .ne 35, 3) := dk_154 0 35 (dk_at dksX7_reads_11 14 rfl rfl)
theorem dX7_reads_272 : decode cX7_reads 272 = .ok (.aload_n 0, 1) := dk_42 (dk_at dksX7_reads_11 17 rfl rfl)
theorem dX7_reads_273 : decode cX7_reads 273 = .ok (.aload_n 0, 1) := dk_42 (dk_at dksX7_reads_11 18 rfl rfl)
theorem dX7_reads_274 : decode cX7_reads 274 = .ok (.bipush 60, 2) := dk_16 60 (dk_at dksX7_reads_11 19 rfl rfl)
theorem dX7_reads_276 : decode cX7_reads 276 = .ok (.invokevirtual 204, 3) := dk_182 0 204 (dk_at dksX7_reads_11 21 rfl rfl)
theorem dX7_reads_279 : decode cX7_reads 279 = .ok (.ifCond .eq 8, 3) := dk_153 0 8 (dk_at dksX7_reads_12 0 rfl rfl)
theorem dX7_reads_282 : decode cX7_reads 282 = .ok (.bipush 24, 2) := dk_16 24 (dk_at dksX7_reads_12 3 rfl rfl)
theorem dX7_reads_284 : decode cX7_reads 284 = .ok (.goto 5, 3) := dk_167 0 5 (dk_at dksX7_reads_12 5 rfl rfl)
theorem dX7_reads_287 : decode cX7_reads 287 = .ok (.bipush 25, 2) := dk_16 25 (dk_at dksX7_reads_12 8 rfl rfl)
theorem dX7_reads_289 : decode cX7_reads 289 = .ok (.invokevirtual 211, 3) := dk_182 0 211 (dk_at dksX7_reads_12 10 rfl rfl)
theorem dX7_reads_292 : decode cX7_reads 292 = .ok (.aload_n 0, 1) := dk_42 (dk_at dksX7_reads_12 13 rfl rfl)
theorem dX7_reads_293 : decode cX7_reads 293 = .ok (.getfield 56, 3) := dk_180 0 56 (dk_at dksX7_reads_12 14 rfl rfl)
theorem dX7_reads_296 : decode cX7_reads 296 = .ok (.iload_n 1, 1) := dk_27 (dk_at dksX7_reads_12 17 rfl rfl)
theorem dX7_reads_297 : decode cX7_reads 297 = .ok (.iconst 1, 1) := dk_4 (dk_at dksX7_reads_12 18 rfl rfl)
theorem dX7_reads_298 : decode cX7_reads 298 = .ok (.bastore, 1) := dk_84 (dk_at dksX7_reads_12 19 rfl rfl)
theorem dX7_reads_299 : decode cX7_reads 299 = .ok (.iconst 1, 1) := dk_4 (dk_at dksX7_reads_12 20 rfl rfl)
theorem dX7_reads_300 : decode cX7_reads 300 = .ok (.istore_n 2, 1) := dk_61 (dk_at dksX7_reads_12 21 rfl rfl)
theorem dX7_reads_301 : decode cX7_reads 301 = .ok (.goto 123, 3) := dk_167 0 123 (dk_at dksX7_reads_13 0 rfl rfl)
theorem dX7_reads_304 : decode cX7_reads 304 = .ok (.aload_n 0, 1) := dk_42 (dk_at dksX7_reads_13 3 rfl rfl)
theorem dX7_reads_305 : decode cX7_reads 305 = .ok (.ldc2_w 218, 3) := dk_20 0 218 (dk_at dksX7_reads_13 4 rfl rfl)
theorem dX7_reads_308 : decode cX7_reads 308 = .ok (.invokevirtual 200, 3) := dk_182 0 200 (dk_at dksX7_reads_13 7 rfl rfl)
theorem dX7_reads_311 : decode cX7_reads 311 = .ok (.ifCond .ne 13, 3) := dk_154 0 13 (dk_at dksX7_reads_13 10 rfl rfl)
theorem dX7_reads_314 : decode cX7_reads 314 = .ok (.aload_n 0, 1) := dk_42 (dk_at dksX7_reads_13 13 rfl rfl)
theorem dX7_reads_315 : decode cX7_reads 315 = .ok (.ldc2_w 220, 3) := dk_20 0 220 (dk_at dksX7_reads_13 14 rfl rfl)
theorem dX7_reads_318 : decode cX7_reads 318 = .ok (.invokevirtual 200, 3) := dk_182 0 200 (dk_at dksX7_reads_13 17 rfl rfl)
theorem dX7_reads_321 : decode cX7_reads 321 = .ok (.ifCond .eq 36, 3) := dk_153 0 36 (dk_at dksX7_reads_13 20 rfl rfl)
theorem dX7_reads_324 : decode cX7_reads 324 = .ok (.aload_n 0, 1) := dk_42 (dk_at dksX7_reads_13 23 rfl rfl)
theorem dX7_reads_325 : decode cX7_reads 325 = .ok (.aload_n 0, 1) := dk_42 (dk_at dksX7_reads_14 0 rfl rfl)
theorem dX7_reads_326 : decode cX7_reads 326 = .ok (.ldc2_w 218, 3) := dk_20 0 218 (dk_at dksX7_reads_14 1 rfl rfl)
theorem dX7_reads_329 : decode cX7_reads 329 = .ok (.invokevirtual 200, 3) := dk_182 0 200 (dk_at dksX7_reads_14 4 rfl rfl)
theorem dX7_reads_332 : decode cX7_reads 332 = .ok (.ifCond .eq 8, 3) := dk_153 0 8 (dk_at dksX7_reads_14 7 rfl rfl)
theorem dX7_reads_335 : decode cX7_reads 335 = .ok (.bipush 26, 2) := dk_16 26 (dk_at dksX7_reads_14 10 rfl rfl)
theorem dX7_reads_337 : decode cX7_reads 337 = .ok (.goto 5, 3) := dk_167 0 5 (dk_at dksX7_reads_14 12 rfl rfl)
theorem dX7_reads_340 : decode cX7_reads 340 = .ok (.bipush 27, 2) := dk_16 27 (dk_at dksX7_reads_14 15 rfl rfl)
theorem dX7_reads_342 : decode cX7_reads 342 = .ok (.invokevirtual 211, 3) := dk_182 0 211 (dk_at dksX7_reads_14 17 rfl rfl)
theorem dX7_reads_345 : decode cX7_reads 345 = .ok (.aload_n 0, 1) := dk_42 (dk_at dksX7_reads_14 20 rfl rfl)
theorem dX7_reads_346 : decode cX7_reads 346 = .ok (.getfield 56, 3) := dk_180 0 56 (dk_at dksX7_reads_14 21 rfl rfl)
theorem dX7_reads_349 : decode cX7_reads 349 = .ok (.iload_n 1, 1) := dk_27 (dk_at dksX7_reads_15 0 rfl rfl)
theorem dX7_reads_350 : decode cX7_reads 350 = .ok (.iconst 0, 1) := dk_3 (dk_at dksX7_reads_15 1 rfl rfl)
theorem dX7_reads_351 : decode cX7_reads 351 = .ok (.bastore, 1) := dk_84 (dk_at dksX7_reads_15 2 rfl rfl)
theorem dX7_reads_352 : decode cX7_reads 352 = .ok (.iconst 1, 1) := dk_4 (dk_at dksX7_reads_15 3 rfl rfl)
theorem dX7_reads_353 : decode cX7_reads 353 = .ok (.istore_n 2, 1) := dk_61 (dk_at dksX7_reads_15 4 rfl rfl)
theorem dX7_reads_354 : decode cX7_reads 354 = .ok (.goto 70, 3) := dk_167 0 70 (dk_at dksX7_reads_15 5 rfl rfl)
theorem dX7_reads_357 : decode cX7_reads 357 = .ok (.aload_n 0, 1) := dk_42 (dk_at dksX7_reads_15 8 rfl rfl)
theorem dX7_reads_358 : decode cX7_reads 358 = .ok (.bipush 41, 2) := dk_16 41 (dk_at dksX7_reads_15 9 rfl rfl)
theorem dX7_reads_360 : decode cX7_reads 360 = .ok (.invokevirtual 204, 3) := dk_182 0 204 (dk_at dksX7_reads_15 11 rfl rfl)
theorem dX7_reads_363 : decode cX7_reads 363 = .ok (.ifCond .eq 36, 3) := dk_153 0 36 (dk_at dksX7_reads_15 14 rfl rfl)
theorem dX7_reads_366 : decode cX7_reads 366 = .ok (.iload_n 1, 1) := dk_27 (dk_at dksX7_reads_15 17 rfl rfl)
theorem dX7_reads_367 : decode cX7_reads 367 = .ok (.ifCond .le 32, 3) := dk_158 0 32 (dk_at dksX7_reads_15 18 rfl rfl)
theorem dX7_reads_370 : decode cX7_reads 370 = .ok (.aload_n 0, 1) := dk_42 (dk_at dksX7_reads_15 21 rfl rfl)
theorem dX7_reads_371 : decode cX7_reads 371 = .ok (.bipush 29, 2) := dk_16 29 (dk_at dksX7_reads_15 22 rfl rfl)
theorem dX7_reads_373 : decode cX7_reads 373 = .ok (.invokevirtual 211, 3) := dk_182 0 211 (dk_at dksX7_reads_16 0 rfl rfl)
theorem dX7_reads_376 : decode cX7_reads 376 = .ok (.iinc 1 (-1), 3) := dk_132 1 255 (dk_at dksX7_reads_16 3 rfl rfl)
theorem dX7_reads_379 : decode cX7_reads 379 = .ok (.iload_n 1, 1) := dk_27 (dk_at dksX7_reads_16 6 rfl rfl)
theorem dX7_reads_380 : decode cX7_reads 380 = .ok (.ifCond .le 44, 3) := dk_158 0 44 (dk_at dksX7_reads_16 7 rfl rfl)
theorem dX7_reads_383 : decode cX7_reads 383 = .ok (.aload_n 0, 1) := dk_42 (dk_at dksX7_reads_16 10 rfl rfl)
theorem dX7_reads_384 : decode cX7_reads 384 = .ok (.getfield 53, 3) := dk_180 0 53 (dk_at dksX7_reads_16 11 rfl rfl)
theorem dX7_reads_387 : decode cX7_reads 387 = .ok (.iload_n 1, 1) := dk_27 (dk_at dksX7_reads_16 14 rfl rfl)
theorem dX7_reads_388 : decode cX7_reads 388 = .ok (.iaload, 1) := dk_46 (dk_at dksX7_reads_16 15 rfl rfl)
theorem dX7_reads_389 : decode cX7_reads 389 = .ok (.iconst 1, 1) := dk_4 (dk_at dksX7_reads_16 16 rfl rfl)
theorem dX7_reads_390 : decode cX7_reads 390 = .ok (.if_icmp .ne 34, 3) := dk_160 0 34 (dk_at dksX7_reads_16 17 rfl rfl)
theorem dX7_reads_393 : decode cX7_reads 393 = .ok (.iinc 1 (-1), 3) := dk_132 1 255 (dk_at dksX7_reads_16 20 rfl rfl)
theorem dX7_reads_396 : decode cX7_reads 396 = .ok (.goto (-17), 3) := dk_167 255 239 (dk_at dksX7_reads_17 0 rfl rfl)
theorem dX7_reads_399 : decode cX7_reads 399 = .ok (.iload_n 1, 1) := dk_27 (dk_at dksX7_reads_17 3 rfl rfl)
theorem dX7_reads_400 : decode cX7_reads 400 = .ok (.ifCond .ne 18, 3) := dk_154 0 18 (dk_at dksX7_reads_17 4 rfl rfl)
theorem dX7_reads_403 : decode cX7_reads 403 = .ok (.aload_n 0, 1) := dk_42 (dk_at dksX7_reads_17 7 rfl rfl)
theorem dX7_reads_404 : decode cX7_reads 404 = .ok (.bipush 59, 2) := dk_16 59 (dk_at dksX7_reads_17 8 rfl rfl)
theorem dX7_reads_406 : decode cX7_reads 406 = .ok (.invokevirtual 204, 3) := dk_182 0 204 (dk_at dksX7_reads_17 10 rfl rfl)
theorem dX7_reads_409 : decode cX7_reads 409 = .ok (.ifCond .eq 9, 3) := dk_153 0 9 (dk_at dksX7_reads_17 13 rfl rfl)
theorem dX7_reads_412 : decode cX7_reads 412 = .ok (.aload_n 0, 1) := dk_42 (dk_at dksX7_reads_17 16 rfl rfl)
theorem dX7_reads_413 : decode cX7_reads 413 = .ok (.invokevirtual 215, 3) := dk_182 0 215 (dk_at dksX7_reads_17 17 rfl rfl)
theorem dX7_reads_416 : decode cX7_reads 416 = .ok (.iconst 1, 1) := dk_4 (dk_at dksX7_reads_17 20 rfl rfl)
theorem dX7_reads_417 : decode cX7_reads 417 = .ok (.ireturn, 1) := dk_172 (dk_at dksX7_reads_17 21 rfl rfl)
theorem dX7_reads_418 : decode cX7_reads 418 = .ok (.aload_n 0, 1) := dk_42 (dk_at dksX7_reads_17 22 rfl rfl)
theorem dX7_reads_419 : decode cX7_reads 419 = .ok (.iconst 1, 1) := dk_4 (dk_at dksX7_reads_17 23 rfl rfl)
theorem dX7_reads_420 : decode cX7_reads 420 = .ok (.invokevirtual 208, 3) := dk_182 0 208 (dk_at dksX7_reads_18 0 rfl rfl)
theorem dX7_reads_423 : decode cX7_reads 423 = .ok (.ireturn, 1) := dk_172 (dk_at dksX7_reads_18 3 rfl rfl)
theorem dX7_reads_424 : decode cX7_reads 424 = .ok (.aload_n 0, 1) := dk_42 (dk_at dksX7_reads_18 4 rfl rfl)
theorem dX7_reads_425 : decode cX7_reads 425 = .ok (.invokevirtual 215, 3) := dk_182 0 215 (dk_at dksX7_reads_18 5 rfl rfl)
theorem dX7_reads_428 : decode cX7_reads 428 = .ok (.goto (-417), 3) := dk_167 254 95 (dk_at dksX7_reads_18 8 rfl rfl)
abbrev cX7_readsShows : ByteArray := prog_32_method_31_code
abbrev yX7_readsShows : MethodName := { cls := "WornSkinModel", name := "readsShows", desc := "()Z" }
def dkwX7_readsShows_2 : List UInt8 := [180, 0, 47, 4, 42, 180, 0, 183, 79, 4, 172]
abbrev dktX7_readsShows_2 : List UInt8 := dkwX7_readsShows_2 ++ []
def dkwX7_readsShows_1 : List UInt8 := [182, 0, 215, 42, 180, 0, 44, 4, 42, 180, 0, 183, 79, 42, 182, 1, 46, 154, 0, 5, 3, 172, 42]
abbrev dktX7_readsShows_1 : List UInt8 := dkwX7_readsShows_1 ++ dktX7_readsShows_2
def dkwX7_readsShows_0 : List UInt8 := [42, 180, 0, 47, 4, 46, 42, 180, 0, 44, 4, 46, 164, 0, 9, 42, 6, 182, 0, 208, 172, 42]
abbrev dktX7_readsShows_0 : List UInt8 := dkwX7_readsShows_0 ++ dktX7_readsShows_1
theorem dksX7_readsShows_0 : cX7_readsShows.data.toList.drop 0 = dktX7_readsShows_0 := by decide +kernel
theorem dksX7_readsShows_1 : cX7_readsShows.data.toList.drop 22 = dktX7_readsShows_1 := dk_seg dksX7_readsShows_0 22 rfl rfl
theorem dksX7_readsShows_2 : cX7_readsShows.data.toList.drop 45 = dktX7_readsShows_2 := dk_seg dksX7_readsShows_1 23 rfl rfl
theorem dX7_readsShows_0 : decode cX7_readsShows 0 = .ok (.aload_n 0, 1) := dk_42 (dk_at dksX7_readsShows_0 0 rfl rfl)
theorem dX7_readsShows_1 : decode cX7_readsShows 1 = .ok (.getfield 47, 3) := dk_180 0 47 (dk_at dksX7_readsShows_0 1 rfl rfl)
theorem dX7_readsShows_4 : decode cX7_readsShows 4 = .ok (.iconst 1, 1) := dk_4 (dk_at dksX7_readsShows_0 4 rfl rfl)
theorem dX7_readsShows_5 : decode cX7_readsShows 5 = .ok (.iaload, 1) := dk_46 (dk_at dksX7_readsShows_0 5 rfl rfl)
theorem dX7_readsShows_6 : decode cX7_readsShows 6 = .ok (.aload_n 0, 1) := dk_42 (dk_at dksX7_readsShows_0 6 rfl rfl)
theorem dX7_readsShows_7 : decode cX7_readsShows 7 = .ok (.getfield 44, 3) := dk_180 0 44 (dk_at dksX7_readsShows_0 7 rfl rfl)
theorem dX7_readsShows_10 : decode cX7_readsShows 10 = .ok (.iconst 1, 1) := dk_4 (dk_at dksX7_readsShows_0 10 rfl rfl)
theorem dX7_readsShows_11 : decode cX7_readsShows 11 = .ok (.iaload, 1) := dk_46 (dk_at dksX7_readsShows_0 11 rfl rfl)
theorem dX7_readsShows_12 : decode cX7_readsShows 12 = .ok (.if_icmp .le 9, 3) := dk_164 0 9 (dk_at dksX7_readsShows_0 12 rfl rfl)
theorem dX7_readsShows_15 : decode cX7_readsShows 15 = .ok (.aload_n 0, 1) := dk_42 (dk_at dksX7_readsShows_0 15 rfl rfl)
theorem dX7_readsShows_16 : decode cX7_readsShows 16 = .ok (.iconst 3, 1) := dk_6 (dk_at dksX7_readsShows_0 16 rfl rfl)
theorem dX7_readsShows_17 : decode cX7_readsShows 17 = .ok (.invokevirtual 208, 3) := dk_182 0 208 (dk_at dksX7_readsShows_0 17 rfl rfl)
theorem dX7_readsShows_20 : decode cX7_readsShows 20 = .ok (.ireturn, 1) := dk_172 (dk_at dksX7_readsShows_0 20 rfl rfl)
theorem dX7_readsShows_21 : decode cX7_readsShows 21 = .ok (.aload_n 0, 1) := dk_42 (dk_at dksX7_readsShows_0 21 rfl rfl)
theorem dX7_readsShows_22 : decode cX7_readsShows 22 = .ok (.invokevirtual 215, 3) := dk_182 0 215 (dk_at dksX7_readsShows_1 0 rfl rfl)
theorem dX7_readsShows_25 : decode cX7_readsShows 25 = .ok (.aload_n 0, 1) := dk_42 (dk_at dksX7_readsShows_1 3 rfl rfl)
theorem dX7_readsShows_26 : decode cX7_readsShows 26 = .ok (.getfield 44, 3) := dk_180 0 44 (dk_at dksX7_readsShows_1 4 rfl rfl)
theorem dX7_readsShows_29 : decode cX7_readsShows 29 = .ok (.iconst 1, 1) := dk_4 (dk_at dksX7_readsShows_1 7 rfl rfl)
theorem dX7_readsShows_30 : decode cX7_readsShows 30 = .ok (.aload_n 0, 1) := dk_42 (dk_at dksX7_readsShows_1 8 rfl rfl)
theorem dX7_readsShows_31 : decode cX7_readsShows 31 = .ok (.getfield 183, 3) := dk_180 0 183 (dk_at dksX7_readsShows_1 9 rfl rfl)
theorem dX7_readsShows_34 : decode cX7_readsShows 34 = .ok (.iastore, 1) := dk_79 (dk_at dksX7_readsShows_1 12 rfl rfl)
theorem dX7_readsShows_35 : decode cX7_readsShows 35 = .ok (.aload_n 0, 1) := dk_42 (dk_at dksX7_readsShows_1 13 rfl rfl)
theorem dX7_readsShows_36 : decode cX7_readsShows 36 = .ok (.invokevirtual 302, 3) := dk_182 1 46 (dk_at dksX7_readsShows_1 14 rfl rfl)
theorem dX7_readsShows_39 : decode cX7_readsShows 39 = .ok (.ifCond .ne 5, 3) := dk_154 0 5 (dk_at dksX7_readsShows_1 17 rfl rfl)
theorem dX7_readsShows_42 : decode cX7_readsShows 42 = .ok (.iconst 0, 1) := dk_3 (dk_at dksX7_readsShows_1 20 rfl rfl)
theorem dX7_readsShows_43 : decode cX7_readsShows 43 = .ok (.ireturn, 1) := dk_172 (dk_at dksX7_readsShows_1 21 rfl rfl)
theorem dX7_readsShows_44 : decode cX7_readsShows 44 = .ok (.aload_n 0, 1) := dk_42 (dk_at dksX7_readsShows_1 22 rfl rfl)
theorem dX7_readsShows_45 : decode cX7_readsShows 45 = .ok (.getfield 47, 3) := dk_180 0 47 (dk_at dksX7_readsShows_2 0 rfl rfl)
theorem dX7_readsShows_48 : decode cX7_readsShows 48 = .ok (.iconst 1, 1) := dk_4 (dk_at dksX7_readsShows_2 3 rfl rfl)
theorem dX7_readsShows_49 : decode cX7_readsShows 49 = .ok (.aload_n 0, 1) := dk_42 (dk_at dksX7_readsShows_2 4 rfl rfl)
theorem dX7_readsShows_50 : decode cX7_readsShows 50 = .ok (.getfield 183, 3) := dk_180 0 183 (dk_at dksX7_readsShows_2 5 rfl rfl)
theorem dX7_readsShows_53 : decode cX7_readsShows 53 = .ok (.iastore, 1) := dk_79 (dk_at dksX7_readsShows_2 8 rfl rfl)
theorem dX7_readsShows_54 : decode cX7_readsShows 54 = .ok (.iconst 1, 1) := dk_4 (dk_at dksX7_readsShows_2 9 rfl rfl)
theorem dX7_readsShows_55 : decode cX7_readsShows 55 = .ok (.ireturn, 1) := dk_172 (dk_at dksX7_readsShows_2 10 rfl rfl)
abbrev cX7_readsAll : ByteArray := prog_32_method_33_code
abbrev yX7_readsAll : MethodName := { cls := "WornSkinModel", name := "readsAll", desc := "()Z" }
def dkwX7_readsAll_6 : List UInt8 := [167, 0, 8, 42, 4, 182, 0, 208, 60, 27, 154, 0, 5, 3, 172, 167, 255, 152, 4, 172]
abbrev dktX7_readsAll_6 : List UInt8 := dkwX7_readsAll_6 ++ []
def dkwX7_readsAll_5 : List UInt8 := [153, 0, 10, 42, 182, 1, 61, 167, 0, 25, 42, 20, 0, 243, 182, 0, 200, 153, 0, 10, 42, 182, 1, 64]
abbrev dktX7_readsAll_5 : List UInt8 := dkwX7_readsAll_5 ++ dktX7_readsAll_6
def dkwX7_readsAll_4 : List UInt8 := [20, 0, 239, 182, 0, 200, 153, 0, 10, 42, 182, 1, 58, 167, 0, 42, 42, 20, 0, 241, 182, 0, 200]
abbrev dktX7_readsAll_4 : List UInt8 := dkwX7_readsAll_4 ++ dktX7_readsAll_5
def dkwX7_readsAll_3 : List UInt8 := [182, 1, 52, 167, 0, 76, 42, 20, 0, 237, 182, 0, 200, 153, 0, 10, 42, 182, 1, 55, 167, 0, 59, 42]
abbrev dktX7_readsAll_3 : List UInt8 := dkwX7_readsAll_3 ++ dktX7_readsAll_4
def dkwX7_readsAll_2 : List UInt8 := [42, 182, 1, 49, 42, 180, 0, 169, 153, 0, 103, 42, 20, 0, 231, 182, 0, 200, 153, 0, 10, 42]
abbrev dktX7_readsAll_2 : List UInt8 := dkwX7_readsAll_2 ++ dktX7_readsAll_3
def dkwX7_readsAll_1 : List UInt8 := [180, 0, 44, 4, 17, 3, 232, 79, 42, 180, 0, 47, 4, 17, 3, 232, 79, 42, 17, 3, 232, 181, 0, 183]
abbrev dktX7_readsAll_1 : List UInt8 := dkwX7_readsAll_1 ++ dktX7_readsAll_2
def dkwX7_readsAll_0 : List UInt8 := [3, 60, 27, 6, 162, 0, 18, 42, 180, 0, 13, 6, 27, 96, 3, 79, 132, 1, 1, 167, 255, 239, 42]
abbrev dktX7_readsAll_0 : List UInt8 := dkwX7_readsAll_0 ++ dktX7_readsAll_1
theorem dksX7_readsAll_0 : cX7_readsAll.data.toList.drop 0 = dktX7_readsAll_0 := by decide +kernel
theorem dksX7_readsAll_1 : cX7_readsAll.data.toList.drop 23 = dktX7_readsAll_1 := dk_seg dksX7_readsAll_0 23 rfl rfl
theorem dksX7_readsAll_2 : cX7_readsAll.data.toList.drop 47 = dktX7_readsAll_2 := dk_seg dksX7_readsAll_1 24 rfl rfl
theorem dksX7_readsAll_3 : cX7_readsAll.data.toList.drop 69 = dktX7_readsAll_3 := dk_seg dksX7_readsAll_2 22 rfl rfl
theorem dksX7_readsAll_4 : cX7_readsAll.data.toList.drop 93 = dktX7_readsAll_4 := dk_seg dksX7_readsAll_3 24 rfl rfl
theorem dksX7_readsAll_5 : cX7_readsAll.data.toList.drop 116 = dktX7_readsAll_5 := dk_seg dksX7_readsAll_4 23 rfl rfl
theorem dksX7_readsAll_6 : cX7_readsAll.data.toList.drop 140 = dktX7_readsAll_6 := dk_seg dksX7_readsAll_5 24 rfl rfl
theorem dX7_readsAll_0 : decode cX7_readsAll 0 = .ok (.iconst 0, 1) := dk_3 (dk_at dksX7_readsAll_0 0 rfl rfl)
theorem dX7_readsAll_1 : decode cX7_readsAll 1 = .ok (.istore_n 1, 1) := dk_60 (dk_at dksX7_readsAll_0 1 rfl rfl)
theorem dX7_readsAll_2 : decode cX7_readsAll 2 = .ok (.iload_n 1, 1) := dk_27 (dk_at dksX7_readsAll_0 2 rfl rfl)
theorem dX7_readsAll_3 : decode cX7_readsAll 3 = .ok (.iconst 3, 1) := dk_6 (dk_at dksX7_readsAll_0 3 rfl rfl)
theorem dX7_readsAll_4 : decode cX7_readsAll 4 = .ok (.if_icmp .ge 18, 3) := dk_162 0 18 (dk_at dksX7_readsAll_0 4 rfl rfl)
theorem dX7_readsAll_7 : decode cX7_readsAll 7 = .ok (.aload_n 0, 1) := dk_42 (dk_at dksX7_readsAll_0 7 rfl rfl)
theorem dX7_readsAll_8 : decode cX7_readsAll 8 = .ok (.getfield 13, 3) := dk_180 0 13 (dk_at dksX7_readsAll_0 8 rfl rfl)
theorem dX7_readsAll_11 : decode cX7_readsAll 11 = .ok (.iconst 3, 1) := dk_6 (dk_at dksX7_readsAll_0 11 rfl rfl)
theorem dX7_readsAll_12 : decode cX7_readsAll 12 = .ok (.iload_n 1, 1) := dk_27 (dk_at dksX7_readsAll_0 12 rfl rfl)
theorem dX7_readsAll_13 : decode cX7_readsAll 13 = .ok (.iadd, 1) := dk_96 (dk_at dksX7_readsAll_0 13 rfl rfl)
theorem dX7_readsAll_14 : decode cX7_readsAll 14 = .ok (.iconst 0, 1) := dk_3 (dk_at dksX7_readsAll_0 14 rfl rfl)
theorem dX7_readsAll_15 : decode cX7_readsAll 15 = .ok (.iastore, 1) := dk_79 (dk_at dksX7_readsAll_0 15 rfl rfl)
theorem dX7_readsAll_16 : decode cX7_readsAll 16 = .ok (.iinc 1 1, 3) := dk_132 1 1 (dk_at dksX7_readsAll_0 16 rfl rfl)
theorem dX7_readsAll_19 : decode cX7_readsAll 19 = .ok (.goto (-17), 3) := dk_167 255 239 (dk_at dksX7_readsAll_0 19 rfl rfl)
theorem dX7_readsAll_22 : decode cX7_readsAll 22 = .ok (.aload_n 0, 1) := dk_42 (dk_at dksX7_readsAll_0 22 rfl rfl)
theorem dX7_readsAll_23 : decode cX7_readsAll 23 = .ok (.getfield 44, 3) := dk_180 0 44 (dk_at dksX7_readsAll_1 0 rfl rfl)
theorem dX7_readsAll_26 : decode cX7_readsAll 26 = .ok (.iconst 1, 1) := dk_4 (dk_at dksX7_readsAll_1 3 rfl rfl)
theorem dX7_readsAll_27 : decode cX7_readsAll 27 = .ok (.sipush 1000, 3) := dk_17 3 232 (dk_at dksX7_readsAll_1 4 rfl rfl)
theorem dX7_readsAll_30 : decode cX7_readsAll 30 = .ok (.iastore, 1) := dk_79 (dk_at dksX7_readsAll_1 7 rfl rfl)
theorem dX7_readsAll_31 : decode cX7_readsAll 31 = .ok (.aload_n 0, 1) := dk_42 (dk_at dksX7_readsAll_1 8 rfl rfl)
theorem dX7_readsAll_32 : decode cX7_readsAll 32 = .ok (.getfield 47, 3) := dk_180 0 47 (dk_at dksX7_readsAll_1 9 rfl rfl)
theorem dX7_readsAll_35 : decode cX7_readsAll 35 = .ok (.iconst 1, 1) := dk_4 (dk_at dksX7_readsAll_1 12 rfl rfl)
theorem dX7_readsAll_36 : decode cX7_readsAll 36 = .ok (.sipush 1000, 3) := dk_17 3 232 (dk_at dksX7_readsAll_1 13 rfl rfl)
theorem dX7_readsAll_39 : decode cX7_readsAll 39 = .ok (.iastore, 1) := dk_79 (dk_at dksX7_readsAll_1 16 rfl rfl)
theorem dX7_readsAll_40 : decode cX7_readsAll 40 = .ok (.aload_n 0, 1) := dk_42 (dk_at dksX7_readsAll_1 17 rfl rfl)
theorem dX7_readsAll_41 : decode cX7_readsAll 41 = .ok (.sipush 1000, 3) := dk_17 3 232 (dk_at dksX7_readsAll_1 18 rfl rfl)
theorem dX7_readsAll_44 : decode cX7_readsAll 44 = .ok (.putfield 183, 3) := dk_181 0 183 (dk_at dksX7_readsAll_1 21 rfl rfl)
theorem dX7_readsAll_47 : decode cX7_readsAll 47 = .ok (.aload_n 0, 1) := dk_42 (dk_at dksX7_readsAll_2 0 rfl rfl)
theorem dX7_readsAll_48 : decode cX7_readsAll 48 = .ok (.invokevirtual 305, 3) := dk_182 1 49 (dk_at dksX7_readsAll_2 1 rfl rfl)
theorem dX7_readsAll_51 : decode cX7_readsAll 51 = .ok (.aload_n 0, 1) := dk_42 (dk_at dksX7_readsAll_2 4 rfl rfl)
theorem dX7_readsAll_52 : decode cX7_readsAll 52 = .ok (.getfield 169, 3) := dk_180 0 169 (dk_at dksX7_readsAll_2 5 rfl rfl)
theorem dX7_readsAll_55 : decode cX7_readsAll 55 = .ok (.ifCond .eq 103, 3) := dk_153 0 103 (dk_at dksX7_readsAll_2 8 rfl rfl)
theorem dX7_readsAll_58 : decode cX7_readsAll 58 = .ok (.aload_n 0, 1) := dk_42 (dk_at dksX7_readsAll_2 11 rfl rfl)
theorem dX7_readsAll_59 : decode cX7_readsAll 59 = .ok (.ldc2_w 231, 3) := dk_20 0 231 (dk_at dksX7_readsAll_2 12 rfl rfl)
theorem dX7_readsAll_62 : decode cX7_readsAll 62 = .ok (.invokevirtual 200, 3) := dk_182 0 200 (dk_at dksX7_readsAll_2 15 rfl rfl)
theorem dX7_readsAll_65 : decode cX7_readsAll 65 = .ok (.ifCond .eq 10, 3) := dk_153 0 10 (dk_at dksX7_readsAll_2 18 rfl rfl)
theorem dX7_readsAll_68 : decode cX7_readsAll 68 = .ok (.aload_n 0, 1) := dk_42 (dk_at dksX7_readsAll_2 21 rfl rfl)
theorem dX7_readsAll_69 : decode cX7_readsAll 69 = .ok (.invokevirtual 308, 3) := dk_182 1 52 (dk_at dksX7_readsAll_3 0 rfl rfl)
theorem dX7_readsAll_72 : decode cX7_readsAll 72 = .ok (.goto 76, 3) := dk_167 0 76 (dk_at dksX7_readsAll_3 3 rfl rfl)
theorem dX7_readsAll_75 : decode cX7_readsAll 75 = .ok (.aload_n 0, 1) := dk_42 (dk_at dksX7_readsAll_3 6 rfl rfl)
theorem dX7_readsAll_76 : decode cX7_readsAll 76 = .ok (.ldc2_w 237, 3) := dk_20 0 237 (dk_at dksX7_readsAll_3 7 rfl rfl)
theorem dX7_readsAll_79 : decode cX7_readsAll 79 = .ok (.invokevirtual 200, 3) := dk_182 0 200 (dk_at dksX7_readsAll_3 10 rfl rfl)
theorem dX7_readsAll_82 : decode cX7_readsAll 82 = .ok (.ifCond .eq 10, 3) := dk_153 0 10 (dk_at dksX7_readsAll_3 13 rfl rfl)
theorem dX7_readsAll_85 : decode cX7_readsAll 85 = .ok (.aload_n 0, 1) := dk_42 (dk_at dksX7_readsAll_3 16 rfl rfl)
theorem dX7_readsAll_86 : decode cX7_readsAll 86 = .ok (.invokevirtual 311, 3) := dk_182 1 55 (dk_at dksX7_readsAll_3 17 rfl rfl)
theorem dX7_readsAll_89 : decode cX7_readsAll 89 = .ok (.goto 59, 3) := dk_167 0 59 (dk_at dksX7_readsAll_3 20 rfl rfl)
theorem dX7_readsAll_92 : decode cX7_readsAll 92 = .ok (.aload_n 0, 1) := dk_42 (dk_at dksX7_readsAll_3 23 rfl rfl)
theorem dX7_readsAll_93 : decode cX7_readsAll 93 = .ok (.ldc2_w 239, 3) := dk_20 0 239 (dk_at dksX7_readsAll_4 0 rfl rfl)
theorem dX7_readsAll_96 : decode cX7_readsAll 96 = .ok (.invokevirtual 200, 3) := dk_182 0 200 (dk_at dksX7_readsAll_4 3 rfl rfl)
theorem dX7_readsAll_99 : decode cX7_readsAll 99 = .ok (.ifCond .eq 10, 3) := dk_153 0 10 (dk_at dksX7_readsAll_4 6 rfl rfl)
theorem dX7_readsAll_102 : decode cX7_readsAll 102 = .ok (.aload_n 0, 1) := dk_42 (dk_at dksX7_readsAll_4 9 rfl rfl)
theorem dX7_readsAll_103 : decode cX7_readsAll 103 = .ok (.invokevirtual 314, 3) := dk_182 1 58 (dk_at dksX7_readsAll_4 10 rfl rfl)
theorem dX7_readsAll_106 : decode cX7_readsAll 106 = .ok (.goto 42, 3) := dk_167 0 42 (dk_at dksX7_readsAll_4 13 rfl rfl)
theorem dX7_readsAll_109 : decode cX7_readsAll 109 = .ok (.aload_n 0, 1) := dk_42 (dk_at dksX7_readsAll_4 16 rfl rfl)
theorem dX7_readsAll_110 : decode cX7_readsAll 110 = .ok (.ldc2_w 241, 3) := dk_20 0 241 (dk_at dksX7_readsAll_4 17 rfl rfl)
theorem dX7_readsAll_113 : decode cX7_readsAll 113 = .ok (.invokevirtual 200, 3) := dk_182 0 200 (dk_at dksX7_readsAll_4 20 rfl rfl)
theorem dX7_readsAll_116 : decode cX7_readsAll 116 = .ok (.ifCond .eq 10, 3) := dk_153 0 10 (dk_at dksX7_readsAll_5 0 rfl rfl)
theorem dX7_readsAll_119 : decode cX7_readsAll 119 = .ok (.aload_n 0, 1) := dk_42 (dk_at dksX7_readsAll_5 3 rfl rfl)
theorem dX7_readsAll_120 : decode cX7_readsAll 120 = .ok (.invokevirtual 317, 3) := dk_182 1 61 (dk_at dksX7_readsAll_5 4 rfl rfl)
theorem dX7_readsAll_123 : decode cX7_readsAll 123 = .ok (.goto 25, 3) := dk_167 0 25 (dk_at dksX7_readsAll_5 7 rfl rfl)
theorem dX7_readsAll_126 : decode cX7_readsAll 126 = .ok (.aload_n 0, 1) := dk_42 (dk_at dksX7_readsAll_5 10 rfl rfl)
theorem dX7_readsAll_127 : decode cX7_readsAll 127 = .ok (.ldc2_w 243, 3) := dk_20 0 243 (dk_at dksX7_readsAll_5 11 rfl rfl)
theorem dX7_readsAll_130 : decode cX7_readsAll 130 = .ok (.invokevirtual 200, 3) := dk_182 0 200 (dk_at dksX7_readsAll_5 14 rfl rfl)
theorem dX7_readsAll_133 : decode cX7_readsAll 133 = .ok (.ifCond .eq 10, 3) := dk_153 0 10 (dk_at dksX7_readsAll_5 17 rfl rfl)
theorem dX7_readsAll_136 : decode cX7_readsAll 136 = .ok (.aload_n 0, 1) := dk_42 (dk_at dksX7_readsAll_5 20 rfl rfl)
theorem dX7_readsAll_137 : decode cX7_readsAll 137 = .ok (.invokevirtual 320, 3) := dk_182 1 64 (dk_at dksX7_readsAll_5 21 rfl rfl)
theorem dX7_readsAll_140 : decode cX7_readsAll 140 = .ok (.goto 8, 3) := dk_167 0 8 (dk_at dksX7_readsAll_6 0 rfl rfl)
theorem dX7_readsAll_143 : decode cX7_readsAll 143 = .ok (.aload_n 0, 1) := dk_42 (dk_at dksX7_readsAll_6 3 rfl rfl)
theorem dX7_readsAll_144 : decode cX7_readsAll 144 = .ok (.iconst 1, 1) := dk_4 (dk_at dksX7_readsAll_6 4 rfl rfl)
theorem dX7_readsAll_145 : decode cX7_readsAll 145 = .ok (.invokevirtual 208, 3) := dk_182 0 208 (dk_at dksX7_readsAll_6 5 rfl rfl)
theorem dX7_readsAll_148 : decode cX7_readsAll 148 = .ok (.istore_n 1, 1) := dk_60 (dk_at dksX7_readsAll_6 8 rfl rfl)
theorem dX7_readsAll_149 : decode cX7_readsAll 149 = .ok (.iload_n 1, 1) := dk_27 (dk_at dksX7_readsAll_6 9 rfl rfl)
theorem dX7_readsAll_150 : decode cX7_readsAll 150 = .ok (.ifCond .ne 5, 3) := dk_154 0 5 (dk_at dksX7_readsAll_6 10 rfl rfl)
theorem dX7_readsAll_153 : decode cX7_readsAll 153 = .ok (.iconst 0, 1) := dk_3 (dk_at dksX7_readsAll_6 13 rfl rfl)
theorem dX7_readsAll_154 : decode cX7_readsAll 154 = .ok (.ireturn, 1) := dk_172 (dk_at dksX7_readsAll_6 14 rfl rfl)
theorem dX7_readsAll_155 : decode cX7_readsAll 155 = .ok (.goto (-104), 3) := dk_167 255 152 (dk_at dksX7_readsAll_6 15 rfl rfl)
theorem dX7_readsAll_158 : decode cX7_readsAll 158 = .ok (.iconst 1, 1) := dk_4 (dk_at dksX7_readsAll_6 18 rfl rfl)
theorem dX7_readsAll_159 : decode cX7_readsAll 159 = .ok (.ireturn, 1) := dk_172 (dk_at dksX7_readsAll_6 19 rfl rfl)
abbrev cX7_shifts : ByteArray := prog_32_method_34_code
abbrev yX7_shifts : MethodName := { cls := "WornSkinModel", name := "shifts", desc := "([II)V" }
def dkwX7_shifts_0 : List UInt8 := [3, 61, 28, 27, 162, 0, 17, 42, 28, 42, 27, 28, 96, 46, 79, 132, 2, 1, 167, 255, 240, 177]
abbrev dktX7_shifts_0 : List UInt8 := dkwX7_shifts_0 ++ []
theorem dksX7_shifts_0 : cX7_shifts.data.toList.drop 0 = dktX7_shifts_0 := by decide +kernel
theorem dX7_shifts_0 : decode cX7_shifts 0 = .ok (.iconst 0, 1) := dk_3 (dk_at dksX7_shifts_0 0 rfl rfl)
theorem dX7_shifts_1 : decode cX7_shifts 1 = .ok (.istore_n 2, 1) := dk_61 (dk_at dksX7_shifts_0 1 rfl rfl)
theorem dX7_shifts_2 : decode cX7_shifts 2 = .ok (.iload_n 2, 1) := dk_28 (dk_at dksX7_shifts_0 2 rfl rfl)
theorem dX7_shifts_3 : decode cX7_shifts 3 = .ok (.iload_n 1, 1) := dk_27 (dk_at dksX7_shifts_0 3 rfl rfl)
theorem dX7_shifts_4 : decode cX7_shifts 4 = .ok (.if_icmp .ge 17, 3) := dk_162 0 17 (dk_at dksX7_shifts_0 4 rfl rfl)
theorem dX7_shifts_7 : decode cX7_shifts 7 = .ok (.aload_n 0, 1) := dk_42 (dk_at dksX7_shifts_0 7 rfl rfl)
theorem dX7_shifts_8 : decode cX7_shifts 8 = .ok (.iload_n 2, 1) := dk_28 (dk_at dksX7_shifts_0 8 rfl rfl)
theorem dX7_shifts_9 : decode cX7_shifts 9 = .ok (.aload_n 0, 1) := dk_42 (dk_at dksX7_shifts_0 9 rfl rfl)
theorem dX7_shifts_10 : decode cX7_shifts 10 = .ok (.iload_n 1, 1) := dk_27 (dk_at dksX7_shifts_0 10 rfl rfl)
theorem dX7_shifts_11 : decode cX7_shifts 11 = .ok (.iload_n 2, 1) := dk_28 (dk_at dksX7_shifts_0 11 rfl rfl)
theorem dX7_shifts_12 : decode cX7_shifts 12 = .ok (.iadd, 1) := dk_96 (dk_at dksX7_shifts_0 12 rfl rfl)
theorem dX7_shifts_13 : decode cX7_shifts 13 = .ok (.iaload, 1) := dk_46 (dk_at dksX7_shifts_0 13 rfl rfl)
theorem dX7_shifts_14 : decode cX7_shifts 14 = .ok (.iastore, 1) := dk_79 (dk_at dksX7_shifts_0 14 rfl rfl)
theorem dX7_shifts_15 : decode cX7_shifts 15 = .ok (.iinc 2 1, 3) := dk_132 2 1 (dk_at dksX7_shifts_0 15 rfl rfl)
theorem dX7_shifts_18 : decode cX7_shifts 18 = .ok (.goto (-16), 3) := dk_167 255 240 (dk_at dksX7_shifts_0 18 rfl rfl)
theorem dX7_shifts_21 : decode cX7_shifts 21 = .ok (.return_, 1) := dk_177 (dk_at dksX7_shifts_0 21 rfl rfl)
abbrev cX7_shiftsNames : ByteArray := prog_32_method_35_code
abbrev yX7_shiftsNames : MethodName := { cls := "WornSkinModel", name := "shiftsNames", desc := "([JI)V" }
def dkwX7_shiftsNames_0 : List UInt8 := [3, 61, 28, 27, 162, 0, 17, 42, 28, 42, 27, 28, 96, 47, 80, 132, 2, 1, 167, 255, 240, 177]
abbrev dktX7_shiftsNames_0 : List UInt8 := dkwX7_shiftsNames_0 ++ []
theorem dksX7_shiftsNames_0 : cX7_shiftsNames.data.toList.drop 0 = dktX7_shiftsNames_0 := by decide +kernel
theorem dX7_shiftsNames_0 : decode cX7_shiftsNames 0 = .ok (.iconst 0, 1) := dk_3 (dk_at dksX7_shiftsNames_0 0 rfl rfl)
theorem dX7_shiftsNames_1 : decode cX7_shiftsNames 1 = .ok (.istore_n 2, 1) := dk_61 (dk_at dksX7_shiftsNames_0 1 rfl rfl)
theorem dX7_shiftsNames_2 : decode cX7_shiftsNames 2 = .ok (.iload_n 2, 1) := dk_28 (dk_at dksX7_shiftsNames_0 2 rfl rfl)
theorem dX7_shiftsNames_3 : decode cX7_shiftsNames 3 = .ok (.iload_n 1, 1) := dk_27 (dk_at dksX7_shiftsNames_0 3 rfl rfl)
theorem dX7_shiftsNames_4 : decode cX7_shiftsNames 4 = .ok (.if_icmp .ge 17, 3) := dk_162 0 17 (dk_at dksX7_shiftsNames_0 4 rfl rfl)
theorem dX7_shiftsNames_7 : decode cX7_shiftsNames 7 = .ok (.aload_n 0, 1) := dk_42 (dk_at dksX7_shiftsNames_0 7 rfl rfl)
theorem dX7_shiftsNames_8 : decode cX7_shiftsNames 8 = .ok (.iload_n 2, 1) := dk_28 (dk_at dksX7_shiftsNames_0 8 rfl rfl)
theorem dX7_shiftsNames_9 : decode cX7_shiftsNames 9 = .ok (.aload_n 0, 1) := dk_42 (dk_at dksX7_shiftsNames_0 9 rfl rfl)
theorem dX7_shiftsNames_10 : decode cX7_shiftsNames 10 = .ok (.iload_n 1, 1) := dk_27 (dk_at dksX7_shiftsNames_0 10 rfl rfl)
theorem dX7_shiftsNames_11 : decode cX7_shiftsNames 11 = .ok (.iload_n 2, 1) := dk_28 (dk_at dksX7_shiftsNames_0 11 rfl rfl)
theorem dX7_shiftsNames_12 : decode cX7_shiftsNames 12 = .ok (.iadd, 1) := dk_96 (dk_at dksX7_shiftsNames_0 12 rfl rfl)
theorem dX7_shiftsNames_13 : decode cX7_shiftsNames 13 = .ok (.laload, 1) := dk_47 (dk_at dksX7_shiftsNames_0 13 rfl rfl)
theorem dX7_shiftsNames_14 : decode cX7_shiftsNames 14 = .ok (.lastore, 1) := dk_80 (dk_at dksX7_shiftsNames_0 14 rfl rfl)
theorem dX7_shiftsNames_15 : decode cX7_shiftsNames 15 = .ok (.iinc 2 1, 3) := dk_132 2 1 (dk_at dksX7_shiftsNames_0 15 rfl rfl)
theorem dX7_shiftsNames_18 : decode cX7_shiftsNames 18 = .ok (.goto (-16), 3) := dk_167 255 240 (dk_at dksX7_shiftsNames_0 18 rfl rfl)
theorem dX7_shiftsNames_21 : decode cX7_shiftsNames 21 = .ok (.return_, 1) := dk_177 (dk_at dksX7_shiftsNames_0 21 rfl rfl)
abbrev cX7_lays : ByteArray := prog_32_method_36_code
abbrev yX7_lays : MethodName := { cls := "WornSkinModel", name := "lays", desc := "()V" }
def dkwX7_lays_5 : List UInt8 := [42, 180, 0, 47, 4, 46, 17, 3, 232, 100, 79, 177]
abbrev dktX7_lays_5 : List UInt8 := dkwX7_lays_5 ++ []
def dkwX7_lays_4 : List UInt8 := [184, 1, 67, 42, 180, 0, 44, 3, 42, 180, 0, 44, 4, 46, 17, 3, 232, 100, 79, 42, 180, 0, 47, 3]
abbrev dktX7_lays_4 : List UInt8 := dkwX7_lays_4 ++ dktX7_lays_5
def dkwX7_lays_3 : List UInt8 := [180, 0, 38, 16, 6, 184, 1, 67, 42, 180, 0, 41, 16, 12, 184, 1, 67, 42, 180, 0, 50, 17, 3, 232]
abbrev dktX7_lays_3 : List UInt8 := dkwX7_lays_3 ++ dktX7_lays_4
def dkwX7_lays_2 : List UInt8 := [184, 1, 67, 42, 180, 0, 32, 16, 6, 184, 1, 67, 42, 180, 0, 35, 16, 6, 184, 1, 67, 42]
abbrev dktX7_lays_2 : List UInt8 := dkwX7_lays_2 ++ dktX7_lays_3
def dkwX7_lays_1 : List UInt8 := [184, 1, 71, 42, 180, 0, 23, 6, 184, 1, 67, 42, 180, 0, 26, 6, 184, 1, 67, 42, 180, 0, 29, 6]
abbrev dktX7_lays_1 : List UInt8 := dkwX7_lays_1 ++ dktX7_lays_2
def dkwX7_lays_0 : List UInt8 := [42, 180, 0, 13, 6, 184, 1, 67, 42, 180, 0, 16, 6, 184, 1, 71, 42, 180, 0, 20, 16, 6]
abbrev dktX7_lays_0 : List UInt8 := dkwX7_lays_0 ++ dktX7_lays_1
theorem dksX7_lays_0 : cX7_lays.data.toList.drop 0 = dktX7_lays_0 := by decide +kernel
theorem dksX7_lays_1 : cX7_lays.data.toList.drop 22 = dktX7_lays_1 := dk_seg dksX7_lays_0 22 rfl rfl
theorem dksX7_lays_2 : cX7_lays.data.toList.drop 46 = dktX7_lays_2 := dk_seg dksX7_lays_1 24 rfl rfl
theorem dksX7_lays_3 : cX7_lays.data.toList.drop 68 = dktX7_lays_3 := dk_seg dksX7_lays_2 22 rfl rfl
theorem dksX7_lays_4 : cX7_lays.data.toList.drop 92 = dktX7_lays_4 := dk_seg dksX7_lays_3 24 rfl rfl
theorem dksX7_lays_5 : cX7_lays.data.toList.drop 116 = dktX7_lays_5 := dk_seg dksX7_lays_4 24 rfl rfl
theorem dX7_lays_0 : decode cX7_lays 0 = .ok (.aload_n 0, 1) := dk_42 (dk_at dksX7_lays_0 0 rfl rfl)
theorem dX7_lays_1 : decode cX7_lays 1 = .ok (.getfield 13, 3) := dk_180 0 13 (dk_at dksX7_lays_0 1 rfl rfl)
theorem dX7_lays_4 : decode cX7_lays 4 = .ok (.iconst 3, 1) := dk_6 (dk_at dksX7_lays_0 4 rfl rfl)
theorem dX7_lays_5 : decode cX7_lays 5 = .ok (.invokestatic 323, 3) := dk_184 1 67 (dk_at dksX7_lays_0 5 rfl rfl)
theorem dX7_lays_8 : decode cX7_lays 8 = .ok (.aload_n 0, 1) := dk_42 (dk_at dksX7_lays_0 8 rfl rfl)
theorem dX7_lays_9 : decode cX7_lays 9 = .ok (.getfield 16, 3) := dk_180 0 16 (dk_at dksX7_lays_0 9 rfl rfl)
theorem dX7_lays_12 : decode cX7_lays 12 = .ok (.iconst 3, 1) := dk_6 (dk_at dksX7_lays_0 12 rfl rfl)
theorem dX7_lays_13 : decode cX7_lays 13 = .ok (.invokestatic 327, 3) := dk_184 1 71 (dk_at dksX7_lays_0 13 rfl rfl)
theorem dX7_lays_16 : decode cX7_lays 16 = .ok (.aload_n 0, 1) := dk_42 (dk_at dksX7_lays_0 16 rfl rfl)
theorem dX7_lays_17 : decode cX7_lays 17 = .ok (.getfield 20, 3) := dk_180 0 20 (dk_at dksX7_lays_0 17 rfl rfl)
theorem dX7_lays_20 : decode cX7_lays 20 = .ok (.bipush 6, 2) := dk_16 6 (dk_at dksX7_lays_0 20 rfl rfl)
theorem dX7_lays_22 : decode cX7_lays 22 = .ok (.invokestatic 327, 3) := dk_184 1 71 (dk_at dksX7_lays_1 0 rfl rfl)
theorem dX7_lays_25 : decode cX7_lays 25 = .ok (.aload_n 0, 1) := dk_42 (dk_at dksX7_lays_1 3 rfl rfl)
theorem dX7_lays_26 : decode cX7_lays 26 = .ok (.getfield 23, 3) := dk_180 0 23 (dk_at dksX7_lays_1 4 rfl rfl)
theorem dX7_lays_29 : decode cX7_lays 29 = .ok (.iconst 3, 1) := dk_6 (dk_at dksX7_lays_1 7 rfl rfl)
theorem dX7_lays_30 : decode cX7_lays 30 = .ok (.invokestatic 323, 3) := dk_184 1 67 (dk_at dksX7_lays_1 8 rfl rfl)
theorem dX7_lays_33 : decode cX7_lays 33 = .ok (.aload_n 0, 1) := dk_42 (dk_at dksX7_lays_1 11 rfl rfl)
theorem dX7_lays_34 : decode cX7_lays 34 = .ok (.getfield 26, 3) := dk_180 0 26 (dk_at dksX7_lays_1 12 rfl rfl)
theorem dX7_lays_37 : decode cX7_lays 37 = .ok (.iconst 3, 1) := dk_6 (dk_at dksX7_lays_1 15 rfl rfl)
theorem dX7_lays_38 : decode cX7_lays 38 = .ok (.invokestatic 323, 3) := dk_184 1 67 (dk_at dksX7_lays_1 16 rfl rfl)
theorem dX7_lays_41 : decode cX7_lays 41 = .ok (.aload_n 0, 1) := dk_42 (dk_at dksX7_lays_1 19 rfl rfl)
theorem dX7_lays_42 : decode cX7_lays 42 = .ok (.getfield 29, 3) := dk_180 0 29 (dk_at dksX7_lays_1 20 rfl rfl)
theorem dX7_lays_45 : decode cX7_lays 45 = .ok (.iconst 3, 1) := dk_6 (dk_at dksX7_lays_1 23 rfl rfl)
theorem dX7_lays_46 : decode cX7_lays 46 = .ok (.invokestatic 323, 3) := dk_184 1 67 (dk_at dksX7_lays_2 0 rfl rfl)
theorem dX7_lays_49 : decode cX7_lays 49 = .ok (.aload_n 0, 1) := dk_42 (dk_at dksX7_lays_2 3 rfl rfl)
theorem dX7_lays_50 : decode cX7_lays 50 = .ok (.getfield 32, 3) := dk_180 0 32 (dk_at dksX7_lays_2 4 rfl rfl)
theorem dX7_lays_53 : decode cX7_lays 53 = .ok (.bipush 6, 2) := dk_16 6 (dk_at dksX7_lays_2 7 rfl rfl)
theorem dX7_lays_55 : decode cX7_lays 55 = .ok (.invokestatic 323, 3) := dk_184 1 67 (dk_at dksX7_lays_2 9 rfl rfl)
theorem dX7_lays_58 : decode cX7_lays 58 = .ok (.aload_n 0, 1) := dk_42 (dk_at dksX7_lays_2 12 rfl rfl)
theorem dX7_lays_59 : decode cX7_lays 59 = .ok (.getfield 35, 3) := dk_180 0 35 (dk_at dksX7_lays_2 13 rfl rfl)
theorem dX7_lays_62 : decode cX7_lays 62 = .ok (.bipush 6, 2) := dk_16 6 (dk_at dksX7_lays_2 16 rfl rfl)
theorem dX7_lays_64 : decode cX7_lays 64 = .ok (.invokestatic 323, 3) := dk_184 1 67 (dk_at dksX7_lays_2 18 rfl rfl)
theorem dX7_lays_67 : decode cX7_lays 67 = .ok (.aload_n 0, 1) := dk_42 (dk_at dksX7_lays_2 21 rfl rfl)
theorem dX7_lays_68 : decode cX7_lays 68 = .ok (.getfield 38, 3) := dk_180 0 38 (dk_at dksX7_lays_3 0 rfl rfl)
theorem dX7_lays_71 : decode cX7_lays 71 = .ok (.bipush 6, 2) := dk_16 6 (dk_at dksX7_lays_3 3 rfl rfl)
theorem dX7_lays_73 : decode cX7_lays 73 = .ok (.invokestatic 323, 3) := dk_184 1 67 (dk_at dksX7_lays_3 5 rfl rfl)
theorem dX7_lays_76 : decode cX7_lays 76 = .ok (.aload_n 0, 1) := dk_42 (dk_at dksX7_lays_3 8 rfl rfl)
theorem dX7_lays_77 : decode cX7_lays 77 = .ok (.getfield 41, 3) := dk_180 0 41 (dk_at dksX7_lays_3 9 rfl rfl)
theorem dX7_lays_80 : decode cX7_lays 80 = .ok (.bipush 12, 2) := dk_16 12 (dk_at dksX7_lays_3 12 rfl rfl)
theorem dX7_lays_82 : decode cX7_lays 82 = .ok (.invokestatic 323, 3) := dk_184 1 67 (dk_at dksX7_lays_3 14 rfl rfl)
theorem dX7_lays_85 : decode cX7_lays 85 = .ok (.aload_n 0, 1) := dk_42 (dk_at dksX7_lays_3 17 rfl rfl)
theorem dX7_lays_86 : decode cX7_lays 86 = .ok (.getfield 50, 3) := dk_180 0 50 (dk_at dksX7_lays_3 18 rfl rfl)
theorem dX7_lays_89 : decode cX7_lays 89 = .ok (.sipush 1000, 3) := dk_17 3 232 (dk_at dksX7_lays_3 21 rfl rfl)
theorem dX7_lays_92 : decode cX7_lays 92 = .ok (.invokestatic 323, 3) := dk_184 1 67 (dk_at dksX7_lays_4 0 rfl rfl)
theorem dX7_lays_95 : decode cX7_lays 95 = .ok (.aload_n 0, 1) := dk_42 (dk_at dksX7_lays_4 3 rfl rfl)
theorem dX7_lays_96 : decode cX7_lays 96 = .ok (.getfield 44, 3) := dk_180 0 44 (dk_at dksX7_lays_4 4 rfl rfl)
theorem dX7_lays_99 : decode cX7_lays 99 = .ok (.iconst 0, 1) := dk_3 (dk_at dksX7_lays_4 7 rfl rfl)
theorem dX7_lays_100 : decode cX7_lays 100 = .ok (.aload_n 0, 1) := dk_42 (dk_at dksX7_lays_4 8 rfl rfl)
theorem dX7_lays_101 : decode cX7_lays 101 = .ok (.getfield 44, 3) := dk_180 0 44 (dk_at dksX7_lays_4 9 rfl rfl)
theorem dX7_lays_104 : decode cX7_lays 104 = .ok (.iconst 1, 1) := dk_4 (dk_at dksX7_lays_4 12 rfl rfl)
theorem dX7_lays_105 : decode cX7_lays 105 = .ok (.iaload, 1) := dk_46 (dk_at dksX7_lays_4 13 rfl rfl)
theorem dX7_lays_106 : decode cX7_lays 106 = .ok (.sipush 1000, 3) := dk_17 3 232 (dk_at dksX7_lays_4 14 rfl rfl)
theorem dX7_lays_109 : decode cX7_lays 109 = .ok (.isub, 1) := dk_100 (dk_at dksX7_lays_4 17 rfl rfl)
theorem dX7_lays_110 : decode cX7_lays 110 = .ok (.iastore, 1) := dk_79 (dk_at dksX7_lays_4 18 rfl rfl)
theorem dX7_lays_111 : decode cX7_lays 111 = .ok (.aload_n 0, 1) := dk_42 (dk_at dksX7_lays_4 19 rfl rfl)
theorem dX7_lays_112 : decode cX7_lays 112 = .ok (.getfield 47, 3) := dk_180 0 47 (dk_at dksX7_lays_4 20 rfl rfl)
theorem dX7_lays_115 : decode cX7_lays 115 = .ok (.iconst 0, 1) := dk_3 (dk_at dksX7_lays_4 23 rfl rfl)
theorem dX7_lays_116 : decode cX7_lays 116 = .ok (.aload_n 0, 1) := dk_42 (dk_at dksX7_lays_5 0 rfl rfl)
theorem dX7_lays_117 : decode cX7_lays 117 = .ok (.getfield 47, 3) := dk_180 0 47 (dk_at dksX7_lays_5 1 rfl rfl)
theorem dX7_lays_120 : decode cX7_lays 120 = .ok (.iconst 1, 1) := dk_4 (dk_at dksX7_lays_5 4 rfl rfl)
theorem dX7_lays_121 : decode cX7_lays 121 = .ok (.iaload, 1) := dk_46 (dk_at dksX7_lays_5 5 rfl rfl)
theorem dX7_lays_122 : decode cX7_lays 122 = .ok (.sipush 1000, 3) := dk_17 3 232 (dk_at dksX7_lays_5 6 rfl rfl)
theorem dX7_lays_125 : decode cX7_lays 125 = .ok (.isub, 1) := dk_100 (dk_at dksX7_lays_5 9 rfl rfl)
theorem dX7_lays_126 : decode cX7_lays 126 = .ok (.iastore, 1) := dk_79 (dk_at dksX7_lays_5 10 rfl rfl)
theorem dX7_lays_127 : decode cX7_lays 127 = .ok (.return_, 1) := dk_177 (dk_at dksX7_lays_5 11 rfl rfl)
abbrev cX7_fresh0 : ByteArray := prog_32_method_41_code
abbrev yX7_fresh0 : MethodName := { cls := "WornSkinModel", name := "fresh0", desc := "()V" }
def dkwX7_fresh0_2 : List UInt8 := [132, 1, 1, 167, 255, 229, 177]
abbrev dktX7_fresh0_2 : List UInt8 := dkwX7_fresh0_2 ++ []
def dkwX7_fresh0_1 : List UInt8 := [42, 180, 0, 13, 3, 46, 162, 0, 23, 42, 180, 0, 120, 4, 27, 96, 42, 180, 0, 26, 27, 46, 79]
abbrev dktX7_fresh0_1 : List UInt8 := dkwX7_fresh0_1 ++ dktX7_fresh0_2
def dkwX7_fresh0_0 : List UInt8 := [3, 60, 27, 16, 25, 162, 0, 16, 42, 180, 0, 120, 27, 3, 79, 132, 1, 1, 167, 255, 240, 3, 60, 27]
abbrev dktX7_fresh0_0 : List UInt8 := dkwX7_fresh0_0 ++ dktX7_fresh0_1
theorem dksX7_fresh0_0 : cX7_fresh0.data.toList.drop 0 = dktX7_fresh0_0 := by decide +kernel
theorem dksX7_fresh0_1 : cX7_fresh0.data.toList.drop 24 = dktX7_fresh0_1 := dk_seg dksX7_fresh0_0 24 rfl rfl
theorem dksX7_fresh0_2 : cX7_fresh0.data.toList.drop 47 = dktX7_fresh0_2 := dk_seg dksX7_fresh0_1 23 rfl rfl
theorem dX7_fresh0_0 : decode cX7_fresh0 0 = .ok (.iconst 0, 1) := dk_3 (dk_at dksX7_fresh0_0 0 rfl rfl)
theorem dX7_fresh0_1 : decode cX7_fresh0 1 = .ok (.istore_n 1, 1) := dk_60 (dk_at dksX7_fresh0_0 1 rfl rfl)
theorem dX7_fresh0_2 : decode cX7_fresh0 2 = .ok (.iload_n 1, 1) := dk_27 (dk_at dksX7_fresh0_0 2 rfl rfl)
theorem dX7_fresh0_3 : decode cX7_fresh0 3 = .ok (.bipush 25, 2) := dk_16 25 (dk_at dksX7_fresh0_0 3 rfl rfl)
theorem dX7_fresh0_5 : decode cX7_fresh0 5 = .ok (.if_icmp .ge 16, 3) := dk_162 0 16 (dk_at dksX7_fresh0_0 5 rfl rfl)
theorem dX7_fresh0_8 : decode cX7_fresh0 8 = .ok (.aload_n 0, 1) := dk_42 (dk_at dksX7_fresh0_0 8 rfl rfl)
theorem dX7_fresh0_9 : decode cX7_fresh0 9 = .ok (.getfield 120, 3) := dk_180 0 120 (dk_at dksX7_fresh0_0 9 rfl rfl)
theorem dX7_fresh0_12 : decode cX7_fresh0 12 = .ok (.iload_n 1, 1) := dk_27 (dk_at dksX7_fresh0_0 12 rfl rfl)
theorem dX7_fresh0_13 : decode cX7_fresh0 13 = .ok (.iconst 0, 1) := dk_3 (dk_at dksX7_fresh0_0 13 rfl rfl)
theorem dX7_fresh0_14 : decode cX7_fresh0 14 = .ok (.iastore, 1) := dk_79 (dk_at dksX7_fresh0_0 14 rfl rfl)
theorem dX7_fresh0_15 : decode cX7_fresh0 15 = .ok (.iinc 1 1, 3) := dk_132 1 1 (dk_at dksX7_fresh0_0 15 rfl rfl)
theorem dX7_fresh0_18 : decode cX7_fresh0 18 = .ok (.goto (-16), 3) := dk_167 255 240 (dk_at dksX7_fresh0_0 18 rfl rfl)
theorem dX7_fresh0_21 : decode cX7_fresh0 21 = .ok (.iconst 0, 1) := dk_3 (dk_at dksX7_fresh0_0 21 rfl rfl)
theorem dX7_fresh0_22 : decode cX7_fresh0 22 = .ok (.istore_n 1, 1) := dk_60 (dk_at dksX7_fresh0_0 22 rfl rfl)
theorem dX7_fresh0_23 : decode cX7_fresh0 23 = .ok (.iload_n 1, 1) := dk_27 (dk_at dksX7_fresh0_0 23 rfl rfl)
theorem dX7_fresh0_24 : decode cX7_fresh0 24 = .ok (.aload_n 0, 1) := dk_42 (dk_at dksX7_fresh0_1 0 rfl rfl)
theorem dX7_fresh0_25 : decode cX7_fresh0 25 = .ok (.getfield 13, 3) := dk_180 0 13 (dk_at dksX7_fresh0_1 1 rfl rfl)
theorem dX7_fresh0_28 : decode cX7_fresh0 28 = .ok (.iconst 0, 1) := dk_3 (dk_at dksX7_fresh0_1 4 rfl rfl)
theorem dX7_fresh0_29 : decode cX7_fresh0 29 = .ok (.iaload, 1) := dk_46 (dk_at dksX7_fresh0_1 5 rfl rfl)
theorem dX7_fresh0_30 : decode cX7_fresh0 30 = .ok (.if_icmp .ge 23, 3) := dk_162 0 23 (dk_at dksX7_fresh0_1 6 rfl rfl)
theorem dX7_fresh0_33 : decode cX7_fresh0 33 = .ok (.aload_n 0, 1) := dk_42 (dk_at dksX7_fresh0_1 9 rfl rfl)
theorem dX7_fresh0_34 : decode cX7_fresh0 34 = .ok (.getfield 120, 3) := dk_180 0 120 (dk_at dksX7_fresh0_1 10 rfl rfl)
theorem dX7_fresh0_37 : decode cX7_fresh0 37 = .ok (.iconst 1, 1) := dk_4 (dk_at dksX7_fresh0_1 13 rfl rfl)
theorem dX7_fresh0_38 : decode cX7_fresh0 38 = .ok (.iload_n 1, 1) := dk_27 (dk_at dksX7_fresh0_1 14 rfl rfl)
theorem dX7_fresh0_39 : decode cX7_fresh0 39 = .ok (.iadd, 1) := dk_96 (dk_at dksX7_fresh0_1 15 rfl rfl)
theorem dX7_fresh0_40 : decode cX7_fresh0 40 = .ok (.aload_n 0, 1) := dk_42 (dk_at dksX7_fresh0_1 16 rfl rfl)
theorem dX7_fresh0_41 : decode cX7_fresh0 41 = .ok (.getfield 26, 3) := dk_180 0 26 (dk_at dksX7_fresh0_1 17 rfl rfl)
theorem dX7_fresh0_44 : decode cX7_fresh0 44 = .ok (.iload_n 1, 1) := dk_27 (dk_at dksX7_fresh0_1 20 rfl rfl)
theorem dX7_fresh0_45 : decode cX7_fresh0 45 = .ok (.iaload, 1) := dk_46 (dk_at dksX7_fresh0_1 21 rfl rfl)
theorem dX7_fresh0_46 : decode cX7_fresh0 46 = .ok (.iastore, 1) := dk_79 (dk_at dksX7_fresh0_1 22 rfl rfl)
theorem dX7_fresh0_47 : decode cX7_fresh0 47 = .ok (.iinc 1 1, 3) := dk_132 1 1 (dk_at dksX7_fresh0_2 0 rfl rfl)
theorem dX7_fresh0_50 : decode cX7_fresh0 50 = .ok (.goto (-27), 3) := dk_167 255 229 (dk_at dksX7_fresh0_2 3 rfl rfl)
theorem dX7_fresh0_53 : decode cX7_fresh0 53 = .ok (.return_, 1) := dk_177 (dk_at dksX7_fresh0_2 6 rfl rfl)
abbrev cX7_library : ByteArray := prog_32_method_42_code
abbrev yX7_library : MethodName := { cls := "WornSkinModel", name := "library", desc := "()I" }
def dkwX7_library_2 : List UInt8 := [27, 7, 162, 0, 16, 42, 180, 0, 135, 27, 3, 84, 132, 1, 1, 167, 255, 241, 3, 172]
abbrev dktX7_library_2 : List UInt8 := dkwX7_library_2 ++ []
def dkwX7_library_1 : List UInt8 := [182, 1, 84, 42, 180, 0, 90, 3, 3, 79, 42, 180, 0, 105, 3, 3, 79, 42, 3, 181, 1, 87, 3, 60]
abbrev dktX7_library_1 : List UInt8 := dkwX7_library_1 ++ dktX7_library_2
def dkwX7_library_0 : List UInt8 := [42, 3, 181, 0, 144, 42, 182, 1, 78, 154, 0, 8, 42, 180, 0, 180, 172, 42, 182, 1, 81, 42]
abbrev dktX7_library_0 : List UInt8 := dkwX7_library_0 ++ dktX7_library_1
theorem dksX7_library_0 : cX7_library.data.toList.drop 0 = dktX7_library_0 := by decide +kernel
theorem dksX7_library_1 : cX7_library.data.toList.drop 22 = dktX7_library_1 := dk_seg dksX7_library_0 22 rfl rfl
theorem dksX7_library_2 : cX7_library.data.toList.drop 46 = dktX7_library_2 := dk_seg dksX7_library_1 24 rfl rfl
theorem dX7_library_0 : decode cX7_library 0 = .ok (.aload_n 0, 1) := dk_42 (dk_at dksX7_library_0 0 rfl rfl)
theorem dX7_library_1 : decode cX7_library 1 = .ok (.iconst 0, 1) := dk_3 (dk_at dksX7_library_0 1 rfl rfl)
theorem dX7_library_2 : decode cX7_library 2 = .ok (.putfield 144, 3) := dk_181 0 144 (dk_at dksX7_library_0 2 rfl rfl)
theorem dX7_library_5 : decode cX7_library 5 = .ok (.aload_n 0, 1) := dk_42 (dk_at dksX7_library_0 5 rfl rfl)
theorem dX7_library_6 : decode cX7_library 6 = .ok (.invokevirtual 334, 3) := dk_182 1 78 (dk_at dksX7_library_0 6 rfl rfl)
theorem dX7_library_9 : decode cX7_library 9 = .ok (.ifCond .ne 8, 3) := dk_154 0 8 (dk_at dksX7_library_0 9 rfl rfl)
theorem dX7_library_12 : decode cX7_library 12 = .ok (.aload_n 0, 1) := dk_42 (dk_at dksX7_library_0 12 rfl rfl)
theorem dX7_library_13 : decode cX7_library 13 = .ok (.getfield 180, 3) := dk_180 0 180 (dk_at dksX7_library_0 13 rfl rfl)
theorem dX7_library_16 : decode cX7_library 16 = .ok (.ireturn, 1) := dk_172 (dk_at dksX7_library_0 16 rfl rfl)
theorem dX7_library_17 : decode cX7_library 17 = .ok (.aload_n 0, 1) := dk_42 (dk_at dksX7_library_0 17 rfl rfl)
theorem dX7_library_18 : decode cX7_library 18 = .ok (.invokevirtual 337, 3) := dk_182 1 81 (dk_at dksX7_library_0 18 rfl rfl)
theorem dX7_library_21 : decode cX7_library 21 = .ok (.aload_n 0, 1) := dk_42 (dk_at dksX7_library_0 21 rfl rfl)
theorem dX7_library_22 : decode cX7_library 22 = .ok (.invokevirtual 340, 3) := dk_182 1 84 (dk_at dksX7_library_1 0 rfl rfl)
theorem dX7_library_25 : decode cX7_library 25 = .ok (.aload_n 0, 1) := dk_42 (dk_at dksX7_library_1 3 rfl rfl)
theorem dX7_library_26 : decode cX7_library 26 = .ok (.getfield 90, 3) := dk_180 0 90 (dk_at dksX7_library_1 4 rfl rfl)
theorem dX7_library_29 : decode cX7_library 29 = .ok (.iconst 0, 1) := dk_3 (dk_at dksX7_library_1 7 rfl rfl)
theorem dX7_library_30 : decode cX7_library 30 = .ok (.iconst 0, 1) := dk_3 (dk_at dksX7_library_1 8 rfl rfl)
theorem dX7_library_31 : decode cX7_library 31 = .ok (.iastore, 1) := dk_79 (dk_at dksX7_library_1 9 rfl rfl)
theorem dX7_library_32 : decode cX7_library 32 = .ok (.aload_n 0, 1) := dk_42 (dk_at dksX7_library_1 10 rfl rfl)
theorem dX7_library_33 : decode cX7_library 33 = .ok (.getfield 105, 3) := dk_180 0 105 (dk_at dksX7_library_1 11 rfl rfl)
theorem dX7_library_36 : decode cX7_library 36 = .ok (.iconst 0, 1) := dk_3 (dk_at dksX7_library_1 14 rfl rfl)
theorem dX7_library_37 : decode cX7_library 37 = .ok (.iconst 0, 1) := dk_3 (dk_at dksX7_library_1 15 rfl rfl)
theorem dX7_library_38 : decode cX7_library 38 = .ok (.iastore, 1) := dk_79 (dk_at dksX7_library_1 16 rfl rfl)
theorem dX7_library_39 : decode cX7_library 39 = .ok (.aload_n 0, 1) := dk_42 (dk_at dksX7_library_1 17 rfl rfl)
theorem dX7_library_40 : decode cX7_library 40 = .ok (.iconst 0, 1) := dk_3 (dk_at dksX7_library_1 18 rfl rfl)
theorem dX7_library_41 : decode cX7_library 41 = .ok (.putfield 343, 3) := dk_181 1 87 (dk_at dksX7_library_1 19 rfl rfl)
theorem dX7_library_44 : decode cX7_library 44 = .ok (.iconst 0, 1) := dk_3 (dk_at dksX7_library_1 22 rfl rfl)
theorem dX7_library_45 : decode cX7_library 45 = .ok (.istore_n 1, 1) := dk_60 (dk_at dksX7_library_1 23 rfl rfl)
theorem dX7_library_46 : decode cX7_library 46 = .ok (.iload_n 1, 1) := dk_27 (dk_at dksX7_library_2 0 rfl rfl)
theorem dX7_library_47 : decode cX7_library 47 = .ok (.iconst 4, 1) := dk_7 (dk_at dksX7_library_2 1 rfl rfl)
theorem dX7_library_48 : decode cX7_library 48 = .ok (.if_icmp .ge 16, 3) := dk_162 0 16 (dk_at dksX7_library_2 2 rfl rfl)
theorem dX7_library_51 : decode cX7_library 51 = .ok (.aload_n 0, 1) := dk_42 (dk_at dksX7_library_2 5 rfl rfl)
theorem dX7_library_52 : decode cX7_library 52 = .ok (.getfield 135, 3) := dk_180 0 135 (dk_at dksX7_library_2 6 rfl rfl)
theorem dX7_library_55 : decode cX7_library 55 = .ok (.iload_n 1, 1) := dk_27 (dk_at dksX7_library_2 9 rfl rfl)
theorem dX7_library_56 : decode cX7_library 56 = .ok (.iconst 0, 1) := dk_3 (dk_at dksX7_library_2 10 rfl rfl)
theorem dX7_library_57 : decode cX7_library 57 = .ok (.bastore, 1) := dk_84 (dk_at dksX7_library_2 11 rfl rfl)
theorem dX7_library_58 : decode cX7_library 58 = .ok (.iinc 1 1, 3) := dk_132 1 1 (dk_at dksX7_library_2 12 rfl rfl)
theorem dX7_library_61 : decode cX7_library 61 = .ok (.goto (-15), 3) := dk_167 255 241 (dk_at dksX7_library_2 15 rfl rfl)
theorem dX7_library_64 : decode cX7_library 64 = .ok (.iconst 0, 1) := dk_3 (dk_at dksX7_library_2 18 rfl rfl)
theorem dX7_library_65 : decode cX7_library 65 = .ok (.ireturn, 1) := dk_172 (dk_at dksX7_library_2 19 rfl rfl)
abbrev cX7_needsText : ByteArray := prog_32_method_26_code
abbrev yX7_needsText : MethodName := { cls := "WornSkinModel", name := "needsText", desc := "()Z" }
def dkwX7_needsText_1 : List UInt8 := [180, 1, 13, 156, 0, 9, 42, 5, 182, 0, 208, 172, 42, 182, 0, 215, 4, 172]
abbrev dktX7_needsText_1 : List UInt8 := dkwX7_needsText_1 ++ []
def dkwX7_needsText_0 : List UInt8 := [42, 182, 1, 20, 153, 0, 9, 42, 4, 182, 0, 208, 172, 42, 42, 3, 182, 1, 27, 181, 1, 13, 42]
abbrev dktX7_needsText_0 : List UInt8 := dkwX7_needsText_0 ++ dktX7_needsText_1
theorem dksX7_needsText_0 : cX7_needsText.data.toList.drop 0 = dktX7_needsText_0 := by decide +kernel
theorem dksX7_needsText_1 : cX7_needsText.data.toList.drop 23 = dktX7_needsText_1 := dk_seg dksX7_needsText_0 23 rfl rfl
theorem dX7_needsText_0 : decode cX7_needsText 0 = .ok (.aload_n 0, 1) := dk_42 (dk_at dksX7_needsText_0 0 rfl rfl)
theorem dX7_needsText_1 : decode cX7_needsText 1 = .ok (.invokevirtual 276, 3) := dk_182 1 20 (dk_at dksX7_needsText_0 1 rfl rfl)
theorem dX7_needsText_4 : decode cX7_needsText 4 = .ok (.ifCond .eq 9, 3) := dk_153 0 9 (dk_at dksX7_needsText_0 4 rfl rfl)
theorem dX7_needsText_7 : decode cX7_needsText 7 = .ok (.aload_n 0, 1) := dk_42 (dk_at dksX7_needsText_0 7 rfl rfl)
theorem dX7_needsText_8 : decode cX7_needsText 8 = .ok (.iconst 1, 1) := dk_4 (dk_at dksX7_needsText_0 8 rfl rfl)
theorem dX7_needsText_9 : decode cX7_needsText 9 = .ok (.invokevirtual 208, 3) := dk_182 0 208 (dk_at dksX7_needsText_0 9 rfl rfl)
theorem dX7_needsText_12 : decode cX7_needsText 12 = .ok (.ireturn, 1) := dk_172 (dk_at dksX7_needsText_0 12 rfl rfl)
theorem dX7_needsText_13 : decode cX7_needsText 13 = .ok (.aload_n 0, 1) := dk_42 (dk_at dksX7_needsText_0 13 rfl rfl)
theorem dX7_needsText_14 : decode cX7_needsText 14 = .ok (.aload_n 0, 1) := dk_42 (dk_at dksX7_needsText_0 14 rfl rfl)
theorem dX7_needsText_15 : decode cX7_needsText 15 = .ok (.iconst 0, 1) := dk_3 (dk_at dksX7_needsText_0 15 rfl rfl)
theorem dX7_needsText_16 : decode cX7_needsText 16 = .ok (.invokevirtual 283, 3) := dk_182 1 27 (dk_at dksX7_needsText_0 16 rfl rfl)
theorem dX7_needsText_19 : decode cX7_needsText 19 = .ok (.putfield 269, 3) := dk_181 1 13 (dk_at dksX7_needsText_0 19 rfl rfl)
theorem dX7_needsText_22 : decode cX7_needsText 22 = .ok (.aload_n 0, 1) := dk_42 (dk_at dksX7_needsText_0 22 rfl rfl)
theorem dX7_needsText_23 : decode cX7_needsText 23 = .ok (.getfield 269, 3) := dk_180 1 13 (dk_at dksX7_needsText_1 0 rfl rfl)
theorem dX7_needsText_26 : decode cX7_needsText 26 = .ok (.ifCond .ge 9, 3) := dk_156 0 9 (dk_at dksX7_needsText_1 3 rfl rfl)
theorem dX7_needsText_29 : decode cX7_needsText 29 = .ok (.aload_n 0, 1) := dk_42 (dk_at dksX7_needsText_1 6 rfl rfl)
theorem dX7_needsText_30 : decode cX7_needsText 30 = .ok (.iconst 2, 1) := dk_5 (dk_at dksX7_needsText_1 7 rfl rfl)
theorem dX7_needsText_31 : decode cX7_needsText 31 = .ok (.invokevirtual 208, 3) := dk_182 0 208 (dk_at dksX7_needsText_1 8 rfl rfl)
theorem dX7_needsText_34 : decode cX7_needsText 34 = .ok (.ireturn, 1) := dk_172 (dk_at dksX7_needsText_1 11 rfl rfl)
theorem dX7_needsText_35 : decode cX7_needsText 35 = .ok (.aload_n 0, 1) := dk_42 (dk_at dksX7_needsText_1 12 rfl rfl)
theorem dX7_needsText_36 : decode cX7_needsText 36 = .ok (.invokevirtual 215, 3) := dk_182 0 215 (dk_at dksX7_needsText_1 13 rfl rfl)
theorem dX7_needsText_39 : decode cX7_needsText 39 = .ok (.iconst 1, 1) := dk_4 (dk_at dksX7_needsText_1 16 rfl rfl)
theorem dX7_needsText_40 : decode cX7_needsText 40 = .ok (.ireturn, 1) := dk_172 (dk_at dksX7_needsText_1 17 rfl rfl)
abbrev cX7_readsLine : ByteArray := prog_32_method_38_code
abbrev yX7_readsLine : MethodName := { cls := "WornSkinModel", name := "readsLine", desc := "()Z" }
def dkwX7_readsLine_8 : List UInt8 := [92, 46, 4, 96, 79, 42, 182, 1, 40, 172]
abbrev dktX7_readsLine_8 : List UInt8 := dkwX7_readsLine_8 ++ []
def dkwX7_readsLine_7 : List UInt8 := [8, 182, 1, 16, 154, 0, 5, 3, 172, 42, 180, 0, 102, 28, 42, 180, 1, 13, 79, 42, 180, 0, 90, 8]
abbrev dktX7_readsLine_7 : List UInt8 := dkwX7_readsLine_7 ++ dktX7_readsLine_8
def dkwX7_readsLine_6 : List UInt8 := [182, 1, 43, 154, 0, 5, 3, 172, 42, 180, 0, 99, 28, 42, 180, 1, 13, 79, 27, 154, 0, 24, 42, 3]
abbrev dktX7_readsLine_6 : List UInt8 := dkwX7_readsLine_6 ++ dktX7_readsLine_7
def dkwX7_readsLine_5 : List UInt8 := [154, 0, 5, 3, 172, 42, 180, 0, 96, 28, 42, 180, 1, 13, 79, 27, 6, 159, 0, 23, 42, 3]
abbrev dktX7_readsLine_5 : List UInt8 := dkwX7_readsLine_5 ++ dktX7_readsLine_6
def dkwX7_readsLine_4 : List UInt8 := [180, 0, 90, 8, 46, 96, 61, 42, 180, 0, 93, 28, 27, 79, 27, 154, 0, 22, 42, 182, 1, 75]
abbrev dktX7_readsLine_4 : List UInt8 := dkwX7_readsLine_4 ++ dktX7_readsLine_5
def dkwX7_readsLine_3 : List UInt8 := [180, 0, 90, 8, 46, 16, 40, 160, 0, 9, 42, 8, 182, 0, 208, 172, 42, 182, 0, 215, 17, 0, 200, 42]
abbrev dktX7_readsLine_3 : List UInt8 := dkwX7_readsLine_3 ++ dktX7_readsLine_4
def dkwX7_readsLine_2 : List UInt8 := [182, 0, 200, 153, 0, 7, 6, 167, 0, 4, 2, 60, 27, 156, 0, 9, 42, 4, 182, 0, 208, 172, 42]
abbrev dktX7_readsLine_2 : List UInt8 := dkwX7_readsLine_2 ++ dktX7_readsLine_3
def dkwX7_readsLine_1 : List UInt8 := [4, 167, 0, 32, 42, 20, 0, 249, 182, 0, 200, 153, 0, 7, 5, 167, 0, 18, 42, 20, 0, 251]
abbrev dktX7_readsLine_1 : List UInt8 := dkwX7_readsLine_1 ++ dktX7_readsLine_2
def dkwX7_readsLine_0 : List UInt8 := [42, 20, 0, 245, 182, 0, 200, 153, 0, 7, 3, 167, 0, 46, 42, 20, 0, 247, 182, 0, 200, 153, 0, 7]
abbrev dktX7_readsLine_0 : List UInt8 := dkwX7_readsLine_0 ++ dktX7_readsLine_1
theorem dksX7_readsLine_0 : cX7_readsLine.data.toList.drop 0 = dktX7_readsLine_0 := by decide +kernel
theorem dksX7_readsLine_1 : cX7_readsLine.data.toList.drop 24 = dktX7_readsLine_1 := dk_seg dksX7_readsLine_0 24 rfl rfl
theorem dksX7_readsLine_2 : cX7_readsLine.data.toList.drop 46 = dktX7_readsLine_2 := dk_seg dksX7_readsLine_1 22 rfl rfl
theorem dksX7_readsLine_3 : cX7_readsLine.data.toList.drop 69 = dktX7_readsLine_3 := dk_seg dksX7_readsLine_2 23 rfl rfl
theorem dksX7_readsLine_4 : cX7_readsLine.data.toList.drop 93 = dktX7_readsLine_4 := dk_seg dksX7_readsLine_3 24 rfl rfl
theorem dksX7_readsLine_5 : cX7_readsLine.data.toList.drop 115 = dktX7_readsLine_5 := dk_seg dksX7_readsLine_4 22 rfl rfl
theorem dksX7_readsLine_6 : cX7_readsLine.data.toList.drop 137 = dktX7_readsLine_6 := dk_seg dksX7_readsLine_5 22 rfl rfl
theorem dksX7_readsLine_7 : cX7_readsLine.data.toList.drop 161 = dktX7_readsLine_7 := dk_seg dksX7_readsLine_6 24 rfl rfl
theorem dksX7_readsLine_8 : cX7_readsLine.data.toList.drop 185 = dktX7_readsLine_8 := dk_seg dksX7_readsLine_7 24 rfl rfl
theorem dX7_readsLine_0 : decode cX7_readsLine 0 = .ok (.aload_n 0, 1) := dk_42 (dk_at dksX7_readsLine_0 0 rfl rfl)
theorem dX7_readsLine_1 : decode cX7_readsLine 1 = .ok (.ldc2_w 245, 3) := dk_20 0 245 (dk_at dksX7_readsLine_0 1 rfl rfl)
theorem dX7_readsLine_4 : decode cX7_readsLine 4 = .ok (.invokevirtual 200, 3) := dk_182 0 200 (dk_at dksX7_readsLine_0 4 rfl rfl)
theorem dX7_readsLine_7 : decode cX7_readsLine 7 = .ok (.ifCond .eq 7, 3) := dk_153 0 7 (dk_at dksX7_readsLine_0 7 rfl rfl)
theorem dX7_readsLine_10 : decode cX7_readsLine 10 = .ok (.iconst 0, 1) := dk_3 (dk_at dksX7_readsLine_0 10 rfl rfl)
theorem dX7_readsLine_11 : decode cX7_readsLine 11 = .ok (.goto 46, 3) := dk_167 0 46 (dk_at dksX7_readsLine_0 11 rfl rfl)
theorem dX7_readsLine_14 : decode cX7_readsLine 14 = .ok (.aload_n 0, 1) := dk_42 (dk_at dksX7_readsLine_0 14 rfl rfl)
theorem dX7_readsLine_15 : decode cX7_readsLine 15 = .ok (.ldc2_w 247, 3) := dk_20 0 247 (dk_at dksX7_readsLine_0 15 rfl rfl)
theorem dX7_readsLine_18 : decode cX7_readsLine 18 = .ok (.invokevirtual 200, 3) := dk_182 0 200 (dk_at dksX7_readsLine_0 18 rfl rfl)
theorem dX7_readsLine_21 : decode cX7_readsLine 21 = .ok (.ifCond .eq 7, 3) := dk_153 0 7 (dk_at dksX7_readsLine_0 21 rfl rfl)
theorem dX7_readsLine_24 : decode cX7_readsLine 24 = .ok (.iconst 1, 1) := dk_4 (dk_at dksX7_readsLine_1 0 rfl rfl)
theorem dX7_readsLine_25 : decode cX7_readsLine 25 = .ok (.goto 32, 3) := dk_167 0 32 (dk_at dksX7_readsLine_1 1 rfl rfl)
theorem dX7_readsLine_28 : decode cX7_readsLine 28 = .ok (.aload_n 0, 1) := dk_42 (dk_at dksX7_readsLine_1 4 rfl rfl)
theorem dX7_readsLine_29 : decode cX7_readsLine 29 = .ok (.ldc2_w 249, 3) := dk_20 0 249 (dk_at dksX7_readsLine_1 5 rfl rfl)
theorem dX7_readsLine_32 : decode cX7_readsLine 32 = .ok (.invokevirtual 200, 3) := dk_182 0 200 (dk_at dksX7_readsLine_1 8 rfl rfl)
theorem dX7_readsLine_35 : decode cX7_readsLine 35 = .ok (.ifCond .eq 7, 3) := dk_153 0 7 (dk_at dksX7_readsLine_1 11 rfl rfl)
theorem dX7_readsLine_38 : decode cX7_readsLine 38 = .ok (.iconst 2, 1) := dk_5 (dk_at dksX7_readsLine_1 14 rfl rfl)
theorem dX7_readsLine_39 : decode cX7_readsLine 39 = .ok (.goto 18, 3) := dk_167 0 18 (dk_at dksX7_readsLine_1 15 rfl rfl)
theorem dX7_readsLine_42 : decode cX7_readsLine 42 = .ok (.aload_n 0, 1) := dk_42 (dk_at dksX7_readsLine_1 18 rfl rfl)
theorem dX7_readsLine_43 : decode cX7_readsLine 43 = .ok (.ldc2_w 251, 3) := dk_20 0 251 (dk_at dksX7_readsLine_1 19 rfl rfl)
theorem dX7_readsLine_46 : decode cX7_readsLine 46 = .ok (.invokevirtual 200, 3) := dk_182 0 200 (dk_at dksX7_readsLine_2 0 rfl rfl)
theorem dX7_readsLine_49 : decode cX7_readsLine 49 = .ok (.ifCond .eq 7, 3) := dk_153 0 7 (dk_at dksX7_readsLine_2 3 rfl rfl)
theorem dX7_readsLine_52 : decode cX7_readsLine 52 = .ok (.iconst 3, 1) := dk_6 (dk_at dksX7_readsLine_2 6 rfl rfl)
theorem dX7_readsLine_53 : decode cX7_readsLine 53 = .ok (.goto 4, 3) := dk_167 0 4 (dk_at dksX7_readsLine_2 7 rfl rfl)
theorem dX7_readsLine_56 : decode cX7_readsLine 56 = .ok (.iconst (-1), 1) := dk_2 (dk_at dksX7_readsLine_2 10 rfl rfl)
theorem dX7_readsLine_57 : decode cX7_readsLine 57 = .ok (.istore_n 1, 1) := dk_60 (dk_at dksX7_readsLine_2 11 rfl rfl)
theorem dX7_readsLine_58 : decode cX7_readsLine 58 = .ok (.iload_n 1, 1) := dk_27 (dk_at dksX7_readsLine_2 12 rfl rfl)
theorem dX7_readsLine_59 : decode cX7_readsLine 59 = .ok (.ifCond .ge 9, 3) := dk_156 0 9 (dk_at dksX7_readsLine_2 13 rfl rfl)
theorem dX7_readsLine_62 : decode cX7_readsLine 62 = .ok (.aload_n 0, 1) := dk_42 (dk_at dksX7_readsLine_2 16 rfl rfl)
theorem dX7_readsLine_63 : decode cX7_readsLine 63 = .ok (.iconst 1, 1) := dk_4 (dk_at dksX7_readsLine_2 17 rfl rfl)
theorem dX7_readsLine_64 : decode cX7_readsLine 64 = .ok (.invokevirtual 208, 3) := dk_182 0 208 (dk_at dksX7_readsLine_2 18 rfl rfl)
theorem dX7_readsLine_67 : decode cX7_readsLine 67 = .ok (.ireturn, 1) := dk_172 (dk_at dksX7_readsLine_2 21 rfl rfl)
theorem dX7_readsLine_68 : decode cX7_readsLine 68 = .ok (.aload_n 0, 1) := dk_42 (dk_at dksX7_readsLine_2 22 rfl rfl)
theorem dX7_readsLine_69 : decode cX7_readsLine 69 = .ok (.getfield 90, 3) := dk_180 0 90 (dk_at dksX7_readsLine_3 0 rfl rfl)
theorem dX7_readsLine_72 : decode cX7_readsLine 72 = .ok (.iconst 5, 1) := dk_8 (dk_at dksX7_readsLine_3 3 rfl rfl)
theorem dX7_readsLine_73 : decode cX7_readsLine 73 = .ok (.iaload, 1) := dk_46 (dk_at dksX7_readsLine_3 4 rfl rfl)
theorem dX7_readsLine_74 : decode cX7_readsLine 74 = .ok (.bipush 40, 2) := dk_16 40 (dk_at dksX7_readsLine_3 5 rfl rfl)
theorem dX7_readsLine_76 : decode cX7_readsLine 76 = .ok (.if_icmp .ne 9, 3) := dk_160 0 9 (dk_at dksX7_readsLine_3 7 rfl rfl)
theorem dX7_readsLine_79 : decode cX7_readsLine 79 = .ok (.aload_n 0, 1) := dk_42 (dk_at dksX7_readsLine_3 10 rfl rfl)
theorem dX7_readsLine_80 : decode cX7_readsLine 80 = .ok (.iconst 5, 1) := dk_8 (dk_at dksX7_readsLine_3 11 rfl rfl)
theorem dX7_readsLine_81 : decode cX7_readsLine 81 = .ok (.invokevirtual 208, 3) := dk_182 0 208 (dk_at dksX7_readsLine_3 12 rfl rfl)
theorem dX7_readsLine_84 : decode cX7_readsLine 84 = .ok (.ireturn, 1) := dk_172 (dk_at dksX7_readsLine_3 15 rfl rfl)
theorem dX7_readsLine_85 : decode cX7_readsLine 85 = .ok (.aload_n 0, 1) := dk_42 (dk_at dksX7_readsLine_3 16 rfl rfl)
theorem dX7_readsLine_86 : decode cX7_readsLine 86 = .ok (.invokevirtual 215, 3) := dk_182 0 215 (dk_at dksX7_readsLine_3 17 rfl rfl)
theorem dX7_readsLine_89 : decode cX7_readsLine 89 = .ok (.sipush 200, 3) := dk_17 0 200 (dk_at dksX7_readsLine_3 20 rfl rfl)
theorem dX7_readsLine_92 : decode cX7_readsLine 92 = .ok (.aload_n 0, 1) := dk_42 (dk_at dksX7_readsLine_3 23 rfl rfl)
theorem dX7_readsLine_93 : decode cX7_readsLine 93 = .ok (.getfield 90, 3) := dk_180 0 90 (dk_at dksX7_readsLine_4 0 rfl rfl)
theorem dX7_readsLine_96 : decode cX7_readsLine 96 = .ok (.iconst 5, 1) := dk_8 (dk_at dksX7_readsLine_4 3 rfl rfl)
theorem dX7_readsLine_97 : decode cX7_readsLine 97 = .ok (.iaload, 1) := dk_46 (dk_at dksX7_readsLine_4 4 rfl rfl)
theorem dX7_readsLine_98 : decode cX7_readsLine 98 = .ok (.iadd, 1) := dk_96 (dk_at dksX7_readsLine_4 5 rfl rfl)
theorem dX7_readsLine_99 : decode cX7_readsLine 99 = .ok (.istore_n 2, 1) := dk_61 (dk_at dksX7_readsLine_4 6 rfl rfl)
theorem dX7_readsLine_100 : decode cX7_readsLine 100 = .ok (.aload_n 0, 1) := dk_42 (dk_at dksX7_readsLine_4 7 rfl rfl)
theorem dX7_readsLine_101 : decode cX7_readsLine 101 = .ok (.getfield 93, 3) := dk_180 0 93 (dk_at dksX7_readsLine_4 8 rfl rfl)
theorem dX7_readsLine_104 : decode cX7_readsLine 104 = .ok (.iload_n 2, 1) := dk_28 (dk_at dksX7_readsLine_4 11 rfl rfl)
theorem dX7_readsLine_105 : decode cX7_readsLine 105 = .ok (.iload_n 1, 1) := dk_27 (dk_at dksX7_readsLine_4 12 rfl rfl)
theorem dX7_readsLine_106 : decode cX7_readsLine 106 = .ok (.iastore, 1) := dk_79 (dk_at dksX7_readsLine_4 13 rfl rfl)
theorem dX7_readsLine_107 : decode cX7_readsLine 107 = .ok (.iload_n 1, 1) := dk_27 (dk_at dksX7_readsLine_4 14 rfl rfl)
theorem dX7_readsLine_108 : decode cX7_readsLine 108 = .ok (.ifCond .ne 22, 3) := dk_154 0 22 (dk_at dksX7_readsLine_4 15 rfl rfl)
theorem dX7_readsLine_111 : decode cX7_readsLine 111 = .ok (.aload_n 0, 1) := dk_42 (dk_at dksX7_readsLine_4 18 rfl rfl)
theorem dX7_readsLine_112 : decode cX7_readsLine 112 = .ok (.invokevirtual 331, 3) := dk_182 1 75 (dk_at dksX7_readsLine_4 19 rfl rfl)
theorem dX7_readsLine_115 : decode cX7_readsLine 115 = .ok (.ifCond .ne 5, 3) := dk_154 0 5 (dk_at dksX7_readsLine_5 0 rfl rfl)
theorem dX7_readsLine_118 : decode cX7_readsLine 118 = .ok (.iconst 0, 1) := dk_3 (dk_at dksX7_readsLine_5 3 rfl rfl)
theorem dX7_readsLine_119 : decode cX7_readsLine 119 = .ok (.ireturn, 1) := dk_172 (dk_at dksX7_readsLine_5 4 rfl rfl)
theorem dX7_readsLine_120 : decode cX7_readsLine 120 = .ok (.aload_n 0, 1) := dk_42 (dk_at dksX7_readsLine_5 5 rfl rfl)
theorem dX7_readsLine_121 : decode cX7_readsLine 121 = .ok (.getfield 96, 3) := dk_180 0 96 (dk_at dksX7_readsLine_5 6 rfl rfl)
theorem dX7_readsLine_124 : decode cX7_readsLine 124 = .ok (.iload_n 2, 1) := dk_28 (dk_at dksX7_readsLine_5 9 rfl rfl)
theorem dX7_readsLine_125 : decode cX7_readsLine 125 = .ok (.aload_n 0, 1) := dk_42 (dk_at dksX7_readsLine_5 10 rfl rfl)
theorem dX7_readsLine_126 : decode cX7_readsLine 126 = .ok (.getfield 269, 3) := dk_180 1 13 (dk_at dksX7_readsLine_5 11 rfl rfl)
theorem dX7_readsLine_129 : decode cX7_readsLine 129 = .ok (.iastore, 1) := dk_79 (dk_at dksX7_readsLine_5 14 rfl rfl)
theorem dX7_readsLine_130 : decode cX7_readsLine 130 = .ok (.iload_n 1, 1) := dk_27 (dk_at dksX7_readsLine_5 15 rfl rfl)
theorem dX7_readsLine_131 : decode cX7_readsLine 131 = .ok (.iconst 3, 1) := dk_6 (dk_at dksX7_readsLine_5 16 rfl rfl)
theorem dX7_readsLine_132 : decode cX7_readsLine 132 = .ok (.if_icmp .eq 23, 3) := dk_159 0 23 (dk_at dksX7_readsLine_5 17 rfl rfl)
theorem dX7_readsLine_135 : decode cX7_readsLine 135 = .ok (.aload_n 0, 1) := dk_42 (dk_at dksX7_readsLine_5 20 rfl rfl)
theorem dX7_readsLine_136 : decode cX7_readsLine 136 = .ok (.iconst 0, 1) := dk_3 (dk_at dksX7_readsLine_5 21 rfl rfl)
theorem dX7_readsLine_137 : decode cX7_readsLine 137 = .ok (.invokevirtual 299, 3) := dk_182 1 43 (dk_at dksX7_readsLine_6 0 rfl rfl)
theorem dX7_readsLine_140 : decode cX7_readsLine 140 = .ok (.ifCond .ne 5, 3) := dk_154 0 5 (dk_at dksX7_readsLine_6 3 rfl rfl)
theorem dX7_readsLine_143 : decode cX7_readsLine 143 = .ok (.iconst 0, 1) := dk_3 (dk_at dksX7_readsLine_6 6 rfl rfl)
theorem dX7_readsLine_144 : decode cX7_readsLine 144 = .ok (.ireturn, 1) := dk_172 (dk_at dksX7_readsLine_6 7 rfl rfl)
theorem dX7_readsLine_145 : decode cX7_readsLine 145 = .ok (.aload_n 0, 1) := dk_42 (dk_at dksX7_readsLine_6 8 rfl rfl)
theorem dX7_readsLine_146 : decode cX7_readsLine 146 = .ok (.getfield 99, 3) := dk_180 0 99 (dk_at dksX7_readsLine_6 9 rfl rfl)
theorem dX7_readsLine_149 : decode cX7_readsLine 149 = .ok (.iload_n 2, 1) := dk_28 (dk_at dksX7_readsLine_6 12 rfl rfl)
theorem dX7_readsLine_150 : decode cX7_readsLine 150 = .ok (.aload_n 0, 1) := dk_42 (dk_at dksX7_readsLine_6 13 rfl rfl)
theorem dX7_readsLine_151 : decode cX7_readsLine 151 = .ok (.getfield 269, 3) := dk_180 1 13 (dk_at dksX7_readsLine_6 14 rfl rfl)
theorem dX7_readsLine_154 : decode cX7_readsLine 154 = .ok (.iastore, 1) := dk_79 (dk_at dksX7_readsLine_6 17 rfl rfl)
theorem dX7_readsLine_155 : decode cX7_readsLine 155 = .ok (.iload_n 1, 1) := dk_27 (dk_at dksX7_readsLine_6 18 rfl rfl)
theorem dX7_readsLine_156 : decode cX7_readsLine 156 = .ok (.ifCond .ne 24, 3) := dk_154 0 24 (dk_at dksX7_readsLine_6 19 rfl rfl)
theorem dX7_readsLine_159 : decode cX7_readsLine 159 = .ok (.aload_n 0, 1) := dk_42 (dk_at dksX7_readsLine_6 22 rfl rfl)
theorem dX7_readsLine_160 : decode cX7_readsLine 160 = .ok (.iconst 0, 1) := dk_3 (dk_at dksX7_readsLine_6 23 rfl rfl)
theorem dX7_readsLine_161 : decode cX7_readsLine 161 = .ok (.iconst 5, 1) := dk_8 (dk_at dksX7_readsLine_7 0 rfl rfl)
theorem dX7_readsLine_162 : decode cX7_readsLine 162 = .ok (.invokevirtual 272, 3) := dk_182 1 16 (dk_at dksX7_readsLine_7 1 rfl rfl)
theorem dX7_readsLine_165 : decode cX7_readsLine 165 = .ok (.ifCond .ne 5, 3) := dk_154 0 5 (dk_at dksX7_readsLine_7 4 rfl rfl)
theorem dX7_readsLine_168 : decode cX7_readsLine 168 = .ok (.iconst 0, 1) := dk_3 (dk_at dksX7_readsLine_7 7 rfl rfl)
theorem dX7_readsLine_169 : decode cX7_readsLine 169 = .ok (.ireturn, 1) := dk_172 (dk_at dksX7_readsLine_7 8 rfl rfl)
theorem dX7_readsLine_170 : decode cX7_readsLine 170 = .ok (.aload_n 0, 1) := dk_42 (dk_at dksX7_readsLine_7 9 rfl rfl)
theorem dX7_readsLine_171 : decode cX7_readsLine 171 = .ok (.getfield 102, 3) := dk_180 0 102 (dk_at dksX7_readsLine_7 10 rfl rfl)
theorem dX7_readsLine_174 : decode cX7_readsLine 174 = .ok (.iload_n 2, 1) := dk_28 (dk_at dksX7_readsLine_7 13 rfl rfl)
theorem dX7_readsLine_175 : decode cX7_readsLine 175 = .ok (.aload_n 0, 1) := dk_42 (dk_at dksX7_readsLine_7 14 rfl rfl)
theorem dX7_readsLine_176 : decode cX7_readsLine 176 = .ok (.getfield 269, 3) := dk_180 1 13 (dk_at dksX7_readsLine_7 15 rfl rfl)
theorem dX7_readsLine_179 : decode cX7_readsLine 179 = .ok (.iastore, 1) := dk_79 (dk_at dksX7_readsLine_7 18 rfl rfl)
theorem dX7_readsLine_180 : decode cX7_readsLine 180 = .ok (.aload_n 0, 1) := dk_42 (dk_at dksX7_readsLine_7 19 rfl rfl)
theorem dX7_readsLine_181 : decode cX7_readsLine 181 = .ok (.getfield 90, 3) := dk_180 0 90 (dk_at dksX7_readsLine_7 20 rfl rfl)
theorem dX7_readsLine_184 : decode cX7_readsLine 184 = .ok (.iconst 5, 1) := dk_8 (dk_at dksX7_readsLine_7 23 rfl rfl)
theorem dX7_readsLine_185 : decode cX7_readsLine 185 = .ok (.dup2, 1) := dk_92 (dk_at dksX7_readsLine_8 0 rfl rfl)
theorem dX7_readsLine_186 : decode cX7_readsLine 186 = .ok (.iaload, 1) := dk_46 (dk_at dksX7_readsLine_8 1 rfl rfl)
theorem dX7_readsLine_187 : decode cX7_readsLine 187 = .ok (.iconst 1, 1) := dk_4 (dk_at dksX7_readsLine_8 2 rfl rfl)
theorem dX7_readsLine_188 : decode cX7_readsLine 188 = .ok (.iadd, 1) := dk_96 (dk_at dksX7_readsLine_8 3 rfl rfl)
theorem dX7_readsLine_189 : decode cX7_readsLine 189 = .ok (.iastore, 1) := dk_79 (dk_at dksX7_readsLine_8 4 rfl rfl)
theorem dX7_readsLine_190 : decode cX7_readsLine 190 = .ok (.aload_n 0, 1) := dk_42 (dk_at dksX7_readsLine_8 5 rfl rfl)
theorem dX7_readsLine_191 : decode cX7_readsLine 191 = .ok (.invokevirtual 296, 3) := dk_182 1 40 (dk_at dksX7_readsLine_8 6 rfl rfl)
theorem dX7_readsLine_194 : decode cX7_readsLine 194 = .ok (.ireturn, 1) := dk_172 (dk_at dksX7_readsLine_8 9 rfl rfl)
abbrev cX7_laysLines : ByteArray := prog_32_method_39_code
abbrev yX7_laysLines : MethodName := { cls := "WornSkinModel", name := "laysLines", desc := "(II)V" }
def dkwX7_laysLines_4 : List UInt8 := [42, 180, 0, 102, 16, 40, 27, 104, 29, 96, 46, 79, 132, 3, 1, 167, 255, 159, 177]
abbrev dktX7_laysLines_4 : List UInt8 := dkwX7_laysLines_4 ++ []
def dkwX7_laysLines_3 : List UInt8 := [29, 96, 42, 180, 0, 99, 16, 40, 27, 104, 29, 96, 46, 79, 42, 180, 0, 102, 16, 40, 28, 104, 29, 96]
abbrev dktX7_laysLines_3 : List UInt8 := dkwX7_laysLines_3 ++ dktX7_laysLines_4
def dkwX7_laysLines_2 : List UInt8 := [28, 104, 29, 96, 42, 180, 0, 96, 16, 40, 27, 104, 29, 96, 46, 79, 42, 180, 0, 99, 16, 40, 28, 104]
abbrev dktX7_laysLines_2 : List UInt8 := dkwX7_laysLines_2 ++ dktX7_laysLines_3
def dkwX7_laysLines_1 : List UInt8 := [16, 40, 28, 104, 29, 96, 42, 180, 0, 93, 16, 40, 27, 104, 29, 96, 46, 79, 42, 180, 0, 96, 16, 40]
abbrev dktX7_laysLines_1 : List UInt8 := dkwX7_laysLines_1 ++ dktX7_laysLines_2
def dkwX7_laysLines_0 : List UInt8 := [42, 180, 0, 90, 28, 42, 180, 0, 90, 27, 46, 79, 3, 62, 29, 16, 40, 162, 0, 97, 42, 180, 0, 93]
abbrev dktX7_laysLines_0 : List UInt8 := dkwX7_laysLines_0 ++ dktX7_laysLines_1
theorem dksX7_laysLines_0 : cX7_laysLines.data.toList.drop 0 = dktX7_laysLines_0 := by decide +kernel
theorem dksX7_laysLines_1 : cX7_laysLines.data.toList.drop 24 = dktX7_laysLines_1 := dk_seg dksX7_laysLines_0 24 rfl rfl
theorem dksX7_laysLines_2 : cX7_laysLines.data.toList.drop 48 = dktX7_laysLines_2 := dk_seg dksX7_laysLines_1 24 rfl rfl
theorem dksX7_laysLines_3 : cX7_laysLines.data.toList.drop 72 = dktX7_laysLines_3 := dk_seg dksX7_laysLines_2 24 rfl rfl
theorem dksX7_laysLines_4 : cX7_laysLines.data.toList.drop 96 = dktX7_laysLines_4 := dk_seg dksX7_laysLines_3 24 rfl rfl
theorem dX7_laysLines_0 : decode cX7_laysLines 0 = .ok (.aload_n 0, 1) := dk_42 (dk_at dksX7_laysLines_0 0 rfl rfl)
theorem dX7_laysLines_1 : decode cX7_laysLines 1 = .ok (.getfield 90, 3) := dk_180 0 90 (dk_at dksX7_laysLines_0 1 rfl rfl)
theorem dX7_laysLines_4 : decode cX7_laysLines 4 = .ok (.iload_n 2, 1) := dk_28 (dk_at dksX7_laysLines_0 4 rfl rfl)
theorem dX7_laysLines_5 : decode cX7_laysLines 5 = .ok (.aload_n 0, 1) := dk_42 (dk_at dksX7_laysLines_0 5 rfl rfl)
theorem dX7_laysLines_6 : decode cX7_laysLines 6 = .ok (.getfield 90, 3) := dk_180 0 90 (dk_at dksX7_laysLines_0 6 rfl rfl)
theorem dX7_laysLines_9 : decode cX7_laysLines 9 = .ok (.iload_n 1, 1) := dk_27 (dk_at dksX7_laysLines_0 9 rfl rfl)
theorem dX7_laysLines_10 : decode cX7_laysLines 10 = .ok (.iaload, 1) := dk_46 (dk_at dksX7_laysLines_0 10 rfl rfl)
theorem dX7_laysLines_11 : decode cX7_laysLines 11 = .ok (.iastore, 1) := dk_79 (dk_at dksX7_laysLines_0 11 rfl rfl)
theorem dX7_laysLines_12 : decode cX7_laysLines 12 = .ok (.iconst 0, 1) := dk_3 (dk_at dksX7_laysLines_0 12 rfl rfl)
theorem dX7_laysLines_13 : decode cX7_laysLines 13 = .ok (.istore_n 3, 1) := dk_62 (dk_at dksX7_laysLines_0 13 rfl rfl)
theorem dX7_laysLines_14 : decode cX7_laysLines 14 = .ok (.iload_n 3, 1) := dk_29 (dk_at dksX7_laysLines_0 14 rfl rfl)
theorem dX7_laysLines_15 : decode cX7_laysLines 15 = .ok (.bipush 40, 2) := dk_16 40 (dk_at dksX7_laysLines_0 15 rfl rfl)
theorem dX7_laysLines_17 : decode cX7_laysLines 17 = .ok (.if_icmp .ge 97, 3) := dk_162 0 97 (dk_at dksX7_laysLines_0 17 rfl rfl)
theorem dX7_laysLines_20 : decode cX7_laysLines 20 = .ok (.aload_n 0, 1) := dk_42 (dk_at dksX7_laysLines_0 20 rfl rfl)
theorem dX7_laysLines_21 : decode cX7_laysLines 21 = .ok (.getfield 93, 3) := dk_180 0 93 (dk_at dksX7_laysLines_0 21 rfl rfl)
theorem dX7_laysLines_24 : decode cX7_laysLines 24 = .ok (.bipush 40, 2) := dk_16 40 (dk_at dksX7_laysLines_1 0 rfl rfl)
theorem dX7_laysLines_26 : decode cX7_laysLines 26 = .ok (.iload_n 2, 1) := dk_28 (dk_at dksX7_laysLines_1 2 rfl rfl)
theorem dX7_laysLines_27 : decode cX7_laysLines 27 = .ok (.imul, 1) := dk_104 (dk_at dksX7_laysLines_1 3 rfl rfl)
theorem dX7_laysLines_28 : decode cX7_laysLines 28 = .ok (.iload_n 3, 1) := dk_29 (dk_at dksX7_laysLines_1 4 rfl rfl)
theorem dX7_laysLines_29 : decode cX7_laysLines 29 = .ok (.iadd, 1) := dk_96 (dk_at dksX7_laysLines_1 5 rfl rfl)
theorem dX7_laysLines_30 : decode cX7_laysLines 30 = .ok (.aload_n 0, 1) := dk_42 (dk_at dksX7_laysLines_1 6 rfl rfl)
theorem dX7_laysLines_31 : decode cX7_laysLines 31 = .ok (.getfield 93, 3) := dk_180 0 93 (dk_at dksX7_laysLines_1 7 rfl rfl)
theorem dX7_laysLines_34 : decode cX7_laysLines 34 = .ok (.bipush 40, 2) := dk_16 40 (dk_at dksX7_laysLines_1 10 rfl rfl)
theorem dX7_laysLines_36 : decode cX7_laysLines 36 = .ok (.iload_n 1, 1) := dk_27 (dk_at dksX7_laysLines_1 12 rfl rfl)
theorem dX7_laysLines_37 : decode cX7_laysLines 37 = .ok (.imul, 1) := dk_104 (dk_at dksX7_laysLines_1 13 rfl rfl)
theorem dX7_laysLines_38 : decode cX7_laysLines 38 = .ok (.iload_n 3, 1) := dk_29 (dk_at dksX7_laysLines_1 14 rfl rfl)
theorem dX7_laysLines_39 : decode cX7_laysLines 39 = .ok (.iadd, 1) := dk_96 (dk_at dksX7_laysLines_1 15 rfl rfl)
theorem dX7_laysLines_40 : decode cX7_laysLines 40 = .ok (.iaload, 1) := dk_46 (dk_at dksX7_laysLines_1 16 rfl rfl)
theorem dX7_laysLines_41 : decode cX7_laysLines 41 = .ok (.iastore, 1) := dk_79 (dk_at dksX7_laysLines_1 17 rfl rfl)
theorem dX7_laysLines_42 : decode cX7_laysLines 42 = .ok (.aload_n 0, 1) := dk_42 (dk_at dksX7_laysLines_1 18 rfl rfl)
theorem dX7_laysLines_43 : decode cX7_laysLines 43 = .ok (.getfield 96, 3) := dk_180 0 96 (dk_at dksX7_laysLines_1 19 rfl rfl)
theorem dX7_laysLines_46 : decode cX7_laysLines 46 = .ok (.bipush 40, 2) := dk_16 40 (dk_at dksX7_laysLines_1 22 rfl rfl)
theorem dX7_laysLines_48 : decode cX7_laysLines 48 = .ok (.iload_n 2, 1) := dk_28 (dk_at dksX7_laysLines_2 0 rfl rfl)
theorem dX7_laysLines_49 : decode cX7_laysLines 49 = .ok (.imul, 1) := dk_104 (dk_at dksX7_laysLines_2 1 rfl rfl)
theorem dX7_laysLines_50 : decode cX7_laysLines 50 = .ok (.iload_n 3, 1) := dk_29 (dk_at dksX7_laysLines_2 2 rfl rfl)
theorem dX7_laysLines_51 : decode cX7_laysLines 51 = .ok (.iadd, 1) := dk_96 (dk_at dksX7_laysLines_2 3 rfl rfl)
theorem dX7_laysLines_52 : decode cX7_laysLines 52 = .ok (.aload_n 0, 1) := dk_42 (dk_at dksX7_laysLines_2 4 rfl rfl)
theorem dX7_laysLines_53 : decode cX7_laysLines 53 = .ok (.getfield 96, 3) := dk_180 0 96 (dk_at dksX7_laysLines_2 5 rfl rfl)
theorem dX7_laysLines_56 : decode cX7_laysLines 56 = .ok (.bipush 40, 2) := dk_16 40 (dk_at dksX7_laysLines_2 8 rfl rfl)
theorem dX7_laysLines_58 : decode cX7_laysLines 58 = .ok (.iload_n 1, 1) := dk_27 (dk_at dksX7_laysLines_2 10 rfl rfl)
theorem dX7_laysLines_59 : decode cX7_laysLines 59 = .ok (.imul, 1) := dk_104 (dk_at dksX7_laysLines_2 11 rfl rfl)
theorem dX7_laysLines_60 : decode cX7_laysLines 60 = .ok (.iload_n 3, 1) := dk_29 (dk_at dksX7_laysLines_2 12 rfl rfl)
theorem dX7_laysLines_61 : decode cX7_laysLines 61 = .ok (.iadd, 1) := dk_96 (dk_at dksX7_laysLines_2 13 rfl rfl)
theorem dX7_laysLines_62 : decode cX7_laysLines 62 = .ok (.iaload, 1) := dk_46 (dk_at dksX7_laysLines_2 14 rfl rfl)
theorem dX7_laysLines_63 : decode cX7_laysLines 63 = .ok (.iastore, 1) := dk_79 (dk_at dksX7_laysLines_2 15 rfl rfl)
theorem dX7_laysLines_64 : decode cX7_laysLines 64 = .ok (.aload_n 0, 1) := dk_42 (dk_at dksX7_laysLines_2 16 rfl rfl)
theorem dX7_laysLines_65 : decode cX7_laysLines 65 = .ok (.getfield 99, 3) := dk_180 0 99 (dk_at dksX7_laysLines_2 17 rfl rfl)
theorem dX7_laysLines_68 : decode cX7_laysLines 68 = .ok (.bipush 40, 2) := dk_16 40 (dk_at dksX7_laysLines_2 20 rfl rfl)
theorem dX7_laysLines_70 : decode cX7_laysLines 70 = .ok (.iload_n 2, 1) := dk_28 (dk_at dksX7_laysLines_2 22 rfl rfl)
theorem dX7_laysLines_71 : decode cX7_laysLines 71 = .ok (.imul, 1) := dk_104 (dk_at dksX7_laysLines_2 23 rfl rfl)
theorem dX7_laysLines_72 : decode cX7_laysLines 72 = .ok (.iload_n 3, 1) := dk_29 (dk_at dksX7_laysLines_3 0 rfl rfl)
theorem dX7_laysLines_73 : decode cX7_laysLines 73 = .ok (.iadd, 1) := dk_96 (dk_at dksX7_laysLines_3 1 rfl rfl)
theorem dX7_laysLines_74 : decode cX7_laysLines 74 = .ok (.aload_n 0, 1) := dk_42 (dk_at dksX7_laysLines_3 2 rfl rfl)
theorem dX7_laysLines_75 : decode cX7_laysLines 75 = .ok (.getfield 99, 3) := dk_180 0 99 (dk_at dksX7_laysLines_3 3 rfl rfl)
theorem dX7_laysLines_78 : decode cX7_laysLines 78 = .ok (.bipush 40, 2) := dk_16 40 (dk_at dksX7_laysLines_3 6 rfl rfl)
theorem dX7_laysLines_80 : decode cX7_laysLines 80 = .ok (.iload_n 1, 1) := dk_27 (dk_at dksX7_laysLines_3 8 rfl rfl)
theorem dX7_laysLines_81 : decode cX7_laysLines 81 = .ok (.imul, 1) := dk_104 (dk_at dksX7_laysLines_3 9 rfl rfl)
theorem dX7_laysLines_82 : decode cX7_laysLines 82 = .ok (.iload_n 3, 1) := dk_29 (dk_at dksX7_laysLines_3 10 rfl rfl)
theorem dX7_laysLines_83 : decode cX7_laysLines 83 = .ok (.iadd, 1) := dk_96 (dk_at dksX7_laysLines_3 11 rfl rfl)
theorem dX7_laysLines_84 : decode cX7_laysLines 84 = .ok (.iaload, 1) := dk_46 (dk_at dksX7_laysLines_3 12 rfl rfl)
theorem dX7_laysLines_85 : decode cX7_laysLines 85 = .ok (.iastore, 1) := dk_79 (dk_at dksX7_laysLines_3 13 rfl rfl)
theorem dX7_laysLines_86 : decode cX7_laysLines 86 = .ok (.aload_n 0, 1) := dk_42 (dk_at dksX7_laysLines_3 14 rfl rfl)
theorem dX7_laysLines_87 : decode cX7_laysLines 87 = .ok (.getfield 102, 3) := dk_180 0 102 (dk_at dksX7_laysLines_3 15 rfl rfl)
theorem dX7_laysLines_90 : decode cX7_laysLines 90 = .ok (.bipush 40, 2) := dk_16 40 (dk_at dksX7_laysLines_3 18 rfl rfl)
theorem dX7_laysLines_92 : decode cX7_laysLines 92 = .ok (.iload_n 2, 1) := dk_28 (dk_at dksX7_laysLines_3 20 rfl rfl)
theorem dX7_laysLines_93 : decode cX7_laysLines 93 = .ok (.imul, 1) := dk_104 (dk_at dksX7_laysLines_3 21 rfl rfl)
theorem dX7_laysLines_94 : decode cX7_laysLines 94 = .ok (.iload_n 3, 1) := dk_29 (dk_at dksX7_laysLines_3 22 rfl rfl)
theorem dX7_laysLines_95 : decode cX7_laysLines 95 = .ok (.iadd, 1) := dk_96 (dk_at dksX7_laysLines_3 23 rfl rfl)
theorem dX7_laysLines_96 : decode cX7_laysLines 96 = .ok (.aload_n 0, 1) := dk_42 (dk_at dksX7_laysLines_4 0 rfl rfl)
theorem dX7_laysLines_97 : decode cX7_laysLines 97 = .ok (.getfield 102, 3) := dk_180 0 102 (dk_at dksX7_laysLines_4 1 rfl rfl)
theorem dX7_laysLines_100 : decode cX7_laysLines 100 = .ok (.bipush 40, 2) := dk_16 40 (dk_at dksX7_laysLines_4 4 rfl rfl)
theorem dX7_laysLines_102 : decode cX7_laysLines 102 = .ok (.iload_n 1, 1) := dk_27 (dk_at dksX7_laysLines_4 6 rfl rfl)
theorem dX7_laysLines_103 : decode cX7_laysLines 103 = .ok (.imul, 1) := dk_104 (dk_at dksX7_laysLines_4 7 rfl rfl)
theorem dX7_laysLines_104 : decode cX7_laysLines 104 = .ok (.iload_n 3, 1) := dk_29 (dk_at dksX7_laysLines_4 8 rfl rfl)
theorem dX7_laysLines_105 : decode cX7_laysLines 105 = .ok (.iadd, 1) := dk_96 (dk_at dksX7_laysLines_4 9 rfl rfl)
theorem dX7_laysLines_106 : decode cX7_laysLines 106 = .ok (.iaload, 1) := dk_46 (dk_at dksX7_laysLines_4 10 rfl rfl)
theorem dX7_laysLines_107 : decode cX7_laysLines 107 = .ok (.iastore, 1) := dk_79 (dk_at dksX7_laysLines_4 11 rfl rfl)
theorem dX7_laysLines_108 : decode cX7_laysLines 108 = .ok (.iinc 3 1, 3) := dk_132 3 1 (dk_at dksX7_laysLines_4 12 rfl rfl)
theorem dX7_laysLines_111 : decode cX7_laysLines 111 = .ok (.goto (-97), 3) := dk_167 255 159 (dk_at dksX7_laysLines_4 15 rfl rfl)
theorem dX7_laysLines_114 : decode cX7_laysLines 114 = .ok (.return_, 1) := dk_177 (dk_at dksX7_laysLines_4 18 rfl rfl)
abbrev cX7_year : ByteArray := prog_32_method_43_code
abbrev yX7_year : MethodName := { cls := "WornSkinModel", name := "year", desc := "()I" }
def dkwX7_year_1 : List UInt8 := [182, 1, 90, 154, 255, 245, 42, 180, 0, 180, 172, 42, 8, 3, 182, 1, 93, 3, 172]
abbrev dktX7_year_1 : List UInt8 := dkwX7_year_1 ++ []
def dkwX7_year_0 : List UInt8 := [42, 3, 181, 0, 144, 42, 180, 0, 90, 8, 3, 79, 42, 182, 1, 49, 42, 180, 0, 169, 153, 0, 15, 42]
abbrev dktX7_year_0 : List UInt8 := dkwX7_year_0 ++ dktX7_year_1
theorem dksX7_year_0 : cX7_year.data.toList.drop 0 = dktX7_year_0 := by decide +kernel
theorem dksX7_year_1 : cX7_year.data.toList.drop 24 = dktX7_year_1 := dk_seg dksX7_year_0 24 rfl rfl
theorem dX7_year_0 : decode cX7_year 0 = .ok (.aload_n 0, 1) := dk_42 (dk_at dksX7_year_0 0 rfl rfl)
theorem dX7_year_1 : decode cX7_year 1 = .ok (.iconst 0, 1) := dk_3 (dk_at dksX7_year_0 1 rfl rfl)
theorem dX7_year_2 : decode cX7_year 2 = .ok (.putfield 144, 3) := dk_181 0 144 (dk_at dksX7_year_0 2 rfl rfl)
theorem dX7_year_5 : decode cX7_year 5 = .ok (.aload_n 0, 1) := dk_42 (dk_at dksX7_year_0 5 rfl rfl)
theorem dX7_year_6 : decode cX7_year 6 = .ok (.getfield 90, 3) := dk_180 0 90 (dk_at dksX7_year_0 6 rfl rfl)
theorem dX7_year_9 : decode cX7_year 9 = .ok (.iconst 5, 1) := dk_8 (dk_at dksX7_year_0 9 rfl rfl)
theorem dX7_year_10 : decode cX7_year 10 = .ok (.iconst 0, 1) := dk_3 (dk_at dksX7_year_0 10 rfl rfl)
theorem dX7_year_11 : decode cX7_year 11 = .ok (.iastore, 1) := dk_79 (dk_at dksX7_year_0 11 rfl rfl)
theorem dX7_year_12 : decode cX7_year 12 = .ok (.aload_n 0, 1) := dk_42 (dk_at dksX7_year_0 12 rfl rfl)
theorem dX7_year_13 : decode cX7_year 13 = .ok (.invokevirtual 305, 3) := dk_182 1 49 (dk_at dksX7_year_0 13 rfl rfl)
theorem dX7_year_16 : decode cX7_year 16 = .ok (.aload_n 0, 1) := dk_42 (dk_at dksX7_year_0 16 rfl rfl)
theorem dX7_year_17 : decode cX7_year 17 = .ok (.getfield 169, 3) := dk_180 0 169 (dk_at dksX7_year_0 17 rfl rfl)
theorem dX7_year_20 : decode cX7_year 20 = .ok (.ifCond .eq 15, 3) := dk_153 0 15 (dk_at dksX7_year_0 20 rfl rfl)
theorem dX7_year_23 : decode cX7_year 23 = .ok (.aload_n 0, 1) := dk_42 (dk_at dksX7_year_0 23 rfl rfl)
theorem dX7_year_24 : decode cX7_year 24 = .ok (.invokevirtual 346, 3) := dk_182 1 90 (dk_at dksX7_year_1 0 rfl rfl)
theorem dX7_year_27 : decode cX7_year 27 = .ok (.ifCond .ne (-11), 3) := dk_154 255 245 (dk_at dksX7_year_1 3 rfl rfl)
theorem dX7_year_30 : decode cX7_year 30 = .ok (.aload_n 0, 1) := dk_42 (dk_at dksX7_year_1 6 rfl rfl)
theorem dX7_year_31 : decode cX7_year 31 = .ok (.getfield 180, 3) := dk_180 0 180 (dk_at dksX7_year_1 7 rfl rfl)
theorem dX7_year_34 : decode cX7_year 34 = .ok (.ireturn, 1) := dk_172 (dk_at dksX7_year_1 10 rfl rfl)
theorem dX7_year_35 : decode cX7_year 35 = .ok (.aload_n 0, 1) := dk_42 (dk_at dksX7_year_1 11 rfl rfl)
theorem dX7_year_36 : decode cX7_year 36 = .ok (.iconst 5, 1) := dk_8 (dk_at dksX7_year_1 12 rfl rfl)
theorem dX7_year_37 : decode cX7_year 37 = .ok (.iconst 0, 1) := dk_3 (dk_at dksX7_year_1 13 rfl rfl)
theorem dX7_year_38 : decode cX7_year 38 = .ok (.invokevirtual 349, 3) := dk_182 1 93 (dk_at dksX7_year_1 14 rfl rfl)
theorem dX7_year_41 : decode cX7_year 41 = .ok (.iconst 0, 1) := dk_3 (dk_at dksX7_year_1 17 rfl rfl)
theorem dX7_year_42 : decode cX7_year 42 = .ok (.ireturn, 1) := dk_172 (dk_at dksX7_year_1 18 rfl rfl)
abbrev cX7_isSkin : ByteArray := prog_32_method_44_code
abbrev yX7_isSkin : MethodName := { cls := "WornSkinModel", name := "isSkin", desc := "(I)Z" }
def dkwX7_isSkin_0 : List UInt8 := [27, 155, 0, 17, 27, 42, 180, 0, 13, 3, 46, 162, 0, 7, 4, 167, 0, 4, 3, 172]
abbrev dktX7_isSkin_0 : List UInt8 := dkwX7_isSkin_0 ++ []
theorem dksX7_isSkin_0 : cX7_isSkin.data.toList.drop 0 = dktX7_isSkin_0 := by decide +kernel
theorem dX7_isSkin_0 : decode cX7_isSkin 0 = .ok (.iload_n 1, 1) := dk_27 (dk_at dksX7_isSkin_0 0 rfl rfl)
theorem dX7_isSkin_1 : decode cX7_isSkin 1 = .ok (.ifCond .lt 17, 3) := dk_155 0 17 (dk_at dksX7_isSkin_0 1 rfl rfl)
theorem dX7_isSkin_4 : decode cX7_isSkin 4 = .ok (.iload_n 1, 1) := dk_27 (dk_at dksX7_isSkin_0 4 rfl rfl)
theorem dX7_isSkin_5 : decode cX7_isSkin 5 = .ok (.aload_n 0, 1) := dk_42 (dk_at dksX7_isSkin_0 5 rfl rfl)
theorem dX7_isSkin_6 : decode cX7_isSkin 6 = .ok (.getfield 13, 3) := dk_180 0 13 (dk_at dksX7_isSkin_0 6 rfl rfl)
theorem dX7_isSkin_9 : decode cX7_isSkin 9 = .ok (.iconst 0, 1) := dk_3 (dk_at dksX7_isSkin_0 9 rfl rfl)
theorem dX7_isSkin_10 : decode cX7_isSkin 10 = .ok (.iaload, 1) := dk_46 (dk_at dksX7_isSkin_0 10 rfl rfl)
theorem dX7_isSkin_11 : decode cX7_isSkin 11 = .ok (.if_icmp .ge 7, 3) := dk_162 0 7 (dk_at dksX7_isSkin_0 11 rfl rfl)
theorem dX7_isSkin_14 : decode cX7_isSkin 14 = .ok (.iconst 1, 1) := dk_4 (dk_at dksX7_isSkin_0 14 rfl rfl)
theorem dX7_isSkin_15 : decode cX7_isSkin 15 = .ok (.goto 4, 3) := dk_167 0 4 (dk_at dksX7_isSkin_0 15 rfl rfl)
theorem dX7_isSkin_18 : decode cX7_isSkin 18 = .ok (.iconst 0, 1) := dk_3 (dk_at dksX7_isSkin_0 18 rfl rfl)
theorem dX7_isSkin_19 : decode cX7_isSkin 19 = .ok (.ireturn, 1) := dk_172 (dk_at dksX7_isSkin_0 19 rfl rfl)
abbrev cX7_dampOf : ByteArray := prog_32_method_48_code
abbrev yX7_dampOf : MethodName := { cls := "WornSkinModel", name := "dampOf", desc := "(I)I" }
def dkwX7_dampOf_1 : List UInt8 := [112, 46, 172]
abbrev dktX7_dampOf_1 : List UInt8 := dkwX7_dampOf_1 ++ []
def dkwX7_dampOf_0 : List UInt8 := [42, 180, 0, 13, 5, 46, 154, 0, 7, 3, 167, 0, 16, 42, 180, 0, 41, 27, 42, 180, 0, 13, 5, 46]
abbrev dktX7_dampOf_0 : List UInt8 := dkwX7_dampOf_0 ++ dktX7_dampOf_1
theorem dksX7_dampOf_0 : cX7_dampOf.data.toList.drop 0 = dktX7_dampOf_0 := by decide +kernel
theorem dksX7_dampOf_1 : cX7_dampOf.data.toList.drop 24 = dktX7_dampOf_1 := dk_seg dksX7_dampOf_0 24 rfl rfl
theorem dX7_dampOf_0 : decode cX7_dampOf 0 = .ok (.aload_n 0, 1) := dk_42 (dk_at dksX7_dampOf_0 0 rfl rfl)
theorem dX7_dampOf_1 : decode cX7_dampOf 1 = .ok (.getfield 13, 3) := dk_180 0 13 (dk_at dksX7_dampOf_0 1 rfl rfl)
theorem dX7_dampOf_4 : decode cX7_dampOf 4 = .ok (.iconst 2, 1) := dk_5 (dk_at dksX7_dampOf_0 4 rfl rfl)
theorem dX7_dampOf_5 : decode cX7_dampOf 5 = .ok (.iaload, 1) := dk_46 (dk_at dksX7_dampOf_0 5 rfl rfl)
theorem dX7_dampOf_6 : decode cX7_dampOf 6 = .ok (.ifCond .ne 7, 3) := dk_154 0 7 (dk_at dksX7_dampOf_0 6 rfl rfl)
theorem dX7_dampOf_9 : decode cX7_dampOf 9 = .ok (.iconst 0, 1) := dk_3 (dk_at dksX7_dampOf_0 9 rfl rfl)
theorem dX7_dampOf_10 : decode cX7_dampOf 10 = .ok (.goto 16, 3) := dk_167 0 16 (dk_at dksX7_dampOf_0 10 rfl rfl)
theorem dX7_dampOf_13 : decode cX7_dampOf 13 = .ok (.aload_n 0, 1) := dk_42 (dk_at dksX7_dampOf_0 13 rfl rfl)
theorem dX7_dampOf_14 : decode cX7_dampOf 14 = .ok (.getfield 41, 3) := dk_180 0 41 (dk_at dksX7_dampOf_0 14 rfl rfl)
theorem dX7_dampOf_17 : decode cX7_dampOf 17 = .ok (.iload_n 1, 1) := dk_27 (dk_at dksX7_dampOf_0 17 rfl rfl)
theorem dX7_dampOf_18 : decode cX7_dampOf 18 = .ok (.aload_n 0, 1) := dk_42 (dk_at dksX7_dampOf_0 18 rfl rfl)
theorem dX7_dampOf_19 : decode cX7_dampOf 19 = .ok (.getfield 13, 3) := dk_180 0 13 (dk_at dksX7_dampOf_0 19 rfl rfl)
theorem dX7_dampOf_22 : decode cX7_dampOf 22 = .ok (.iconst 2, 1) := dk_5 (dk_at dksX7_dampOf_0 22 rfl rfl)
theorem dX7_dampOf_23 : decode cX7_dampOf 23 = .ok (.iaload, 1) := dk_46 (dk_at dksX7_dampOf_0 23 rfl rfl)
theorem dX7_dampOf_24 : decode cX7_dampOf 24 = .ok (.irem, 1) := dk_112 (dk_at dksX7_dampOf_1 0 rfl rfl)
theorem dX7_dampOf_25 : decode cX7_dampOf 25 = .ok (.iaload, 1) := dk_46 (dk_at dksX7_dampOf_1 1 rfl rfl)
theorem dX7_dampOf_26 : decode cX7_dampOf 26 = .ok (.ireturn, 1) := dk_172 (dk_at dksX7_dampOf_1 2 rfl rfl)
abbrev cX7_opens : ByteArray := prog_32_method_14_code
abbrev yX7_opens : MethodName := { cls := "WornSkinModel", name := "opens", desc := "(I)V" }
def dkwX7_opens_1 : List UInt8 := [180, 0, 75, 27, 16, 20, 79, 42, 180, 0, 81, 27, 3, 79, 177]
abbrev dktX7_opens_1 : List UInt8 := dkwX7_opens_1 ++ []
def dkwX7_opens_0 : List UInt8 := [42, 180, 0, 63, 27, 3, 79, 42, 180, 0, 69, 27, 3, 79, 42, 180, 0, 72, 27, 3, 79, 42]
abbrev dktX7_opens_0 : List UInt8 := dkwX7_opens_0 ++ dktX7_opens_1
theorem dksX7_opens_0 : cX7_opens.data.toList.drop 0 = dktX7_opens_0 := by decide +kernel
theorem dksX7_opens_1 : cX7_opens.data.toList.drop 22 = dktX7_opens_1 := dk_seg dksX7_opens_0 22 rfl rfl
theorem dX7_opens_0 : decode cX7_opens 0 = .ok (.aload_n 0, 1) := dk_42 (dk_at dksX7_opens_0 0 rfl rfl)
theorem dX7_opens_1 : decode cX7_opens 1 = .ok (.getfield 63, 3) := dk_180 0 63 (dk_at dksX7_opens_0 1 rfl rfl)
theorem dX7_opens_4 : decode cX7_opens 4 = .ok (.iload_n 1, 1) := dk_27 (dk_at dksX7_opens_0 4 rfl rfl)
theorem dX7_opens_5 : decode cX7_opens 5 = .ok (.iconst 0, 1) := dk_3 (dk_at dksX7_opens_0 5 rfl rfl)
theorem dX7_opens_6 : decode cX7_opens 6 = .ok (.iastore, 1) := dk_79 (dk_at dksX7_opens_0 6 rfl rfl)
theorem dX7_opens_7 : decode cX7_opens 7 = .ok (.aload_n 0, 1) := dk_42 (dk_at dksX7_opens_0 7 rfl rfl)
theorem dX7_opens_8 : decode cX7_opens 8 = .ok (.getfield 69, 3) := dk_180 0 69 (dk_at dksX7_opens_0 8 rfl rfl)
theorem dX7_opens_11 : decode cX7_opens 11 = .ok (.iload_n 1, 1) := dk_27 (dk_at dksX7_opens_0 11 rfl rfl)
theorem dX7_opens_12 : decode cX7_opens 12 = .ok (.iconst 0, 1) := dk_3 (dk_at dksX7_opens_0 12 rfl rfl)
theorem dX7_opens_13 : decode cX7_opens 13 = .ok (.iastore, 1) := dk_79 (dk_at dksX7_opens_0 13 rfl rfl)
theorem dX7_opens_14 : decode cX7_opens 14 = .ok (.aload_n 0, 1) := dk_42 (dk_at dksX7_opens_0 14 rfl rfl)
theorem dX7_opens_15 : decode cX7_opens 15 = .ok (.getfield 72, 3) := dk_180 0 72 (dk_at dksX7_opens_0 15 rfl rfl)
theorem dX7_opens_18 : decode cX7_opens 18 = .ok (.iload_n 1, 1) := dk_27 (dk_at dksX7_opens_0 18 rfl rfl)
theorem dX7_opens_19 : decode cX7_opens 19 = .ok (.iconst 0, 1) := dk_3 (dk_at dksX7_opens_0 19 rfl rfl)
theorem dX7_opens_20 : decode cX7_opens 20 = .ok (.iastore, 1) := dk_79 (dk_at dksX7_opens_0 20 rfl rfl)
theorem dX7_opens_21 : decode cX7_opens 21 = .ok (.aload_n 0, 1) := dk_42 (dk_at dksX7_opens_0 21 rfl rfl)
theorem dX7_opens_22 : decode cX7_opens 22 = .ok (.getfield 75, 3) := dk_180 0 75 (dk_at dksX7_opens_1 0 rfl rfl)
theorem dX7_opens_25 : decode cX7_opens 25 = .ok (.iload_n 1, 1) := dk_27 (dk_at dksX7_opens_1 3 rfl rfl)
theorem dX7_opens_26 : decode cX7_opens 26 = .ok (.bipush 20, 2) := dk_16 20 (dk_at dksX7_opens_1 4 rfl rfl)
theorem dX7_opens_28 : decode cX7_opens 28 = .ok (.iastore, 1) := dk_79 (dk_at dksX7_opens_1 6 rfl rfl)
theorem dX7_opens_29 : decode cX7_opens 29 = .ok (.aload_n 0, 1) := dk_42 (dk_at dksX7_opens_1 7 rfl rfl)
theorem dX7_opens_30 : decode cX7_opens 30 = .ok (.getfield 81, 3) := dk_180 0 81 (dk_at dksX7_opens_1 8 rfl rfl)
theorem dX7_opens_33 : decode cX7_opens 33 = .ok (.iload_n 1, 1) := dk_27 (dk_at dksX7_opens_1 11 rfl rfl)
theorem dX7_opens_34 : decode cX7_opens 34 = .ok (.iconst 0, 1) := dk_3 (dk_at dksX7_opens_1 12 rfl rfl)
theorem dX7_opens_35 : decode cX7_opens 35 = .ok (.iastore, 1) := dk_79 (dk_at dksX7_opens_1 13 rfl rfl)
theorem dX7_opens_36 : decode cX7_opens 36 = .ok (.return_, 1) := dk_177 (dk_at dksX7_opens_1 14 rfl rfl)
abbrev cX7_sums : ByteArray := prog_32_method_15_code
abbrev yX7_sums : MethodName := { cls := "WornSkinModel", name := "sums", desc := "(I)V" }
def dkwX7_sums_2 : List UInt8 := [180, 0, 81, 27, 3, 79, 177]
abbrev dktX7_sums_2 : List UInt8 := dkwX7_sums_2 ++ []
def dkwX7_sums_1 : List UInt8 := [180, 0, 78, 27, 46, 100, 167, 0, 16, 42, 180, 0, 72, 27, 46, 42, 180, 0, 78, 27, 46, 96, 79, 42]
abbrev dktX7_sums_1 : List UInt8 := dkwX7_sums_1 ++ dktX7_sums_2
def dkwX7_sums_0 : List UInt8 := [42, 180, 0, 72, 27, 42, 180, 0, 75, 27, 46, 16, 21, 160, 0, 19, 42, 180, 0, 72, 27, 46, 42]
abbrev dktX7_sums_0 : List UInt8 := dkwX7_sums_0 ++ dktX7_sums_1
theorem dksX7_sums_0 : cX7_sums.data.toList.drop 0 = dktX7_sums_0 := by decide +kernel
theorem dksX7_sums_1 : cX7_sums.data.toList.drop 23 = dktX7_sums_1 := dk_seg dksX7_sums_0 23 rfl rfl
theorem dksX7_sums_2 : cX7_sums.data.toList.drop 47 = dktX7_sums_2 := dk_seg dksX7_sums_1 24 rfl rfl
theorem dX7_sums_0 : decode cX7_sums 0 = .ok (.aload_n 0, 1) := dk_42 (dk_at dksX7_sums_0 0 rfl rfl)
theorem dX7_sums_1 : decode cX7_sums 1 = .ok (.getfield 72, 3) := dk_180 0 72 (dk_at dksX7_sums_0 1 rfl rfl)
theorem dX7_sums_4 : decode cX7_sums 4 = .ok (.iload_n 1, 1) := dk_27 (dk_at dksX7_sums_0 4 rfl rfl)
theorem dX7_sums_5 : decode cX7_sums 5 = .ok (.aload_n 0, 1) := dk_42 (dk_at dksX7_sums_0 5 rfl rfl)
theorem dX7_sums_6 : decode cX7_sums 6 = .ok (.getfield 75, 3) := dk_180 0 75 (dk_at dksX7_sums_0 6 rfl rfl)
theorem dX7_sums_9 : decode cX7_sums 9 = .ok (.iload_n 1, 1) := dk_27 (dk_at dksX7_sums_0 9 rfl rfl)
theorem dX7_sums_10 : decode cX7_sums 10 = .ok (.iaload, 1) := dk_46 (dk_at dksX7_sums_0 10 rfl rfl)
theorem dX7_sums_11 : decode cX7_sums 11 = .ok (.bipush 21, 2) := dk_16 21 (dk_at dksX7_sums_0 11 rfl rfl)
theorem dX7_sums_13 : decode cX7_sums 13 = .ok (.if_icmp .ne 19, 3) := dk_160 0 19 (dk_at dksX7_sums_0 13 rfl rfl)
theorem dX7_sums_16 : decode cX7_sums 16 = .ok (.aload_n 0, 1) := dk_42 (dk_at dksX7_sums_0 16 rfl rfl)
theorem dX7_sums_17 : decode cX7_sums 17 = .ok (.getfield 72, 3) := dk_180 0 72 (dk_at dksX7_sums_0 17 rfl rfl)
theorem dX7_sums_20 : decode cX7_sums 20 = .ok (.iload_n 1, 1) := dk_27 (dk_at dksX7_sums_0 20 rfl rfl)
theorem dX7_sums_21 : decode cX7_sums 21 = .ok (.iaload, 1) := dk_46 (dk_at dksX7_sums_0 21 rfl rfl)
theorem dX7_sums_22 : decode cX7_sums 22 = .ok (.aload_n 0, 1) := dk_42 (dk_at dksX7_sums_0 22 rfl rfl)
theorem dX7_sums_23 : decode cX7_sums 23 = .ok (.getfield 78, 3) := dk_180 0 78 (dk_at dksX7_sums_1 0 rfl rfl)
theorem dX7_sums_26 : decode cX7_sums 26 = .ok (.iload_n 1, 1) := dk_27 (dk_at dksX7_sums_1 3 rfl rfl)
theorem dX7_sums_27 : decode cX7_sums 27 = .ok (.iaload, 1) := dk_46 (dk_at dksX7_sums_1 4 rfl rfl)
theorem dX7_sums_28 : decode cX7_sums 28 = .ok (.isub, 1) := dk_100 (dk_at dksX7_sums_1 5 rfl rfl)
theorem dX7_sums_29 : decode cX7_sums 29 = .ok (.goto 16, 3) := dk_167 0 16 (dk_at dksX7_sums_1 6 rfl rfl)
theorem dX7_sums_32 : decode cX7_sums 32 = .ok (.aload_n 0, 1) := dk_42 (dk_at dksX7_sums_1 9 rfl rfl)
theorem dX7_sums_33 : decode cX7_sums 33 = .ok (.getfield 72, 3) := dk_180 0 72 (dk_at dksX7_sums_1 10 rfl rfl)
theorem dX7_sums_36 : decode cX7_sums 36 = .ok (.iload_n 1, 1) := dk_27 (dk_at dksX7_sums_1 13 rfl rfl)
theorem dX7_sums_37 : decode cX7_sums 37 = .ok (.iaload, 1) := dk_46 (dk_at dksX7_sums_1 14 rfl rfl)
theorem dX7_sums_38 : decode cX7_sums 38 = .ok (.aload_n 0, 1) := dk_42 (dk_at dksX7_sums_1 15 rfl rfl)
theorem dX7_sums_39 : decode cX7_sums 39 = .ok (.getfield 78, 3) := dk_180 0 78 (dk_at dksX7_sums_1 16 rfl rfl)
theorem dX7_sums_42 : decode cX7_sums 42 = .ok (.iload_n 1, 1) := dk_27 (dk_at dksX7_sums_1 19 rfl rfl)
theorem dX7_sums_43 : decode cX7_sums 43 = .ok (.iaload, 1) := dk_46 (dk_at dksX7_sums_1 20 rfl rfl)
theorem dX7_sums_44 : decode cX7_sums 44 = .ok (.iadd, 1) := dk_96 (dk_at dksX7_sums_1 21 rfl rfl)
theorem dX7_sums_45 : decode cX7_sums 45 = .ok (.iastore, 1) := dk_79 (dk_at dksX7_sums_1 22 rfl rfl)
theorem dX7_sums_46 : decode cX7_sums 46 = .ok (.aload_n 0, 1) := dk_42 (dk_at dksX7_sums_1 23 rfl rfl)
theorem dX7_sums_47 : decode cX7_sums 47 = .ok (.getfield 81, 3) := dk_180 0 81 (dk_at dksX7_sums_2 0 rfl rfl)
theorem dX7_sums_50 : decode cX7_sums 50 = .ok (.iload_n 1, 1) := dk_27 (dk_at dksX7_sums_2 3 rfl rfl)
theorem dX7_sums_51 : decode cX7_sums 51 = .ok (.iconst 0, 1) := dk_3 (dk_at dksX7_sums_2 4 rfl rfl)
theorem dX7_sums_52 : decode cX7_sums 52 = .ok (.iastore, 1) := dk_79 (dk_at dksX7_sums_2 5 rfl rfl)
theorem dX7_sums_53 : decode cX7_sums 53 = .ok (.return_, 1) := dk_177 (dk_at dksX7_sums_2 6 rfl rfl)
abbrev cX7_tests : ByteArray := prog_32_method_16_code
abbrev yX7_tests : MethodName := { cls := "WornSkinModel", name := "tests", desc := "(I)V" }
def dkwX7_tests_7 : List UInt8 := [177]
abbrev dktX7_tests_7 : List UInt8 := dkwX7_tests_7 ++ []
def dkwX7_tests_6 : List UInt8 := [28, 79, 42, 180, 0, 69, 27, 3, 79, 42, 180, 0, 72, 27, 3, 79, 42, 180, 0, 75, 27, 16, 20, 79]
abbrev dktX7_tests_6 : List UInt8 := dkwX7_tests_6 ++ dktX7_tests_7
def dkwX7_tests_5 : List UInt8 := [42, 180, 0, 60, 27, 46, 154, 0, 7, 28, 153, 0, 7, 4, 167, 0, 4, 3, 61, 42, 180, 0, 60, 27]
abbrev dktX7_tests_5 : List UInt8 := dkwX7_tests_5 ++ dktX7_tests_6
def dkwX7_tests_4 : List UInt8 := [153, 0, 11, 28, 153, 0, 7, 4, 167, 0, 4, 3, 61, 42, 180, 0, 63, 27, 46, 16, 27, 160, 0, 22]
abbrev dktX7_tests_4 : List UInt8 := dkwX7_tests_4 ++ dktX7_tests_5
def dkwX7_tests_3 : List UInt8 := [167, 0, 4, 3, 61, 42, 180, 0, 63, 27, 46, 16, 26, 160, 0, 22, 42, 180, 0, 60, 27, 46]
abbrev dktX7_tests_3 : List UInt8 := dkwX7_tests_3 ++ dktX7_tests_4
def dkwX7_tests_2 : List UInt8 := [27, 46, 16, 25, 160, 0, 24, 42, 180, 0, 66, 27, 46, 42, 180, 0, 72, 27, 46, 160, 0, 7, 4]
abbrev dktX7_tests_2 : List UInt8 := dkwX7_tests_2 ++ dktX7_tests_3
def dkwX7_tests_1 : List UInt8 := [180, 0, 66, 27, 46, 42, 180, 0, 72, 27, 46, 162, 0, 7, 4, 167, 0, 4, 3, 61, 42, 180, 0, 69]
abbrev dktX7_tests_1 : List UInt8 := dkwX7_tests_1 ++ dktX7_tests_2
def dkwX7_tests_0 : List UInt8 := [42, 27, 182, 0, 222, 42, 180, 0, 72, 27, 46, 61, 42, 180, 0, 69, 27, 46, 16, 24, 160, 0, 24, 42]
abbrev dktX7_tests_0 : List UInt8 := dkwX7_tests_0 ++ dktX7_tests_1
theorem dksX7_tests_0 : cX7_tests.data.toList.drop 0 = dktX7_tests_0 := by decide +kernel
theorem dksX7_tests_1 : cX7_tests.data.toList.drop 24 = dktX7_tests_1 := dk_seg dksX7_tests_0 24 rfl rfl
theorem dksX7_tests_2 : cX7_tests.data.toList.drop 48 = dktX7_tests_2 := dk_seg dksX7_tests_1 24 rfl rfl
theorem dksX7_tests_3 : cX7_tests.data.toList.drop 71 = dktX7_tests_3 := dk_seg dksX7_tests_2 23 rfl rfl
theorem dksX7_tests_4 : cX7_tests.data.toList.drop 93 = dktX7_tests_4 := dk_seg dksX7_tests_3 22 rfl rfl
theorem dksX7_tests_5 : cX7_tests.data.toList.drop 117 = dktX7_tests_5 := dk_seg dksX7_tests_4 24 rfl rfl
theorem dksX7_tests_6 : cX7_tests.data.toList.drop 141 = dktX7_tests_6 := dk_seg dksX7_tests_5 24 rfl rfl
theorem dksX7_tests_7 : cX7_tests.data.toList.drop 165 = dktX7_tests_7 := dk_seg dksX7_tests_6 24 rfl rfl
theorem dX7_tests_0 : decode cX7_tests 0 = .ok (.aload_n 0, 1) := dk_42 (dk_at dksX7_tests_0 0 rfl rfl)
theorem dX7_tests_1 : decode cX7_tests 1 = .ok (.iload_n 1, 1) := dk_27 (dk_at dksX7_tests_0 1 rfl rfl)
theorem dX7_tests_2 : decode cX7_tests 2 = .ok (.invokevirtual 222, 3) := dk_182 0 222 (dk_at dksX7_tests_0 2 rfl rfl)
theorem dX7_tests_5 : decode cX7_tests 5 = .ok (.aload_n 0, 1) := dk_42 (dk_at dksX7_tests_0 5 rfl rfl)
theorem dX7_tests_6 : decode cX7_tests 6 = .ok (.getfield 72, 3) := dk_180 0 72 (dk_at dksX7_tests_0 6 rfl rfl)
theorem dX7_tests_9 : decode cX7_tests 9 = .ok (.iload_n 1, 1) := dk_27 (dk_at dksX7_tests_0 9 rfl rfl)
theorem dX7_tests_10 : decode cX7_tests 10 = .ok (.iaload, 1) := dk_46 (dk_at dksX7_tests_0 10 rfl rfl)
theorem dX7_tests_11 : decode cX7_tests 11 = .ok (.istore_n 2, 1) := dk_61 (dk_at dksX7_tests_0 11 rfl rfl)
theorem dX7_tests_12 : decode cX7_tests 12 = .ok (.aload_n 0, 1) := dk_42 (dk_at dksX7_tests_0 12 rfl rfl)
theorem dX7_tests_13 : decode cX7_tests 13 = .ok (.getfield 69, 3) := dk_180 0 69 (dk_at dksX7_tests_0 13 rfl rfl)
theorem dX7_tests_16 : decode cX7_tests 16 = .ok (.iload_n 1, 1) := dk_27 (dk_at dksX7_tests_0 16 rfl rfl)
theorem dX7_tests_17 : decode cX7_tests 17 = .ok (.iaload, 1) := dk_46 (dk_at dksX7_tests_0 17 rfl rfl)
theorem dX7_tests_18 : decode cX7_tests 18 = .ok (.bipush 24, 2) := dk_16 24 (dk_at dksX7_tests_0 18 rfl rfl)
theorem dX7_tests_20 : decode cX7_tests 20 = .ok (.if_icmp .ne 24, 3) := dk_160 0 24 (dk_at dksX7_tests_0 20 rfl rfl)
theorem dX7_tests_23 : decode cX7_tests 23 = .ok (.aload_n 0, 1) := dk_42 (dk_at dksX7_tests_0 23 rfl rfl)
theorem dX7_tests_24 : decode cX7_tests 24 = .ok (.getfield 66, 3) := dk_180 0 66 (dk_at dksX7_tests_1 0 rfl rfl)
theorem dX7_tests_27 : decode cX7_tests 27 = .ok (.iload_n 1, 1) := dk_27 (dk_at dksX7_tests_1 3 rfl rfl)
theorem dX7_tests_28 : decode cX7_tests 28 = .ok (.iaload, 1) := dk_46 (dk_at dksX7_tests_1 4 rfl rfl)
theorem dX7_tests_29 : decode cX7_tests 29 = .ok (.aload_n 0, 1) := dk_42 (dk_at dksX7_tests_1 5 rfl rfl)
theorem dX7_tests_30 : decode cX7_tests 30 = .ok (.getfield 72, 3) := dk_180 0 72 (dk_at dksX7_tests_1 6 rfl rfl)
theorem dX7_tests_33 : decode cX7_tests 33 = .ok (.iload_n 1, 1) := dk_27 (dk_at dksX7_tests_1 9 rfl rfl)
theorem dX7_tests_34 : decode cX7_tests 34 = .ok (.iaload, 1) := dk_46 (dk_at dksX7_tests_1 10 rfl rfl)
theorem dX7_tests_35 : decode cX7_tests 35 = .ok (.if_icmp .ge 7, 3) := dk_162 0 7 (dk_at dksX7_tests_1 11 rfl rfl)
theorem dX7_tests_38 : decode cX7_tests 38 = .ok (.iconst 1, 1) := dk_4 (dk_at dksX7_tests_1 14 rfl rfl)
theorem dX7_tests_39 : decode cX7_tests 39 = .ok (.goto 4, 3) := dk_167 0 4 (dk_at dksX7_tests_1 15 rfl rfl)
theorem dX7_tests_42 : decode cX7_tests 42 = .ok (.iconst 0, 1) := dk_3 (dk_at dksX7_tests_1 18 rfl rfl)
theorem dX7_tests_43 : decode cX7_tests 43 = .ok (.istore_n 2, 1) := dk_61 (dk_at dksX7_tests_1 19 rfl rfl)
theorem dX7_tests_44 : decode cX7_tests 44 = .ok (.aload_n 0, 1) := dk_42 (dk_at dksX7_tests_1 20 rfl rfl)
theorem dX7_tests_45 : decode cX7_tests 45 = .ok (.getfield 69, 3) := dk_180 0 69 (dk_at dksX7_tests_1 21 rfl rfl)
theorem dX7_tests_48 : decode cX7_tests 48 = .ok (.iload_n 1, 1) := dk_27 (dk_at dksX7_tests_2 0 rfl rfl)
theorem dX7_tests_49 : decode cX7_tests 49 = .ok (.iaload, 1) := dk_46 (dk_at dksX7_tests_2 1 rfl rfl)
theorem dX7_tests_50 : decode cX7_tests 50 = .ok (.bipush 25, 2) := dk_16 25 (dk_at dksX7_tests_2 2 rfl rfl)
theorem dX7_tests_52 : decode cX7_tests 52 = .ok (.if_icmp .ne 24, 3) := dk_160 0 24 (dk_at dksX7_tests_2 4 rfl rfl)
theorem dX7_tests_55 : decode cX7_tests 55 = .ok (.aload_n 0, 1) := dk_42 (dk_at dksX7_tests_2 7 rfl rfl)
theorem dX7_tests_56 : decode cX7_tests 56 = .ok (.getfield 66, 3) := dk_180 0 66 (dk_at dksX7_tests_2 8 rfl rfl)
theorem dX7_tests_59 : decode cX7_tests 59 = .ok (.iload_n 1, 1) := dk_27 (dk_at dksX7_tests_2 11 rfl rfl)
theorem dX7_tests_60 : decode cX7_tests 60 = .ok (.iaload, 1) := dk_46 (dk_at dksX7_tests_2 12 rfl rfl)
theorem dX7_tests_61 : decode cX7_tests 61 = .ok (.aload_n 0, 1) := dk_42 (dk_at dksX7_tests_2 13 rfl rfl)
theorem dX7_tests_62 : decode cX7_tests 62 = .ok (.getfield 72, 3) := dk_180 0 72 (dk_at dksX7_tests_2 14 rfl rfl)
theorem dX7_tests_65 : decode cX7_tests 65 = .ok (.iload_n 1, 1) := dk_27 (dk_at dksX7_tests_2 17 rfl rfl)
theorem dX7_tests_66 : decode cX7_tests 66 = .ok (.iaload, 1) := dk_46 (dk_at dksX7_tests_2 18 rfl rfl)
theorem dX7_tests_67 : decode cX7_tests 67 = .ok (.if_icmp .ne 7, 3) := dk_160 0 7 (dk_at dksX7_tests_2 19 rfl rfl)
theorem dX7_tests_70 : decode cX7_tests 70 = .ok (.iconst 1, 1) := dk_4 (dk_at dksX7_tests_2 22 rfl rfl)
theorem dX7_tests_71 : decode cX7_tests 71 = .ok (.goto 4, 3) := dk_167 0 4 (dk_at dksX7_tests_3 0 rfl rfl)
theorem dX7_tests_74 : decode cX7_tests 74 = .ok (.iconst 0, 1) := dk_3 (dk_at dksX7_tests_3 3 rfl rfl)
theorem dX7_tests_75 : decode cX7_tests 75 = .ok (.istore_n 2, 1) := dk_61 (dk_at dksX7_tests_3 4 rfl rfl)
theorem dX7_tests_76 : decode cX7_tests 76 = .ok (.aload_n 0, 1) := dk_42 (dk_at dksX7_tests_3 5 rfl rfl)
theorem dX7_tests_77 : decode cX7_tests 77 = .ok (.getfield 63, 3) := dk_180 0 63 (dk_at dksX7_tests_3 6 rfl rfl)
theorem dX7_tests_80 : decode cX7_tests 80 = .ok (.iload_n 1, 1) := dk_27 (dk_at dksX7_tests_3 9 rfl rfl)
theorem dX7_tests_81 : decode cX7_tests 81 = .ok (.iaload, 1) := dk_46 (dk_at dksX7_tests_3 10 rfl rfl)
theorem dX7_tests_82 : decode cX7_tests 82 = .ok (.bipush 26, 2) := dk_16 26 (dk_at dksX7_tests_3 11 rfl rfl)
theorem dX7_tests_84 : decode cX7_tests 84 = .ok (.if_icmp .ne 22, 3) := dk_160 0 22 (dk_at dksX7_tests_3 13 rfl rfl)
theorem dX7_tests_87 : decode cX7_tests 87 = .ok (.aload_n 0, 1) := dk_42 (dk_at dksX7_tests_3 16 rfl rfl)
theorem dX7_tests_88 : decode cX7_tests 88 = .ok (.getfield 60, 3) := dk_180 0 60 (dk_at dksX7_tests_3 17 rfl rfl)
theorem dX7_tests_91 : decode cX7_tests 91 = .ok (.iload_n 1, 1) := dk_27 (dk_at dksX7_tests_3 20 rfl rfl)
theorem dX7_tests_92 : decode cX7_tests 92 = .ok (.iaload, 1) := dk_46 (dk_at dksX7_tests_3 21 rfl rfl)
theorem dX7_tests_93 : decode cX7_tests 93 = .ok (.ifCond .eq 11, 3) := dk_153 0 11 (dk_at dksX7_tests_4 0 rfl rfl)
theorem dX7_tests_96 : decode cX7_tests 96 = .ok (.iload_n 2, 1) := dk_28 (dk_at dksX7_tests_4 3 rfl rfl)
theorem dX7_tests_97 : decode cX7_tests 97 = .ok (.ifCond .eq 7, 3) := dk_153 0 7 (dk_at dksX7_tests_4 4 rfl rfl)
theorem dX7_tests_100 : decode cX7_tests 100 = .ok (.iconst 1, 1) := dk_4 (dk_at dksX7_tests_4 7 rfl rfl)
theorem dX7_tests_101 : decode cX7_tests 101 = .ok (.goto 4, 3) := dk_167 0 4 (dk_at dksX7_tests_4 8 rfl rfl)
theorem dX7_tests_104 : decode cX7_tests 104 = .ok (.iconst 0, 1) := dk_3 (dk_at dksX7_tests_4 11 rfl rfl)
theorem dX7_tests_105 : decode cX7_tests 105 = .ok (.istore_n 2, 1) := dk_61 (dk_at dksX7_tests_4 12 rfl rfl)
theorem dX7_tests_106 : decode cX7_tests 106 = .ok (.aload_n 0, 1) := dk_42 (dk_at dksX7_tests_4 13 rfl rfl)
theorem dX7_tests_107 : decode cX7_tests 107 = .ok (.getfield 63, 3) := dk_180 0 63 (dk_at dksX7_tests_4 14 rfl rfl)
theorem dX7_tests_110 : decode cX7_tests 110 = .ok (.iload_n 1, 1) := dk_27 (dk_at dksX7_tests_4 17 rfl rfl)
theorem dX7_tests_111 : decode cX7_tests 111 = .ok (.iaload, 1) := dk_46 (dk_at dksX7_tests_4 18 rfl rfl)
theorem dX7_tests_112 : decode cX7_tests 112 = .ok (.bipush 27, 2) := dk_16 27 (dk_at dksX7_tests_4 19 rfl rfl)
theorem dX7_tests_114 : decode cX7_tests 114 = .ok (.if_icmp .ne 22, 3) := dk_160 0 22 (dk_at dksX7_tests_4 21 rfl rfl)
theorem dX7_tests_117 : decode cX7_tests 117 = .ok (.aload_n 0, 1) := dk_42 (dk_at dksX7_tests_5 0 rfl rfl)
theorem dX7_tests_118 : decode cX7_tests 118 = .ok (.getfield 60, 3) := dk_180 0 60 (dk_at dksX7_tests_5 1 rfl rfl)
theorem dX7_tests_121 : decode cX7_tests 121 = .ok (.iload_n 1, 1) := dk_27 (dk_at dksX7_tests_5 4 rfl rfl)
theorem dX7_tests_122 : decode cX7_tests 122 = .ok (.iaload, 1) := dk_46 (dk_at dksX7_tests_5 5 rfl rfl)
theorem dX7_tests_123 : decode cX7_tests 123 = .ok (.ifCond .ne 7, 3) := dk_154 0 7 (dk_at dksX7_tests_5 6 rfl rfl)
theorem dX7_tests_126 : decode cX7_tests 126 = .ok (.iload_n 2, 1) := dk_28 (dk_at dksX7_tests_5 9 rfl rfl)
theorem dX7_tests_127 : decode cX7_tests 127 = .ok (.ifCond .eq 7, 3) := dk_153 0 7 (dk_at dksX7_tests_5 10 rfl rfl)
theorem dX7_tests_130 : decode cX7_tests 130 = .ok (.iconst 1, 1) := dk_4 (dk_at dksX7_tests_5 13 rfl rfl)
theorem dX7_tests_131 : decode cX7_tests 131 = .ok (.goto 4, 3) := dk_167 0 4 (dk_at dksX7_tests_5 14 rfl rfl)
theorem dX7_tests_134 : decode cX7_tests 134 = .ok (.iconst 0, 1) := dk_3 (dk_at dksX7_tests_5 17 rfl rfl)
theorem dX7_tests_135 : decode cX7_tests 135 = .ok (.istore_n 2, 1) := dk_61 (dk_at dksX7_tests_5 18 rfl rfl)
theorem dX7_tests_136 : decode cX7_tests 136 = .ok (.aload_n 0, 1) := dk_42 (dk_at dksX7_tests_5 19 rfl rfl)
theorem dX7_tests_137 : decode cX7_tests 137 = .ok (.getfield 60, 3) := dk_180 0 60 (dk_at dksX7_tests_5 20 rfl rfl)
theorem dX7_tests_140 : decode cX7_tests 140 = .ok (.iload_n 1, 1) := dk_27 (dk_at dksX7_tests_5 23 rfl rfl)
theorem dX7_tests_141 : decode cX7_tests 141 = .ok (.iload_n 2, 1) := dk_28 (dk_at dksX7_tests_6 0 rfl rfl)
theorem dX7_tests_142 : decode cX7_tests 142 = .ok (.iastore, 1) := dk_79 (dk_at dksX7_tests_6 1 rfl rfl)
theorem dX7_tests_143 : decode cX7_tests 143 = .ok (.aload_n 0, 1) := dk_42 (dk_at dksX7_tests_6 2 rfl rfl)
theorem dX7_tests_144 : decode cX7_tests 144 = .ok (.getfield 69, 3) := dk_180 0 69 (dk_at dksX7_tests_6 3 rfl rfl)
theorem dX7_tests_147 : decode cX7_tests 147 = .ok (.iload_n 1, 1) := dk_27 (dk_at dksX7_tests_6 6 rfl rfl)
theorem dX7_tests_148 : decode cX7_tests 148 = .ok (.iconst 0, 1) := dk_3 (dk_at dksX7_tests_6 7 rfl rfl)
theorem dX7_tests_149 : decode cX7_tests 149 = .ok (.iastore, 1) := dk_79 (dk_at dksX7_tests_6 8 rfl rfl)
theorem dX7_tests_150 : decode cX7_tests 150 = .ok (.aload_n 0, 1) := dk_42 (dk_at dksX7_tests_6 9 rfl rfl)
theorem dX7_tests_151 : decode cX7_tests 151 = .ok (.getfield 72, 3) := dk_180 0 72 (dk_at dksX7_tests_6 10 rfl rfl)
theorem dX7_tests_154 : decode cX7_tests 154 = .ok (.iload_n 1, 1) := dk_27 (dk_at dksX7_tests_6 13 rfl rfl)
theorem dX7_tests_155 : decode cX7_tests 155 = .ok (.iconst 0, 1) := dk_3 (dk_at dksX7_tests_6 14 rfl rfl)
theorem dX7_tests_156 : decode cX7_tests 156 = .ok (.iastore, 1) := dk_79 (dk_at dksX7_tests_6 15 rfl rfl)
theorem dX7_tests_157 : decode cX7_tests 157 = .ok (.aload_n 0, 1) := dk_42 (dk_at dksX7_tests_6 16 rfl rfl)
theorem dX7_tests_158 : decode cX7_tests 158 = .ok (.getfield 75, 3) := dk_180 0 75 (dk_at dksX7_tests_6 17 rfl rfl)
theorem dX7_tests_161 : decode cX7_tests 161 = .ok (.iload_n 1, 1) := dk_27 (dk_at dksX7_tests_6 20 rfl rfl)
theorem dX7_tests_162 : decode cX7_tests 162 = .ok (.bipush 20, 2) := dk_16 20 (dk_at dksX7_tests_6 21 rfl rfl)
theorem dX7_tests_164 : decode cX7_tests 164 = .ok (.iastore, 1) := dk_79 (dk_at dksX7_tests_6 23 rfl rfl)
theorem dX7_tests_165 : decode cX7_tests 165 = .ok (.return_, 1) := dk_177 (dk_at dksX7_tests_7 0 rfl rfl)
abbrev cX7_worked : ByteArray := prog_32_method_17_code
abbrev yX7_worked : MethodName := { cls := "WornSkinModel", name := "worked", desc := "(I)I" }
def dkwX7_worked_14 : List UInt8 := [21, 5, 104, 79, 132, 3, 1, 167, 254, 194, 42, 3, 182, 0, 228, 42, 180, 0, 60, 3, 46, 172]
abbrev dktX7_worked_14 : List UInt8 := dkwX7_worked_14 ++ []
def dkwX7_worked_13 : List UInt8 := [180, 0, 78, 28, 42, 180, 0, 81, 28, 46, 154, 0, 8, 21, 5, 167, 0, 12, 42, 180, 0, 78, 28, 46]
abbrev dktX7_worked_13 : List UInt8 := dkwX7_worked_13 ++ dktX7_worked_14
def dkwX7_worked_12 : List UInt8 := [46, 4, 160, 0, 21, 21, 5, 154, 0, 7, 4, 167, 0, 4, 3, 54, 5, 132, 2, 255, 167, 255, 227, 42]
abbrev dktX7_worked_12 : List UInt8 := dkwX7_worked_12 ++ dktX7_worked_13
def dkwX7_worked_11 : List UInt8 := [28, 182, 0, 228, 42, 180, 0, 60, 28, 46, 54, 5, 132, 2, 255, 28, 158, 0, 31, 42, 180, 0, 84, 28]
abbrev dktX7_worked_11 : List UInt8 := dkwX7_worked_11 ++ dktX7_worked_12
def dkwX7_worked_10 : List UInt8 := [162, 0, 13, 42, 180, 0, 87, 21, 4, 46, 167, 0, 4, 3, 54, 5, 21, 4, 16, 29, 160, 0, 19, 42]
abbrev dktX7_worked_10 : List UInt8 := dkwX7_worked_10 ++ dktX7_worked_11
def dkwX7_worked_9 : List UInt8 := [167, 0, 122, 21, 4, 16, 100, 161, 0, 11, 21, 4, 16, 100, 100, 167, 0, 21, 21, 4, 16, 20]
abbrev dktX7_worked_9 : List UInt8 := dkwX7_worked_9 ++ dktX7_worked_10
def dkwX7_worked_8 : List UInt8 := [159, 0, 10, 21, 4, 16, 27, 160, 0, 19, 42, 28, 182, 0, 228, 42, 180, 0, 63, 28, 21, 4, 79]
abbrev dktX7_worked_8 : List UInt8 := dkwX7_worked_8 ++ dktX7_worked_9
def dkwX7_worked_7 : List UInt8 := [79, 42, 180, 0, 72, 28, 3, 79, 42, 180, 0, 75, 28, 16, 20, 79, 167, 0, 152, 21, 4, 16, 26]
abbrev dktX7_worked_7 : List UInt8 := dkwX7_worked_7 ++ dktX7_worked_8
def dkwX7_worked_6 : List UInt8 := [42, 28, 182, 0, 222, 42, 180, 0, 66, 28, 42, 180, 0, 72, 28, 46, 79, 42, 180, 0, 69, 28, 21, 4]
abbrev dktX7_worked_6 : List UInt8 := dkwX7_worked_6 ++ dktX7_worked_7
def dkwX7_worked_5 : List UInt8 := [180, 0, 81, 28, 21, 4, 79, 167, 0, 209, 21, 4, 16, 24, 159, 0, 10, 21, 4, 16, 25, 160, 0, 46]
abbrev dktX7_worked_5 : List UInt8 := dkwX7_worked_5 ++ dktX7_worked_6
def dkwX7_worked_4 : List UInt8 := [182, 0, 222, 42, 180, 0, 75, 28, 21, 4, 79, 167, 0, 227, 21, 4, 16, 22, 160, 0, 14, 42]
abbrev dktX7_worked_4 : List UInt8 := dkwX7_worked_4 ++ dktX7_worked_5
def dkwX7_worked_3 : List UInt8 := [182, 0, 225, 167, 1, 1, 21, 4, 16, 20, 159, 0, 10, 21, 4, 16, 21, 160, 0, 19, 42, 28]
abbrev dktX7_worked_3 : List UInt8 := dkwX7_worked_3 ++ dktX7_worked_4
def dkwX7_worked_2 : List UInt8 := [132, 2, 1, 42, 180, 0, 84, 28, 21, 4, 16, 30, 160, 0, 7, 4, 167, 0, 4, 3, 79, 42, 28]
abbrev dktX7_worked_2 : List UInt8 := dkwX7_worked_2 ++ dktX7_worked_3
def dkwX7_worked_1 : List UInt8 := [42, 180, 0, 50, 29, 46, 54, 4, 21, 4, 16, 28, 159, 0, 10, 21, 4, 16, 30, 160, 0, 32]
abbrev dktX7_worked_1 : List UInt8 := dkwX7_worked_1 ++ dktX7_worked_2
def dkwX7_worked_0 : List UInt8 := [3, 61, 42, 3, 182, 0, 225, 42, 180, 0, 44, 27, 46, 62, 29, 42, 180, 0, 47, 27, 46, 162, 1, 58]
abbrev dktX7_worked_0 : List UInt8 := dkwX7_worked_0 ++ dktX7_worked_1
theorem dksX7_worked_0 : cX7_worked.data.toList.drop 0 = dktX7_worked_0 := by decide +kernel
theorem dksX7_worked_1 : cX7_worked.data.toList.drop 24 = dktX7_worked_1 := dk_seg dksX7_worked_0 24 rfl rfl
theorem dksX7_worked_2 : cX7_worked.data.toList.drop 46 = dktX7_worked_2 := dk_seg dksX7_worked_1 22 rfl rfl
theorem dksX7_worked_3 : cX7_worked.data.toList.drop 69 = dktX7_worked_3 := dk_seg dksX7_worked_2 23 rfl rfl
theorem dksX7_worked_4 : cX7_worked.data.toList.drop 91 = dktX7_worked_4 := dk_seg dksX7_worked_3 22 rfl rfl
theorem dksX7_worked_5 : cX7_worked.data.toList.drop 113 = dktX7_worked_5 := dk_seg dksX7_worked_4 22 rfl rfl
theorem dksX7_worked_6 : cX7_worked.data.toList.drop 137 = dktX7_worked_6 := dk_seg dksX7_worked_5 24 rfl rfl
theorem dksX7_worked_7 : cX7_worked.data.toList.drop 161 = dktX7_worked_7 := dk_seg dksX7_worked_6 24 rfl rfl
theorem dksX7_worked_8 : cX7_worked.data.toList.drop 184 = dktX7_worked_8 := dk_seg dksX7_worked_7 23 rfl rfl
theorem dksX7_worked_9 : cX7_worked.data.toList.drop 207 = dktX7_worked_9 := dk_seg dksX7_worked_8 23 rfl rfl
theorem dksX7_worked_10 : cX7_worked.data.toList.drop 229 = dktX7_worked_10 := dk_seg dksX7_worked_9 22 rfl rfl
theorem dksX7_worked_11 : cX7_worked.data.toList.drop 253 = dktX7_worked_11 := dk_seg dksX7_worked_10 24 rfl rfl
theorem dksX7_worked_12 : cX7_worked.data.toList.drop 277 = dktX7_worked_12 := dk_seg dksX7_worked_11 24 rfl rfl
theorem dksX7_worked_13 : cX7_worked.data.toList.drop 301 = dktX7_worked_13 := dk_seg dksX7_worked_12 24 rfl rfl
theorem dksX7_worked_14 : cX7_worked.data.toList.drop 325 = dktX7_worked_14 := dk_seg dksX7_worked_13 24 rfl rfl
theorem dX7_worked_0 : decode cX7_worked 0 = .ok (.iconst 0, 1) := dk_3 (dk_at dksX7_worked_0 0 rfl rfl)
theorem dX7_worked_1 : decode cX7_worked 1 = .ok (.istore_n 2, 1) := dk_61 (dk_at dksX7_worked_0 1 rfl rfl)
theorem dX7_worked_2 : decode cX7_worked 2 = .ok (.aload_n 0, 1) := dk_42 (dk_at dksX7_worked_0 2 rfl rfl)
theorem dX7_worked_3 : decode cX7_worked 3 = .ok (.iconst 0, 1) := dk_3 (dk_at dksX7_worked_0 3 rfl rfl)
theorem dX7_worked_4 : decode cX7_worked 4 = .ok (.invokevirtual 225, 3) := dk_182 0 225 (dk_at dksX7_worked_0 4 rfl rfl)
theorem dX7_worked_7 : decode cX7_worked 7 = .ok (.aload_n 0, 1) := dk_42 (dk_at dksX7_worked_0 7 rfl rfl)
theorem dX7_worked_8 : decode cX7_worked 8 = .ok (.getfield 44, 3) := dk_180 0 44 (dk_at dksX7_worked_0 8 rfl rfl)
theorem dX7_worked_11 : decode cX7_worked 11 = .ok (.iload_n 1, 1) := dk_27 (dk_at dksX7_worked_0 11 rfl rfl)
theorem dX7_worked_12 : decode cX7_worked 12 = .ok (.iaload, 1) := dk_46 (dk_at dksX7_worked_0 12 rfl rfl)
theorem dX7_worked_13 : decode cX7_worked 13 = .ok (.istore_n 3, 1) := dk_62 (dk_at dksX7_worked_0 13 rfl rfl)
theorem dX7_worked_14 : decode cX7_worked 14 = .ok (.iload_n 3, 1) := dk_29 (dk_at dksX7_worked_0 14 rfl rfl)
theorem dX7_worked_15 : decode cX7_worked 15 = .ok (.aload_n 0, 1) := dk_42 (dk_at dksX7_worked_0 15 rfl rfl)
theorem dX7_worked_16 : decode cX7_worked 16 = .ok (.getfield 47, 3) := dk_180 0 47 (dk_at dksX7_worked_0 16 rfl rfl)
theorem dX7_worked_19 : decode cX7_worked 19 = .ok (.iload_n 1, 1) := dk_27 (dk_at dksX7_worked_0 19 rfl rfl)
theorem dX7_worked_20 : decode cX7_worked 20 = .ok (.iaload, 1) := dk_46 (dk_at dksX7_worked_0 20 rfl rfl)
theorem dX7_worked_21 : decode cX7_worked 21 = .ok (.if_icmp .ge 314, 3) := dk_162 1 58 (dk_at dksX7_worked_0 21 rfl rfl)
theorem dX7_worked_24 : decode cX7_worked 24 = .ok (.aload_n 0, 1) := dk_42 (dk_at dksX7_worked_1 0 rfl rfl)
theorem dX7_worked_25 : decode cX7_worked 25 = .ok (.getfield 50, 3) := dk_180 0 50 (dk_at dksX7_worked_1 1 rfl rfl)
theorem dX7_worked_28 : decode cX7_worked 28 = .ok (.iload_n 3, 1) := dk_29 (dk_at dksX7_worked_1 4 rfl rfl)
theorem dX7_worked_29 : decode cX7_worked 29 = .ok (.iaload, 1) := dk_46 (dk_at dksX7_worked_1 5 rfl rfl)
theorem dX7_worked_30 : decode cX7_worked 30 = .ok (.istore 4, 2) := dk_54 4 (dk_at dksX7_worked_1 6 rfl rfl)
theorem dX7_worked_32 : decode cX7_worked 32 = .ok (.iload 4, 2) := dk_21 4 (dk_at dksX7_worked_1 8 rfl rfl)
theorem dX7_worked_34 : decode cX7_worked 34 = .ok (.bipush 28, 2) := dk_16 28 (dk_at dksX7_worked_1 10 rfl rfl)
theorem dX7_worked_36 : decode cX7_worked 36 = .ok (.if_icmp .eq 10, 3) := dk_159 0 10 (dk_at dksX7_worked_1 12 rfl rfl)
theorem dX7_worked_39 : decode cX7_worked 39 = .ok (.iload 4, 2) := dk_21 4 (dk_at dksX7_worked_1 15 rfl rfl)
theorem dX7_worked_41 : decode cX7_worked 41 = .ok (.bipush 30, 2) := dk_16 30 (dk_at dksX7_worked_1 17 rfl rfl)
theorem dX7_worked_43 : decode cX7_worked 43 = .ok (.if_icmp .ne 32, 3) := dk_160 0 32 (dk_at dksX7_worked_1 19 rfl rfl)
theorem dX7_worked_46 : decode cX7_worked 46 = .ok (.iinc 2 1, 3) := dk_132 2 1 (dk_at dksX7_worked_2 0 rfl rfl)
theorem dX7_worked_49 : decode cX7_worked 49 = .ok (.aload_n 0, 1) := dk_42 (dk_at dksX7_worked_2 3 rfl rfl)
theorem dX7_worked_50 : decode cX7_worked 50 = .ok (.getfield 84, 3) := dk_180 0 84 (dk_at dksX7_worked_2 4 rfl rfl)
theorem dX7_worked_53 : decode cX7_worked 53 = .ok (.iload_n 2, 1) := dk_28 (dk_at dksX7_worked_2 7 rfl rfl)
theorem dX7_worked_54 : decode cX7_worked 54 = .ok (.iload 4, 2) := dk_21 4 (dk_at dksX7_worked_2 8 rfl rfl)
theorem dX7_worked_56 : decode cX7_worked 56 = .ok (.bipush 30, 2) := dk_16 30 (dk_at dksX7_worked_2 10 rfl rfl)
theorem dX7_worked_58 : decode cX7_worked 58 = .ok (.if_icmp .ne 7, 3) := dk_160 0 7 (dk_at dksX7_worked_2 12 rfl rfl)
theorem dX7_worked_61 : decode cX7_worked 61 = .ok (.iconst 1, 1) := dk_4 (dk_at dksX7_worked_2 15 rfl rfl)
theorem dX7_worked_62 : decode cX7_worked 62 = .ok (.goto 4, 3) := dk_167 0 4 (dk_at dksX7_worked_2 16 rfl rfl)
theorem dX7_worked_65 : decode cX7_worked 65 = .ok (.iconst 0, 1) := dk_3 (dk_at dksX7_worked_2 19 rfl rfl)
theorem dX7_worked_66 : decode cX7_worked 66 = .ok (.iastore, 1) := dk_79 (dk_at dksX7_worked_2 20 rfl rfl)
theorem dX7_worked_67 : decode cX7_worked 67 = .ok (.aload_n 0, 1) := dk_42 (dk_at dksX7_worked_2 21 rfl rfl)
theorem dX7_worked_68 : decode cX7_worked 68 = .ok (.iload_n 2, 1) := dk_28 (dk_at dksX7_worked_2 22 rfl rfl)
theorem dX7_worked_69 : decode cX7_worked 69 = .ok (.invokevirtual 225, 3) := dk_182 0 225 (dk_at dksX7_worked_3 0 rfl rfl)
theorem dX7_worked_72 : decode cX7_worked 72 = .ok (.goto 257, 3) := dk_167 1 1 (dk_at dksX7_worked_3 3 rfl rfl)
theorem dX7_worked_75 : decode cX7_worked 75 = .ok (.iload 4, 2) := dk_21 4 (dk_at dksX7_worked_3 6 rfl rfl)
theorem dX7_worked_77 : decode cX7_worked 77 = .ok (.bipush 20, 2) := dk_16 20 (dk_at dksX7_worked_3 8 rfl rfl)
theorem dX7_worked_79 : decode cX7_worked 79 = .ok (.if_icmp .eq 10, 3) := dk_159 0 10 (dk_at dksX7_worked_3 10 rfl rfl)
theorem dX7_worked_82 : decode cX7_worked 82 = .ok (.iload 4, 2) := dk_21 4 (dk_at dksX7_worked_3 13 rfl rfl)
theorem dX7_worked_84 : decode cX7_worked 84 = .ok (.bipush 21, 2) := dk_16 21 (dk_at dksX7_worked_3 15 rfl rfl)
theorem dX7_worked_86 : decode cX7_worked 86 = .ok (.if_icmp .ne 19, 3) := dk_160 0 19 (dk_at dksX7_worked_3 17 rfl rfl)
theorem dX7_worked_89 : decode cX7_worked 89 = .ok (.aload_n 0, 1) := dk_42 (dk_at dksX7_worked_3 20 rfl rfl)
theorem dX7_worked_90 : decode cX7_worked 90 = .ok (.iload_n 2, 1) := dk_28 (dk_at dksX7_worked_3 21 rfl rfl)
theorem dX7_worked_91 : decode cX7_worked 91 = .ok (.invokevirtual 222, 3) := dk_182 0 222 (dk_at dksX7_worked_4 0 rfl rfl)
theorem dX7_worked_94 : decode cX7_worked 94 = .ok (.aload_n 0, 1) := dk_42 (dk_at dksX7_worked_4 3 rfl rfl)
theorem dX7_worked_95 : decode cX7_worked 95 = .ok (.getfield 75, 3) := dk_180 0 75 (dk_at dksX7_worked_4 4 rfl rfl)
theorem dX7_worked_98 : decode cX7_worked 98 = .ok (.iload_n 2, 1) := dk_28 (dk_at dksX7_worked_4 7 rfl rfl)
theorem dX7_worked_99 : decode cX7_worked 99 = .ok (.iload 4, 2) := dk_21 4 (dk_at dksX7_worked_4 8 rfl rfl)
theorem dX7_worked_101 : decode cX7_worked 101 = .ok (.iastore, 1) := dk_79 (dk_at dksX7_worked_4 10 rfl rfl)
theorem dX7_worked_102 : decode cX7_worked 102 = .ok (.goto 227, 3) := dk_167 0 227 (dk_at dksX7_worked_4 11 rfl rfl)
theorem dX7_worked_105 : decode cX7_worked 105 = .ok (.iload 4, 2) := dk_21 4 (dk_at dksX7_worked_4 14 rfl rfl)
theorem dX7_worked_107 : decode cX7_worked 107 = .ok (.bipush 22, 2) := dk_16 22 (dk_at dksX7_worked_4 16 rfl rfl)
theorem dX7_worked_109 : decode cX7_worked 109 = .ok (.if_icmp .ne 14, 3) := dk_160 0 14 (dk_at dksX7_worked_4 18 rfl rfl)
theorem dX7_worked_112 : decode cX7_worked 112 = .ok (.aload_n 0, 1) := dk_42 (dk_at dksX7_worked_4 21 rfl rfl)
theorem dX7_worked_113 : decode cX7_worked 113 = .ok (.getfield 81, 3) := dk_180 0 81 (dk_at dksX7_worked_5 0 rfl rfl)
theorem dX7_worked_116 : decode cX7_worked 116 = .ok (.iload_n 2, 1) := dk_28 (dk_at dksX7_worked_5 3 rfl rfl)
theorem dX7_worked_117 : decode cX7_worked 117 = .ok (.iload 4, 2) := dk_21 4 (dk_at dksX7_worked_5 4 rfl rfl)
theorem dX7_worked_119 : decode cX7_worked 119 = .ok (.iastore, 1) := dk_79 (dk_at dksX7_worked_5 6 rfl rfl)
theorem dX7_worked_120 : decode cX7_worked 120 = .ok (.goto 209, 3) := dk_167 0 209 (dk_at dksX7_worked_5 7 rfl rfl)
theorem dX7_worked_123 : decode cX7_worked 123 = .ok (.iload 4, 2) := dk_21 4 (dk_at dksX7_worked_5 10 rfl rfl)
theorem dX7_worked_125 : decode cX7_worked 125 = .ok (.bipush 24, 2) := dk_16 24 (dk_at dksX7_worked_5 12 rfl rfl)
theorem dX7_worked_127 : decode cX7_worked 127 = .ok (.if_icmp .eq 10, 3) := dk_159 0 10 (dk_at dksX7_worked_5 14 rfl rfl)
theorem dX7_worked_130 : decode cX7_worked 130 = .ok (.iload 4, 2) := dk_21 4 (dk_at dksX7_worked_5 17 rfl rfl)
theorem dX7_worked_132 : decode cX7_worked 132 = .ok (.bipush 25, 2) := dk_16 25 (dk_at dksX7_worked_5 19 rfl rfl)
theorem dX7_worked_134 : decode cX7_worked 134 = .ok (.if_icmp .ne 46, 3) := dk_160 0 46 (dk_at dksX7_worked_5 21 rfl rfl)
theorem dX7_worked_137 : decode cX7_worked 137 = .ok (.aload_n 0, 1) := dk_42 (dk_at dksX7_worked_6 0 rfl rfl)
theorem dX7_worked_138 : decode cX7_worked 138 = .ok (.iload_n 2, 1) := dk_28 (dk_at dksX7_worked_6 1 rfl rfl)
theorem dX7_worked_139 : decode cX7_worked 139 = .ok (.invokevirtual 222, 3) := dk_182 0 222 (dk_at dksX7_worked_6 2 rfl rfl)
theorem dX7_worked_142 : decode cX7_worked 142 = .ok (.aload_n 0, 1) := dk_42 (dk_at dksX7_worked_6 5 rfl rfl)
theorem dX7_worked_143 : decode cX7_worked 143 = .ok (.getfield 66, 3) := dk_180 0 66 (dk_at dksX7_worked_6 6 rfl rfl)
theorem dX7_worked_146 : decode cX7_worked 146 = .ok (.iload_n 2, 1) := dk_28 (dk_at dksX7_worked_6 9 rfl rfl)
theorem dX7_worked_147 : decode cX7_worked 147 = .ok (.aload_n 0, 1) := dk_42 (dk_at dksX7_worked_6 10 rfl rfl)
theorem dX7_worked_148 : decode cX7_worked 148 = .ok (.getfield 72, 3) := dk_180 0 72 (dk_at dksX7_worked_6 11 rfl rfl)
theorem dX7_worked_151 : decode cX7_worked 151 = .ok (.iload_n 2, 1) := dk_28 (dk_at dksX7_worked_6 14 rfl rfl)
theorem dX7_worked_152 : decode cX7_worked 152 = .ok (.iaload, 1) := dk_46 (dk_at dksX7_worked_6 15 rfl rfl)
theorem dX7_worked_153 : decode cX7_worked 153 = .ok (.iastore, 1) := dk_79 (dk_at dksX7_worked_6 16 rfl rfl)
theorem dX7_worked_154 : decode cX7_worked 154 = .ok (.aload_n 0, 1) := dk_42 (dk_at dksX7_worked_6 17 rfl rfl)
theorem dX7_worked_155 : decode cX7_worked 155 = .ok (.getfield 69, 3) := dk_180 0 69 (dk_at dksX7_worked_6 18 rfl rfl)
theorem dX7_worked_158 : decode cX7_worked 158 = .ok (.iload_n 2, 1) := dk_28 (dk_at dksX7_worked_6 21 rfl rfl)
theorem dX7_worked_159 : decode cX7_worked 159 = .ok (.iload 4, 2) := dk_21 4 (dk_at dksX7_worked_6 22 rfl rfl)
theorem dX7_worked_161 : decode cX7_worked 161 = .ok (.iastore, 1) := dk_79 (dk_at dksX7_worked_7 0 rfl rfl)
theorem dX7_worked_162 : decode cX7_worked 162 = .ok (.aload_n 0, 1) := dk_42 (dk_at dksX7_worked_7 1 rfl rfl)
theorem dX7_worked_163 : decode cX7_worked 163 = .ok (.getfield 72, 3) := dk_180 0 72 (dk_at dksX7_worked_7 2 rfl rfl)
theorem dX7_worked_166 : decode cX7_worked 166 = .ok (.iload_n 2, 1) := dk_28 (dk_at dksX7_worked_7 5 rfl rfl)
theorem dX7_worked_167 : decode cX7_worked 167 = .ok (.iconst 0, 1) := dk_3 (dk_at dksX7_worked_7 6 rfl rfl)
theorem dX7_worked_168 : decode cX7_worked 168 = .ok (.iastore, 1) := dk_79 (dk_at dksX7_worked_7 7 rfl rfl)
theorem dX7_worked_169 : decode cX7_worked 169 = .ok (.aload_n 0, 1) := dk_42 (dk_at dksX7_worked_7 8 rfl rfl)
theorem dX7_worked_170 : decode cX7_worked 170 = .ok (.getfield 75, 3) := dk_180 0 75 (dk_at dksX7_worked_7 9 rfl rfl)
theorem dX7_worked_173 : decode cX7_worked 173 = .ok (.iload_n 2, 1) := dk_28 (dk_at dksX7_worked_7 12 rfl rfl)
theorem dX7_worked_174 : decode cX7_worked 174 = .ok (.bipush 20, 2) := dk_16 20 (dk_at dksX7_worked_7 13 rfl rfl)
theorem dX7_worked_176 : decode cX7_worked 176 = .ok (.iastore, 1) := dk_79 (dk_at dksX7_worked_7 15 rfl rfl)
theorem dX7_worked_177 : decode cX7_worked 177 = .ok (.goto 152, 3) := dk_167 0 152 (dk_at dksX7_worked_7 16 rfl rfl)
theorem dX7_worked_180 : decode cX7_worked 180 = .ok (.iload 4, 2) := dk_21 4 (dk_at dksX7_worked_7 19 rfl rfl)
theorem dX7_worked_182 : decode cX7_worked 182 = .ok (.bipush 26, 2) := dk_16 26 (dk_at dksX7_worked_7 21 rfl rfl)
theorem dX7_worked_184 : decode cX7_worked 184 = .ok (.if_icmp .eq 10, 3) := dk_159 0 10 (dk_at dksX7_worked_8 0 rfl rfl)
theorem dX7_worked_187 : decode cX7_worked 187 = .ok (.iload 4, 2) := dk_21 4 (dk_at dksX7_worked_8 3 rfl rfl)
theorem dX7_worked_189 : decode cX7_worked 189 = .ok (.bipush 27, 2) := dk_16 27 (dk_at dksX7_worked_8 5 rfl rfl)
theorem dX7_worked_191 : decode cX7_worked 191 = .ok (.if_icmp .ne 19, 3) := dk_160 0 19 (dk_at dksX7_worked_8 7 rfl rfl)
theorem dX7_worked_194 : decode cX7_worked 194 = .ok (.aload_n 0, 1) := dk_42 (dk_at dksX7_worked_8 10 rfl rfl)
theorem dX7_worked_195 : decode cX7_worked 195 = .ok (.iload_n 2, 1) := dk_28 (dk_at dksX7_worked_8 11 rfl rfl)
theorem dX7_worked_196 : decode cX7_worked 196 = .ok (.invokevirtual 228, 3) := dk_182 0 228 (dk_at dksX7_worked_8 12 rfl rfl)
theorem dX7_worked_199 : decode cX7_worked 199 = .ok (.aload_n 0, 1) := dk_42 (dk_at dksX7_worked_8 15 rfl rfl)
theorem dX7_worked_200 : decode cX7_worked 200 = .ok (.getfield 63, 3) := dk_180 0 63 (dk_at dksX7_worked_8 16 rfl rfl)
theorem dX7_worked_203 : decode cX7_worked 203 = .ok (.iload_n 2, 1) := dk_28 (dk_at dksX7_worked_8 19 rfl rfl)
theorem dX7_worked_204 : decode cX7_worked 204 = .ok (.iload 4, 2) := dk_21 4 (dk_at dksX7_worked_8 20 rfl rfl)
theorem dX7_worked_206 : decode cX7_worked 206 = .ok (.iastore, 1) := dk_79 (dk_at dksX7_worked_8 22 rfl rfl)
theorem dX7_worked_207 : decode cX7_worked 207 = .ok (.goto 122, 3) := dk_167 0 122 (dk_at dksX7_worked_9 0 rfl rfl)
theorem dX7_worked_210 : decode cX7_worked 210 = .ok (.iload 4, 2) := dk_21 4 (dk_at dksX7_worked_9 3 rfl rfl)
theorem dX7_worked_212 : decode cX7_worked 212 = .ok (.bipush 100, 2) := dk_16 100 (dk_at dksX7_worked_9 5 rfl rfl)
theorem dX7_worked_214 : decode cX7_worked 214 = .ok (.if_icmp .lt 11, 3) := dk_161 0 11 (dk_at dksX7_worked_9 7 rfl rfl)
theorem dX7_worked_217 : decode cX7_worked 217 = .ok (.iload 4, 2) := dk_21 4 (dk_at dksX7_worked_9 10 rfl rfl)
theorem dX7_worked_219 : decode cX7_worked 219 = .ok (.bipush 100, 2) := dk_16 100 (dk_at dksX7_worked_9 12 rfl rfl)
theorem dX7_worked_221 : decode cX7_worked 221 = .ok (.isub, 1) := dk_100 (dk_at dksX7_worked_9 14 rfl rfl)
theorem dX7_worked_222 : decode cX7_worked 222 = .ok (.goto 21, 3) := dk_167 0 21 (dk_at dksX7_worked_9 15 rfl rfl)
theorem dX7_worked_225 : decode cX7_worked 225 = .ok (.iload 4, 2) := dk_21 4 (dk_at dksX7_worked_9 18 rfl rfl)
theorem dX7_worked_227 : decode cX7_worked 227 = .ok (.bipush 20, 2) := dk_16 20 (dk_at dksX7_worked_9 20 rfl rfl)
theorem dX7_worked_229 : decode cX7_worked 229 = .ok (.if_icmp .ge 13, 3) := dk_162 0 13 (dk_at dksX7_worked_10 0 rfl rfl)
theorem dX7_worked_232 : decode cX7_worked 232 = .ok (.aload_n 0, 1) := dk_42 (dk_at dksX7_worked_10 3 rfl rfl)
theorem dX7_worked_233 : decode cX7_worked 233 = .ok (.getfield 87, 3) := dk_180 0 87 (dk_at dksX7_worked_10 4 rfl rfl)
theorem dX7_worked_236 : decode cX7_worked 236 = .ok (.iload 4, 2) := dk_21 4 (dk_at dksX7_worked_10 7 rfl rfl)
theorem dX7_worked_238 : decode cX7_worked 238 = .ok (.iaload, 1) := dk_46 (dk_at dksX7_worked_10 9 rfl rfl)
theorem dX7_worked_239 : decode cX7_worked 239 = .ok (.goto 4, 3) := dk_167 0 4 (dk_at dksX7_worked_10 10 rfl rfl)
theorem dX7_worked_242 : decode cX7_worked 242 = .ok (.iconst 0, 1) := dk_3 (dk_at dksX7_worked_10 13 rfl rfl)
theorem dX7_worked_243 : decode cX7_worked 243 = .ok (.istore 5, 2) := dk_54 5 (dk_at dksX7_worked_10 14 rfl rfl)
theorem dX7_worked_245 : decode cX7_worked 245 = .ok (.iload 4, 2) := dk_21 4 (dk_at dksX7_worked_10 16 rfl rfl)
theorem dX7_worked_247 : decode cX7_worked 247 = .ok (.bipush 29, 2) := dk_16 29 (dk_at dksX7_worked_10 18 rfl rfl)
theorem dX7_worked_249 : decode cX7_worked 249 = .ok (.if_icmp .ne 19, 3) := dk_160 0 19 (dk_at dksX7_worked_10 20 rfl rfl)
theorem dX7_worked_252 : decode cX7_worked 252 = .ok (.aload_n 0, 1) := dk_42 (dk_at dksX7_worked_10 23 rfl rfl)
theorem dX7_worked_253 : decode cX7_worked 253 = .ok (.iload_n 2, 1) := dk_28 (dk_at dksX7_worked_11 0 rfl rfl)
theorem dX7_worked_254 : decode cX7_worked 254 = .ok (.invokevirtual 228, 3) := dk_182 0 228 (dk_at dksX7_worked_11 1 rfl rfl)
theorem dX7_worked_257 : decode cX7_worked 257 = .ok (.aload_n 0, 1) := dk_42 (dk_at dksX7_worked_11 4 rfl rfl)
theorem dX7_worked_258 : decode cX7_worked 258 = .ok (.getfield 60, 3) := dk_180 0 60 (dk_at dksX7_worked_11 5 rfl rfl)
theorem dX7_worked_261 : decode cX7_worked 261 = .ok (.iload_n 2, 1) := dk_28 (dk_at dksX7_worked_11 8 rfl rfl)
theorem dX7_worked_262 : decode cX7_worked 262 = .ok (.iaload, 1) := dk_46 (dk_at dksX7_worked_11 9 rfl rfl)
theorem dX7_worked_263 : decode cX7_worked 263 = .ok (.istore 5, 2) := dk_54 5 (dk_at dksX7_worked_11 10 rfl rfl)
theorem dX7_worked_265 : decode cX7_worked 265 = .ok (.iinc 2 (-1), 3) := dk_132 2 255 (dk_at dksX7_worked_11 12 rfl rfl)
theorem dX7_worked_268 : decode cX7_worked 268 = .ok (.iload_n 2, 1) := dk_28 (dk_at dksX7_worked_11 15 rfl rfl)
theorem dX7_worked_269 : decode cX7_worked 269 = .ok (.ifCond .le 31, 3) := dk_158 0 31 (dk_at dksX7_worked_11 16 rfl rfl)
theorem dX7_worked_272 : decode cX7_worked 272 = .ok (.aload_n 0, 1) := dk_42 (dk_at dksX7_worked_11 19 rfl rfl)
theorem dX7_worked_273 : decode cX7_worked 273 = .ok (.getfield 84, 3) := dk_180 0 84 (dk_at dksX7_worked_11 20 rfl rfl)
theorem dX7_worked_276 : decode cX7_worked 276 = .ok (.iload_n 2, 1) := dk_28 (dk_at dksX7_worked_11 23 rfl rfl)
theorem dX7_worked_277 : decode cX7_worked 277 = .ok (.iaload, 1) := dk_46 (dk_at dksX7_worked_12 0 rfl rfl)
theorem dX7_worked_278 : decode cX7_worked 278 = .ok (.iconst 1, 1) := dk_4 (dk_at dksX7_worked_12 1 rfl rfl)
theorem dX7_worked_279 : decode cX7_worked 279 = .ok (.if_icmp .ne 21, 3) := dk_160 0 21 (dk_at dksX7_worked_12 2 rfl rfl)
theorem dX7_worked_282 : decode cX7_worked 282 = .ok (.iload 5, 2) := dk_21 5 (dk_at dksX7_worked_12 5 rfl rfl)
theorem dX7_worked_284 : decode cX7_worked 284 = .ok (.ifCond .ne 7, 3) := dk_154 0 7 (dk_at dksX7_worked_12 7 rfl rfl)
theorem dX7_worked_287 : decode cX7_worked 287 = .ok (.iconst 1, 1) := dk_4 (dk_at dksX7_worked_12 10 rfl rfl)
theorem dX7_worked_288 : decode cX7_worked 288 = .ok (.goto 4, 3) := dk_167 0 4 (dk_at dksX7_worked_12 11 rfl rfl)
theorem dX7_worked_291 : decode cX7_worked 291 = .ok (.iconst 0, 1) := dk_3 (dk_at dksX7_worked_12 14 rfl rfl)
theorem dX7_worked_292 : decode cX7_worked 292 = .ok (.istore 5, 2) := dk_54 5 (dk_at dksX7_worked_12 15 rfl rfl)
theorem dX7_worked_294 : decode cX7_worked 294 = .ok (.iinc 2 (-1), 3) := dk_132 2 255 (dk_at dksX7_worked_12 17 rfl rfl)
theorem dX7_worked_297 : decode cX7_worked 297 = .ok (.goto (-29), 3) := dk_167 255 227 (dk_at dksX7_worked_12 20 rfl rfl)
theorem dX7_worked_300 : decode cX7_worked 300 = .ok (.aload_n 0, 1) := dk_42 (dk_at dksX7_worked_12 23 rfl rfl)
theorem dX7_worked_301 : decode cX7_worked 301 = .ok (.getfield 78, 3) := dk_180 0 78 (dk_at dksX7_worked_13 0 rfl rfl)
theorem dX7_worked_304 : decode cX7_worked 304 = .ok (.iload_n 2, 1) := dk_28 (dk_at dksX7_worked_13 3 rfl rfl)
theorem dX7_worked_305 : decode cX7_worked 305 = .ok (.aload_n 0, 1) := dk_42 (dk_at dksX7_worked_13 4 rfl rfl)
theorem dX7_worked_306 : decode cX7_worked 306 = .ok (.getfield 81, 3) := dk_180 0 81 (dk_at dksX7_worked_13 5 rfl rfl)
theorem dX7_worked_309 : decode cX7_worked 309 = .ok (.iload_n 2, 1) := dk_28 (dk_at dksX7_worked_13 8 rfl rfl)
theorem dX7_worked_310 : decode cX7_worked 310 = .ok (.iaload, 1) := dk_46 (dk_at dksX7_worked_13 9 rfl rfl)
theorem dX7_worked_311 : decode cX7_worked 311 = .ok (.ifCond .ne 8, 3) := dk_154 0 8 (dk_at dksX7_worked_13 10 rfl rfl)
theorem dX7_worked_314 : decode cX7_worked 314 = .ok (.iload 5, 2) := dk_21 5 (dk_at dksX7_worked_13 13 rfl rfl)
theorem dX7_worked_316 : decode cX7_worked 316 = .ok (.goto 12, 3) := dk_167 0 12 (dk_at dksX7_worked_13 15 rfl rfl)
theorem dX7_worked_319 : decode cX7_worked 319 = .ok (.aload_n 0, 1) := dk_42 (dk_at dksX7_worked_13 18 rfl rfl)
theorem dX7_worked_320 : decode cX7_worked 320 = .ok (.getfield 78, 3) := dk_180 0 78 (dk_at dksX7_worked_13 19 rfl rfl)
theorem dX7_worked_323 : decode cX7_worked 323 = .ok (.iload_n 2, 1) := dk_28 (dk_at dksX7_worked_13 22 rfl rfl)
theorem dX7_worked_324 : decode cX7_worked 324 = .ok (.iaload, 1) := dk_46 (dk_at dksX7_worked_13 23 rfl rfl)
theorem dX7_worked_325 : decode cX7_worked 325 = .ok (.iload 5, 2) := dk_21 5 (dk_at dksX7_worked_14 0 rfl rfl)
theorem dX7_worked_327 : decode cX7_worked 327 = .ok (.imul, 1) := dk_104 (dk_at dksX7_worked_14 2 rfl rfl)
theorem dX7_worked_328 : decode cX7_worked 328 = .ok (.iastore, 1) := dk_79 (dk_at dksX7_worked_14 3 rfl rfl)
theorem dX7_worked_329 : decode cX7_worked 329 = .ok (.iinc 3 1, 3) := dk_132 3 1 (dk_at dksX7_worked_14 4 rfl rfl)
theorem dX7_worked_332 : decode cX7_worked 332 = .ok (.goto (-318), 3) := dk_167 254 194 (dk_at dksX7_worked_14 7 rfl rfl)
theorem dX7_worked_335 : decode cX7_worked 335 = .ok (.aload_n 0, 1) := dk_42 (dk_at dksX7_worked_14 10 rfl rfl)
theorem dX7_worked_336 : decode cX7_worked 336 = .ok (.iconst 0, 1) := dk_3 (dk_at dksX7_worked_14 11 rfl rfl)
theorem dX7_worked_337 : decode cX7_worked 337 = .ok (.invokevirtual 228, 3) := dk_182 0 228 (dk_at dksX7_worked_14 12 rfl rfl)
theorem dX7_worked_340 : decode cX7_worked 340 = .ok (.aload_n 0, 1) := dk_42 (dk_at dksX7_worked_14 15 rfl rfl)
theorem dX7_worked_341 : decode cX7_worked 341 = .ok (.getfield 60, 3) := dk_180 0 60 (dk_at dksX7_worked_14 16 rfl rfl)
theorem dX7_worked_344 : decode cX7_worked 344 = .ok (.iconst 0, 1) := dk_3 (dk_at dksX7_worked_14 19 rfl rfl)
theorem dX7_worked_345 : decode cX7_worked 345 = .ok (.iaload, 1) := dk_46 (dk_at dksX7_worked_14 20 rfl rfl)
theorem dX7_worked_346 : decode cX7_worked 346 = .ok (.ireturn, 1) := dk_172 (dk_at dksX7_worked_14 21 rfl rfl)
abbrev cX7_showsBy : ByteArray := prog_32_method_49_code
abbrev yX7_showsBy : MethodName := { cls := "WornSkinModel", name := "showsBy", desc := "(IIII)Z" }
def dkwX7_showsBy_5 : List UInt8 := [182, 1, 100, 153, 0, 7, 4, 167, 0, 4, 3, 172]
abbrev dktX7_showsBy_5 : List UInt8 := dkwX7_showsBy_5 ++ []
def dkwX7_showsBy_4 : List UInt8 := [79, 42, 180, 0, 87, 6, 42, 180, 0, 35, 27, 46, 79, 42, 180, 0, 87, 7, 29, 79, 42, 3]
abbrev dktX7_showsBy_4 : List UInt8 := dkwX7_showsBy_4 ++ dktX7_showsBy_5
def dkwX7_showsBy_3 : List UInt8 := [162, 0, 7, 4, 167, 0, 4, 3, 172, 42, 180, 0, 87, 4, 21, 5, 79, 42, 180, 0, 87, 5, 21, 6]
abbrev dktX7_showsBy_3 : List UInt8 := dkwX7_showsBy_3 ++ dktX7_showsBy_4
def dkwX7_showsBy_2 : List UInt8 := [42, 180, 0, 44, 3, 46, 160, 0, 25, 21, 6, 5, 104, 42, 180, 0, 35, 27, 46, 100, 21, 5]
abbrev dktX7_showsBy_2 : List UInt8 := dkwX7_showsBy_2 ++ dktX7_showsBy_3
def dkwX7_showsBy_1 : List UInt8 := [180, 0, 32, 27, 46, 5, 160, 0, 9, 28, 4, 100, 167, 0, 4, 28, 54, 6, 42, 180, 0, 47, 3, 46]
abbrev dktX7_showsBy_1 : List UInt8 := dkwX7_showsBy_1 ++ dktX7_showsBy_2
def dkwX7_showsBy_0 : List UInt8 := [42, 180, 0, 32, 27, 46, 4, 160, 0, 10, 21, 4, 4, 96, 167, 0, 5, 21, 4, 54, 5, 42]
abbrev dktX7_showsBy_0 : List UInt8 := dkwX7_showsBy_0 ++ dktX7_showsBy_1
theorem dksX7_showsBy_0 : cX7_showsBy.data.toList.drop 0 = dktX7_showsBy_0 := by decide +kernel
theorem dksX7_showsBy_1 : cX7_showsBy.data.toList.drop 22 = dktX7_showsBy_1 := dk_seg dksX7_showsBy_0 22 rfl rfl
theorem dksX7_showsBy_2 : cX7_showsBy.data.toList.drop 46 = dktX7_showsBy_2 := dk_seg dksX7_showsBy_1 24 rfl rfl
theorem dksX7_showsBy_3 : cX7_showsBy.data.toList.drop 68 = dktX7_showsBy_3 := dk_seg dksX7_showsBy_2 22 rfl rfl
theorem dksX7_showsBy_4 : cX7_showsBy.data.toList.drop 92 = dktX7_showsBy_4 := dk_seg dksX7_showsBy_3 24 rfl rfl
theorem dksX7_showsBy_5 : cX7_showsBy.data.toList.drop 114 = dktX7_showsBy_5 := dk_seg dksX7_showsBy_4 22 rfl rfl
theorem dX7_showsBy_0 : decode cX7_showsBy 0 = .ok (.aload_n 0, 1) := dk_42 (dk_at dksX7_showsBy_0 0 rfl rfl)
theorem dX7_showsBy_1 : decode cX7_showsBy 1 = .ok (.getfield 32, 3) := dk_180 0 32 (dk_at dksX7_showsBy_0 1 rfl rfl)
theorem dX7_showsBy_4 : decode cX7_showsBy 4 = .ok (.iload_n 1, 1) := dk_27 (dk_at dksX7_showsBy_0 4 rfl rfl)
theorem dX7_showsBy_5 : decode cX7_showsBy 5 = .ok (.iaload, 1) := dk_46 (dk_at dksX7_showsBy_0 5 rfl rfl)
theorem dX7_showsBy_6 : decode cX7_showsBy 6 = .ok (.iconst 1, 1) := dk_4 (dk_at dksX7_showsBy_0 6 rfl rfl)
theorem dX7_showsBy_7 : decode cX7_showsBy 7 = .ok (.if_icmp .ne 10, 3) := dk_160 0 10 (dk_at dksX7_showsBy_0 7 rfl rfl)
theorem dX7_showsBy_10 : decode cX7_showsBy 10 = .ok (.iload 4, 2) := dk_21 4 (dk_at dksX7_showsBy_0 10 rfl rfl)
theorem dX7_showsBy_12 : decode cX7_showsBy 12 = .ok (.iconst 1, 1) := dk_4 (dk_at dksX7_showsBy_0 12 rfl rfl)
theorem dX7_showsBy_13 : decode cX7_showsBy 13 = .ok (.iadd, 1) := dk_96 (dk_at dksX7_showsBy_0 13 rfl rfl)
theorem dX7_showsBy_14 : decode cX7_showsBy 14 = .ok (.goto 5, 3) := dk_167 0 5 (dk_at dksX7_showsBy_0 14 rfl rfl)
theorem dX7_showsBy_17 : decode cX7_showsBy 17 = .ok (.iload 4, 2) := dk_21 4 (dk_at dksX7_showsBy_0 17 rfl rfl)
theorem dX7_showsBy_19 : decode cX7_showsBy 19 = .ok (.istore 5, 2) := dk_54 5 (dk_at dksX7_showsBy_0 19 rfl rfl)
theorem dX7_showsBy_21 : decode cX7_showsBy 21 = .ok (.aload_n 0, 1) := dk_42 (dk_at dksX7_showsBy_0 21 rfl rfl)
theorem dX7_showsBy_22 : decode cX7_showsBy 22 = .ok (.getfield 32, 3) := dk_180 0 32 (dk_at dksX7_showsBy_1 0 rfl rfl)
theorem dX7_showsBy_25 : decode cX7_showsBy 25 = .ok (.iload_n 1, 1) := dk_27 (dk_at dksX7_showsBy_1 3 rfl rfl)
theorem dX7_showsBy_26 : decode cX7_showsBy 26 = .ok (.iaload, 1) := dk_46 (dk_at dksX7_showsBy_1 4 rfl rfl)
theorem dX7_showsBy_27 : decode cX7_showsBy 27 = .ok (.iconst 2, 1) := dk_5 (dk_at dksX7_showsBy_1 5 rfl rfl)
theorem dX7_showsBy_28 : decode cX7_showsBy 28 = .ok (.if_icmp .ne 9, 3) := dk_160 0 9 (dk_at dksX7_showsBy_1 6 rfl rfl)
theorem dX7_showsBy_31 : decode cX7_showsBy 31 = .ok (.iload_n 2, 1) := dk_28 (dk_at dksX7_showsBy_1 9 rfl rfl)
theorem dX7_showsBy_32 : decode cX7_showsBy 32 = .ok (.iconst 1, 1) := dk_4 (dk_at dksX7_showsBy_1 10 rfl rfl)
theorem dX7_showsBy_33 : decode cX7_showsBy 33 = .ok (.isub, 1) := dk_100 (dk_at dksX7_showsBy_1 11 rfl rfl)
theorem dX7_showsBy_34 : decode cX7_showsBy 34 = .ok (.goto 4, 3) := dk_167 0 4 (dk_at dksX7_showsBy_1 12 rfl rfl)
theorem dX7_showsBy_37 : decode cX7_showsBy 37 = .ok (.iload_n 2, 1) := dk_28 (dk_at dksX7_showsBy_1 15 rfl rfl)
theorem dX7_showsBy_38 : decode cX7_showsBy 38 = .ok (.istore 6, 2) := dk_54 6 (dk_at dksX7_showsBy_1 16 rfl rfl)
theorem dX7_showsBy_40 : decode cX7_showsBy 40 = .ok (.aload_n 0, 1) := dk_42 (dk_at dksX7_showsBy_1 18 rfl rfl)
theorem dX7_showsBy_41 : decode cX7_showsBy 41 = .ok (.getfield 47, 3) := dk_180 0 47 (dk_at dksX7_showsBy_1 19 rfl rfl)
theorem dX7_showsBy_44 : decode cX7_showsBy 44 = .ok (.iconst 0, 1) := dk_3 (dk_at dksX7_showsBy_1 22 rfl rfl)
theorem dX7_showsBy_45 : decode cX7_showsBy 45 = .ok (.iaload, 1) := dk_46 (dk_at dksX7_showsBy_1 23 rfl rfl)
theorem dX7_showsBy_46 : decode cX7_showsBy 46 = .ok (.aload_n 0, 1) := dk_42 (dk_at dksX7_showsBy_2 0 rfl rfl)
theorem dX7_showsBy_47 : decode cX7_showsBy 47 = .ok (.getfield 44, 3) := dk_180 0 44 (dk_at dksX7_showsBy_2 1 rfl rfl)
theorem dX7_showsBy_50 : decode cX7_showsBy 50 = .ok (.iconst 0, 1) := dk_3 (dk_at dksX7_showsBy_2 4 rfl rfl)
theorem dX7_showsBy_51 : decode cX7_showsBy 51 = .ok (.iaload, 1) := dk_46 (dk_at dksX7_showsBy_2 5 rfl rfl)
theorem dX7_showsBy_52 : decode cX7_showsBy 52 = .ok (.if_icmp .ne 25, 3) := dk_160 0 25 (dk_at dksX7_showsBy_2 6 rfl rfl)
theorem dX7_showsBy_55 : decode cX7_showsBy 55 = .ok (.iload 6, 2) := dk_21 6 (dk_at dksX7_showsBy_2 9 rfl rfl)
theorem dX7_showsBy_57 : decode cX7_showsBy 57 = .ok (.iconst 2, 1) := dk_5 (dk_at dksX7_showsBy_2 11 rfl rfl)
theorem dX7_showsBy_58 : decode cX7_showsBy 58 = .ok (.imul, 1) := dk_104 (dk_at dksX7_showsBy_2 12 rfl rfl)
theorem dX7_showsBy_59 : decode cX7_showsBy 59 = .ok (.aload_n 0, 1) := dk_42 (dk_at dksX7_showsBy_2 13 rfl rfl)
theorem dX7_showsBy_60 : decode cX7_showsBy 60 = .ok (.getfield 35, 3) := dk_180 0 35 (dk_at dksX7_showsBy_2 14 rfl rfl)
theorem dX7_showsBy_63 : decode cX7_showsBy 63 = .ok (.iload_n 1, 1) := dk_27 (dk_at dksX7_showsBy_2 17 rfl rfl)
theorem dX7_showsBy_64 : decode cX7_showsBy 64 = .ok (.iaload, 1) := dk_46 (dk_at dksX7_showsBy_2 18 rfl rfl)
theorem dX7_showsBy_65 : decode cX7_showsBy 65 = .ok (.isub, 1) := dk_100 (dk_at dksX7_showsBy_2 19 rfl rfl)
theorem dX7_showsBy_66 : decode cX7_showsBy 66 = .ok (.iload 5, 2) := dk_21 5 (dk_at dksX7_showsBy_2 20 rfl rfl)
theorem dX7_showsBy_68 : decode cX7_showsBy 68 = .ok (.if_icmp .ge 7, 3) := dk_162 0 7 (dk_at dksX7_showsBy_3 0 rfl rfl)
theorem dX7_showsBy_71 : decode cX7_showsBy 71 = .ok (.iconst 1, 1) := dk_4 (dk_at dksX7_showsBy_3 3 rfl rfl)
theorem dX7_showsBy_72 : decode cX7_showsBy 72 = .ok (.goto 4, 3) := dk_167 0 4 (dk_at dksX7_showsBy_3 4 rfl rfl)
theorem dX7_showsBy_75 : decode cX7_showsBy 75 = .ok (.iconst 0, 1) := dk_3 (dk_at dksX7_showsBy_3 7 rfl rfl)
theorem dX7_showsBy_76 : decode cX7_showsBy 76 = .ok (.ireturn, 1) := dk_172 (dk_at dksX7_showsBy_3 8 rfl rfl)
theorem dX7_showsBy_77 : decode cX7_showsBy 77 = .ok (.aload_n 0, 1) := dk_42 (dk_at dksX7_showsBy_3 9 rfl rfl)
theorem dX7_showsBy_78 : decode cX7_showsBy 78 = .ok (.getfield 87, 3) := dk_180 0 87 (dk_at dksX7_showsBy_3 10 rfl rfl)
theorem dX7_showsBy_81 : decode cX7_showsBy 81 = .ok (.iconst 1, 1) := dk_4 (dk_at dksX7_showsBy_3 13 rfl rfl)
theorem dX7_showsBy_82 : decode cX7_showsBy 82 = .ok (.iload 5, 2) := dk_21 5 (dk_at dksX7_showsBy_3 14 rfl rfl)
theorem dX7_showsBy_84 : decode cX7_showsBy 84 = .ok (.iastore, 1) := dk_79 (dk_at dksX7_showsBy_3 16 rfl rfl)
theorem dX7_showsBy_85 : decode cX7_showsBy 85 = .ok (.aload_n 0, 1) := dk_42 (dk_at dksX7_showsBy_3 17 rfl rfl)
theorem dX7_showsBy_86 : decode cX7_showsBy 86 = .ok (.getfield 87, 3) := dk_180 0 87 (dk_at dksX7_showsBy_3 18 rfl rfl)
theorem dX7_showsBy_89 : decode cX7_showsBy 89 = .ok (.iconst 2, 1) := dk_5 (dk_at dksX7_showsBy_3 21 rfl rfl)
theorem dX7_showsBy_90 : decode cX7_showsBy 90 = .ok (.iload 6, 2) := dk_21 6 (dk_at dksX7_showsBy_3 22 rfl rfl)
theorem dX7_showsBy_92 : decode cX7_showsBy 92 = .ok (.iastore, 1) := dk_79 (dk_at dksX7_showsBy_4 0 rfl rfl)
theorem dX7_showsBy_93 : decode cX7_showsBy 93 = .ok (.aload_n 0, 1) := dk_42 (dk_at dksX7_showsBy_4 1 rfl rfl)
theorem dX7_showsBy_94 : decode cX7_showsBy 94 = .ok (.getfield 87, 3) := dk_180 0 87 (dk_at dksX7_showsBy_4 2 rfl rfl)
theorem dX7_showsBy_97 : decode cX7_showsBy 97 = .ok (.iconst 3, 1) := dk_6 (dk_at dksX7_showsBy_4 5 rfl rfl)
theorem dX7_showsBy_98 : decode cX7_showsBy 98 = .ok (.aload_n 0, 1) := dk_42 (dk_at dksX7_showsBy_4 6 rfl rfl)
theorem dX7_showsBy_99 : decode cX7_showsBy 99 = .ok (.getfield 35, 3) := dk_180 0 35 (dk_at dksX7_showsBy_4 7 rfl rfl)
theorem dX7_showsBy_102 : decode cX7_showsBy 102 = .ok (.iload_n 1, 1) := dk_27 (dk_at dksX7_showsBy_4 10 rfl rfl)
theorem dX7_showsBy_103 : decode cX7_showsBy 103 = .ok (.iaload, 1) := dk_46 (dk_at dksX7_showsBy_4 11 rfl rfl)
theorem dX7_showsBy_104 : decode cX7_showsBy 104 = .ok (.iastore, 1) := dk_79 (dk_at dksX7_showsBy_4 12 rfl rfl)
theorem dX7_showsBy_105 : decode cX7_showsBy 105 = .ok (.aload_n 0, 1) := dk_42 (dk_at dksX7_showsBy_4 13 rfl rfl)
theorem dX7_showsBy_106 : decode cX7_showsBy 106 = .ok (.getfield 87, 3) := dk_180 0 87 (dk_at dksX7_showsBy_4 14 rfl rfl)
theorem dX7_showsBy_109 : decode cX7_showsBy 109 = .ok (.iconst 4, 1) := dk_7 (dk_at dksX7_showsBy_4 17 rfl rfl)
theorem dX7_showsBy_110 : decode cX7_showsBy 110 = .ok (.iload_n 3, 1) := dk_29 (dk_at dksX7_showsBy_4 18 rfl rfl)
theorem dX7_showsBy_111 : decode cX7_showsBy 111 = .ok (.iastore, 1) := dk_79 (dk_at dksX7_showsBy_4 19 rfl rfl)
theorem dX7_showsBy_112 : decode cX7_showsBy 112 = .ok (.aload_n 0, 1) := dk_42 (dk_at dksX7_showsBy_4 20 rfl rfl)
theorem dX7_showsBy_113 : decode cX7_showsBy 113 = .ok (.iconst 0, 1) := dk_3 (dk_at dksX7_showsBy_4 21 rfl rfl)
theorem dX7_showsBy_114 : decode cX7_showsBy 114 = .ok (.invokevirtual 356, 3) := dk_182 1 100 (dk_at dksX7_showsBy_5 0 rfl rfl)
theorem dX7_showsBy_117 : decode cX7_showsBy 117 = .ok (.ifCond .eq 7, 3) := dk_153 0 7 (dk_at dksX7_showsBy_5 3 rfl rfl)
theorem dX7_showsBy_120 : decode cX7_showsBy 120 = .ok (.iconst 1, 1) := dk_4 (dk_at dksX7_showsBy_5 6 rfl rfl)
theorem dX7_showsBy_121 : decode cX7_showsBy 121 = .ok (.goto 4, 3) := dk_167 0 4 (dk_at dksX7_showsBy_5 7 rfl rfl)
theorem dX7_showsBy_124 : decode cX7_showsBy 124 = .ok (.iconst 0, 1) := dk_3 (dk_at dksX7_showsBy_5 10 rfl rfl)
theorem dX7_showsBy_125 : decode cX7_showsBy 125 = .ok (.ireturn, 1) := dk_172 (dk_at dksX7_showsBy_5 11 rfl rfl)
abbrev cX7_readBy : ByteArray := prog_32_method_50_code
abbrev yX7_readBy : MethodName := { cls := "WornSkinModel", name := "readBy", desc := "(III)I" }
def dkwX7_readBy_4 : List UInt8 := [167, 255, 208, 2, 172]
abbrev dktX7_readBy_4 : List UInt8 := dkwX7_readBy_4 ++ []
def dkwX7_readBy_3 : List UInt8 := [182, 1, 103, 153, 0, 11, 21, 6, 16, 7, 112, 4, 100, 172, 132, 5, 1, 21, 6, 16, 7, 108, 54, 6]
abbrev dktX7_readBy_3 : List UInt8 := dkwX7_readBy_3 ++ dktX7_readBy_4
def dkwX7_readBy_2 : List UInt8 := [21, 6, 158, 0, 49, 42, 21, 6, 16, 7, 112, 4, 100, 21, 5, 42, 180, 0, 120, 4, 27, 96, 46, 29]
abbrev dktX7_readBy_2 : List UInt8 := dkwX7_readBy_2 ++ dktX7_readBy_3
def dkwX7_readBy_1 : List UInt8 := [28, 122, 4, 126, 4, 160, 0, 11, 21, 4, 16, 7, 112, 4, 100, 172, 4, 54, 5, 21, 4, 54, 6]
abbrev dktX7_readBy_1 : List UInt8 := dkwX7_readBy_1 ++ dktX7_readBy_2
def dkwX7_readBy_0 : List UInt8 := [42, 180, 0, 120, 16, 7, 16, 6, 27, 104, 96, 28, 96, 46, 54, 4, 42, 180, 0, 120, 7, 27, 96, 46]
abbrev dktX7_readBy_0 : List UInt8 := dkwX7_readBy_0 ++ dktX7_readBy_1
theorem dksX7_readBy_0 : cX7_readBy.data.toList.drop 0 = dktX7_readBy_0 := by decide +kernel
theorem dksX7_readBy_1 : cX7_readBy.data.toList.drop 24 = dktX7_readBy_1 := dk_seg dksX7_readBy_0 24 rfl rfl
theorem dksX7_readBy_2 : cX7_readBy.data.toList.drop 47 = dktX7_readBy_2 := dk_seg dksX7_readBy_1 23 rfl rfl
theorem dksX7_readBy_3 : cX7_readBy.data.toList.drop 71 = dktX7_readBy_3 := dk_seg dksX7_readBy_2 24 rfl rfl
theorem dksX7_readBy_4 : cX7_readBy.data.toList.drop 95 = dktX7_readBy_4 := dk_seg dksX7_readBy_3 24 rfl rfl
theorem dX7_readBy_0 : decode cX7_readBy 0 = .ok (.aload_n 0, 1) := dk_42 (dk_at dksX7_readBy_0 0 rfl rfl)
theorem dX7_readBy_1 : decode cX7_readBy 1 = .ok (.getfield 120, 3) := dk_180 0 120 (dk_at dksX7_readBy_0 1 rfl rfl)
theorem dX7_readBy_4 : decode cX7_readBy 4 = .ok (.bipush 7, 2) := dk_16 7 (dk_at dksX7_readBy_0 4 rfl rfl)
theorem dX7_readBy_6 : decode cX7_readBy 6 = .ok (.bipush 6, 2) := dk_16 6 (dk_at dksX7_readBy_0 6 rfl rfl)
theorem dX7_readBy_8 : decode cX7_readBy 8 = .ok (.iload_n 1, 1) := dk_27 (dk_at dksX7_readBy_0 8 rfl rfl)
theorem dX7_readBy_9 : decode cX7_readBy 9 = .ok (.imul, 1) := dk_104 (dk_at dksX7_readBy_0 9 rfl rfl)
theorem dX7_readBy_10 : decode cX7_readBy 10 = .ok (.iadd, 1) := dk_96 (dk_at dksX7_readBy_0 10 rfl rfl)
theorem dX7_readBy_11 : decode cX7_readBy 11 = .ok (.iload_n 2, 1) := dk_28 (dk_at dksX7_readBy_0 11 rfl rfl)
theorem dX7_readBy_12 : decode cX7_readBy 12 = .ok (.iadd, 1) := dk_96 (dk_at dksX7_readBy_0 12 rfl rfl)
theorem dX7_readBy_13 : decode cX7_readBy 13 = .ok (.iaload, 1) := dk_46 (dk_at dksX7_readBy_0 13 rfl rfl)
theorem dX7_readBy_14 : decode cX7_readBy 14 = .ok (.istore 4, 2) := dk_54 4 (dk_at dksX7_readBy_0 14 rfl rfl)
theorem dX7_readBy_16 : decode cX7_readBy 16 = .ok (.aload_n 0, 1) := dk_42 (dk_at dksX7_readBy_0 16 rfl rfl)
theorem dX7_readBy_17 : decode cX7_readBy 17 = .ok (.getfield 120, 3) := dk_180 0 120 (dk_at dksX7_readBy_0 17 rfl rfl)
theorem dX7_readBy_20 : decode cX7_readBy 20 = .ok (.iconst 4, 1) := dk_7 (dk_at dksX7_readBy_0 20 rfl rfl)
theorem dX7_readBy_21 : decode cX7_readBy 21 = .ok (.iload_n 1, 1) := dk_27 (dk_at dksX7_readBy_0 21 rfl rfl)
theorem dX7_readBy_22 : decode cX7_readBy 22 = .ok (.iadd, 1) := dk_96 (dk_at dksX7_readBy_0 22 rfl rfl)
theorem dX7_readBy_23 : decode cX7_readBy 23 = .ok (.iaload, 1) := dk_46 (dk_at dksX7_readBy_0 23 rfl rfl)
theorem dX7_readBy_24 : decode cX7_readBy 24 = .ok (.iload_n 2, 1) := dk_28 (dk_at dksX7_readBy_1 0 rfl rfl)
theorem dX7_readBy_25 : decode cX7_readBy 25 = .ok (.ishr, 1) := dk_122 (dk_at dksX7_readBy_1 1 rfl rfl)
theorem dX7_readBy_26 : decode cX7_readBy 26 = .ok (.iconst 1, 1) := dk_4 (dk_at dksX7_readBy_1 2 rfl rfl)
theorem dX7_readBy_27 : decode cX7_readBy 27 = .ok (.iand, 1) := dk_126 (dk_at dksX7_readBy_1 3 rfl rfl)
theorem dX7_readBy_28 : decode cX7_readBy 28 = .ok (.iconst 1, 1) := dk_4 (dk_at dksX7_readBy_1 4 rfl rfl)
theorem dX7_readBy_29 : decode cX7_readBy 29 = .ok (.if_icmp .ne 11, 3) := dk_160 0 11 (dk_at dksX7_readBy_1 5 rfl rfl)
theorem dX7_readBy_32 : decode cX7_readBy 32 = .ok (.iload 4, 2) := dk_21 4 (dk_at dksX7_readBy_1 8 rfl rfl)
theorem dX7_readBy_34 : decode cX7_readBy 34 = .ok (.bipush 7, 2) := dk_16 7 (dk_at dksX7_readBy_1 10 rfl rfl)
theorem dX7_readBy_36 : decode cX7_readBy 36 = .ok (.irem, 1) := dk_112 (dk_at dksX7_readBy_1 12 rfl rfl)
theorem dX7_readBy_37 : decode cX7_readBy 37 = .ok (.iconst 1, 1) := dk_4 (dk_at dksX7_readBy_1 13 rfl rfl)
theorem dX7_readBy_38 : decode cX7_readBy 38 = .ok (.isub, 1) := dk_100 (dk_at dksX7_readBy_1 14 rfl rfl)
theorem dX7_readBy_39 : decode cX7_readBy 39 = .ok (.ireturn, 1) := dk_172 (dk_at dksX7_readBy_1 15 rfl rfl)
theorem dX7_readBy_40 : decode cX7_readBy 40 = .ok (.iconst 1, 1) := dk_4 (dk_at dksX7_readBy_1 16 rfl rfl)
theorem dX7_readBy_41 : decode cX7_readBy 41 = .ok (.istore 5, 2) := dk_54 5 (dk_at dksX7_readBy_1 17 rfl rfl)
theorem dX7_readBy_43 : decode cX7_readBy 43 = .ok (.iload 4, 2) := dk_21 4 (dk_at dksX7_readBy_1 19 rfl rfl)
theorem dX7_readBy_45 : decode cX7_readBy 45 = .ok (.istore 6, 2) := dk_54 6 (dk_at dksX7_readBy_1 21 rfl rfl)
theorem dX7_readBy_47 : decode cX7_readBy 47 = .ok (.iload 6, 2) := dk_21 6 (dk_at dksX7_readBy_2 0 rfl rfl)
theorem dX7_readBy_49 : decode cX7_readBy 49 = .ok (.ifCond .le 49, 3) := dk_158 0 49 (dk_at dksX7_readBy_2 2 rfl rfl)
theorem dX7_readBy_52 : decode cX7_readBy 52 = .ok (.aload_n 0, 1) := dk_42 (dk_at dksX7_readBy_2 5 rfl rfl)
theorem dX7_readBy_53 : decode cX7_readBy 53 = .ok (.iload 6, 2) := dk_21 6 (dk_at dksX7_readBy_2 6 rfl rfl)
theorem dX7_readBy_55 : decode cX7_readBy 55 = .ok (.bipush 7, 2) := dk_16 7 (dk_at dksX7_readBy_2 8 rfl rfl)
theorem dX7_readBy_57 : decode cX7_readBy 57 = .ok (.irem, 1) := dk_112 (dk_at dksX7_readBy_2 10 rfl rfl)
theorem dX7_readBy_58 : decode cX7_readBy 58 = .ok (.iconst 1, 1) := dk_4 (dk_at dksX7_readBy_2 11 rfl rfl)
theorem dX7_readBy_59 : decode cX7_readBy 59 = .ok (.isub, 1) := dk_100 (dk_at dksX7_readBy_2 12 rfl rfl)
theorem dX7_readBy_60 : decode cX7_readBy 60 = .ok (.iload 5, 2) := dk_21 5 (dk_at dksX7_readBy_2 13 rfl rfl)
theorem dX7_readBy_62 : decode cX7_readBy 62 = .ok (.aload_n 0, 1) := dk_42 (dk_at dksX7_readBy_2 15 rfl rfl)
theorem dX7_readBy_63 : decode cX7_readBy 63 = .ok (.getfield 120, 3) := dk_180 0 120 (dk_at dksX7_readBy_2 16 rfl rfl)
theorem dX7_readBy_66 : decode cX7_readBy 66 = .ok (.iconst 1, 1) := dk_4 (dk_at dksX7_readBy_2 19 rfl rfl)
theorem dX7_readBy_67 : decode cX7_readBy 67 = .ok (.iload_n 1, 1) := dk_27 (dk_at dksX7_readBy_2 20 rfl rfl)
theorem dX7_readBy_68 : decode cX7_readBy 68 = .ok (.iadd, 1) := dk_96 (dk_at dksX7_readBy_2 21 rfl rfl)
theorem dX7_readBy_69 : decode cX7_readBy 69 = .ok (.iaload, 1) := dk_46 (dk_at dksX7_readBy_2 22 rfl rfl)
theorem dX7_readBy_70 : decode cX7_readBy 70 = .ok (.iload_n 3, 1) := dk_29 (dk_at dksX7_readBy_2 23 rfl rfl)
theorem dX7_readBy_71 : decode cX7_readBy 71 = .ok (.invokevirtual 359, 3) := dk_182 1 103 (dk_at dksX7_readBy_3 0 rfl rfl)
theorem dX7_readBy_74 : decode cX7_readBy 74 = .ok (.ifCond .eq 11, 3) := dk_153 0 11 (dk_at dksX7_readBy_3 3 rfl rfl)
theorem dX7_readBy_77 : decode cX7_readBy 77 = .ok (.iload 6, 2) := dk_21 6 (dk_at dksX7_readBy_3 6 rfl rfl)
theorem dX7_readBy_79 : decode cX7_readBy 79 = .ok (.bipush 7, 2) := dk_16 7 (dk_at dksX7_readBy_3 8 rfl rfl)
theorem dX7_readBy_81 : decode cX7_readBy 81 = .ok (.irem, 1) := dk_112 (dk_at dksX7_readBy_3 10 rfl rfl)
theorem dX7_readBy_82 : decode cX7_readBy 82 = .ok (.iconst 1, 1) := dk_4 (dk_at dksX7_readBy_3 11 rfl rfl)
theorem dX7_readBy_83 : decode cX7_readBy 83 = .ok (.isub, 1) := dk_100 (dk_at dksX7_readBy_3 12 rfl rfl)
theorem dX7_readBy_84 : decode cX7_readBy 84 = .ok (.ireturn, 1) := dk_172 (dk_at dksX7_readBy_3 13 rfl rfl)
theorem dX7_readBy_85 : decode cX7_readBy 85 = .ok (.iinc 5 1, 3) := dk_132 5 1 (dk_at dksX7_readBy_3 14 rfl rfl)
theorem dX7_readBy_88 : decode cX7_readBy 88 = .ok (.iload 6, 2) := dk_21 6 (dk_at dksX7_readBy_3 17 rfl rfl)
theorem dX7_readBy_90 : decode cX7_readBy 90 = .ok (.bipush 7, 2) := dk_16 7 (dk_at dksX7_readBy_3 19 rfl rfl)
theorem dX7_readBy_92 : decode cX7_readBy 92 = .ok (.idiv, 1) := dk_108 (dk_at dksX7_readBy_3 21 rfl rfl)
theorem dX7_readBy_93 : decode cX7_readBy 93 = .ok (.istore 6, 2) := dk_54 6 (dk_at dksX7_readBy_3 22 rfl rfl)
theorem dX7_readBy_95 : decode cX7_readBy 95 = .ok (.goto (-48), 3) := dk_167 255 208 (dk_at dksX7_readBy_4 0 rfl rfl)
theorem dX7_readBy_98 : decode cX7_readBy 98 = .ok (.iconst (-1), 1) := dk_2 (dk_at dksX7_readBy_4 3 rfl rfl)
theorem dX7_readBy_99 : decode cX7_readBy 99 = .ok (.ireturn, 1) := dk_172 (dk_at dksX7_readBy_4 4 rfl rfl)
abbrev cX7_readIn : ByteArray := prog_32_method_58_code
abbrev yX7_readIn : MethodName := { cls := "WornSkinModel", name := "readIn", desc := "(II)I" }
def dkwX7_readIn_2 : List UInt8 := [21, 5, 28, 160, 0, 10, 4, 21, 4, 120, 167, 0, 4, 3, 128, 62, 132, 4, 1, 167, 255, 197, 29, 172]
abbrev dktX7_readIn_2 : List UInt8 := dkwX7_readIn_2 ++ []
def dkwX7_readIn_1 : List UInt8 := [180, 0, 120, 3, 46, 182, 1, 111, 182, 1, 107, 54, 5, 29, 21, 5, 155, 0, 20, 28, 155, 0, 9]
abbrev dktX7_readIn_1 : List UInt8 := dkwX7_readIn_1 ++ dktX7_readIn_2
def dkwX7_readIn_0 : List UInt8 := [3, 62, 3, 54, 4, 21, 4, 42, 180, 0, 23, 27, 46, 162, 0, 54, 42, 27, 21, 4, 42, 42]
abbrev dktX7_readIn_0 : List UInt8 := dkwX7_readIn_0 ++ dktX7_readIn_1
theorem dksX7_readIn_0 : cX7_readIn.data.toList.drop 0 = dktX7_readIn_0 := by decide +kernel
theorem dksX7_readIn_1 : cX7_readIn.data.toList.drop 22 = dktX7_readIn_1 := dk_seg dksX7_readIn_0 22 rfl rfl
theorem dksX7_readIn_2 : cX7_readIn.data.toList.drop 45 = dktX7_readIn_2 := dk_seg dksX7_readIn_1 23 rfl rfl
theorem dX7_readIn_0 : decode cX7_readIn 0 = .ok (.iconst 0, 1) := dk_3 (dk_at dksX7_readIn_0 0 rfl rfl)
theorem dX7_readIn_1 : decode cX7_readIn 1 = .ok (.istore_n 3, 1) := dk_62 (dk_at dksX7_readIn_0 1 rfl rfl)
theorem dX7_readIn_2 : decode cX7_readIn 2 = .ok (.iconst 0, 1) := dk_3 (dk_at dksX7_readIn_0 2 rfl rfl)
theorem dX7_readIn_3 : decode cX7_readIn 3 = .ok (.istore 4, 2) := dk_54 4 (dk_at dksX7_readIn_0 3 rfl rfl)
theorem dX7_readIn_5 : decode cX7_readIn 5 = .ok (.iload 4, 2) := dk_21 4 (dk_at dksX7_readIn_0 5 rfl rfl)
theorem dX7_readIn_7 : decode cX7_readIn 7 = .ok (.aload_n 0, 1) := dk_42 (dk_at dksX7_readIn_0 7 rfl rfl)
theorem dX7_readIn_8 : decode cX7_readIn 8 = .ok (.getfield 23, 3) := dk_180 0 23 (dk_at dksX7_readIn_0 8 rfl rfl)
theorem dX7_readIn_11 : decode cX7_readIn 11 = .ok (.iload_n 1, 1) := dk_27 (dk_at dksX7_readIn_0 11 rfl rfl)
theorem dX7_readIn_12 : decode cX7_readIn 12 = .ok (.iaload, 1) := dk_46 (dk_at dksX7_readIn_0 12 rfl rfl)
theorem dX7_readIn_13 : decode cX7_readIn 13 = .ok (.if_icmp .ge 54, 3) := dk_162 0 54 (dk_at dksX7_readIn_0 13 rfl rfl)
theorem dX7_readIn_16 : decode cX7_readIn 16 = .ok (.aload_n 0, 1) := dk_42 (dk_at dksX7_readIn_0 16 rfl rfl)
theorem dX7_readIn_17 : decode cX7_readIn 17 = .ok (.iload_n 1, 1) := dk_27 (dk_at dksX7_readIn_0 17 rfl rfl)
theorem dX7_readIn_18 : decode cX7_readIn 18 = .ok (.iload 4, 2) := dk_21 4 (dk_at dksX7_readIn_0 18 rfl rfl)
theorem dX7_readIn_20 : decode cX7_readIn 20 = .ok (.aload_n 0, 1) := dk_42 (dk_at dksX7_readIn_0 20 rfl rfl)
theorem dX7_readIn_21 : decode cX7_readIn 21 = .ok (.aload_n 0, 1) := dk_42 (dk_at dksX7_readIn_0 21 rfl rfl)
theorem dX7_readIn_22 : decode cX7_readIn 22 = .ok (.getfield 120, 3) := dk_180 0 120 (dk_at dksX7_readIn_1 0 rfl rfl)
theorem dX7_readIn_25 : decode cX7_readIn 25 = .ok (.iconst 0, 1) := dk_3 (dk_at dksX7_readIn_1 3 rfl rfl)
theorem dX7_readIn_26 : decode cX7_readIn 26 = .ok (.iaload, 1) := dk_46 (dk_at dksX7_readIn_1 4 rfl rfl)
theorem dX7_readIn_27 : decode cX7_readIn 27 = .ok (.invokevirtual 367, 3) := dk_182 1 111 (dk_at dksX7_readIn_1 5 rfl rfl)
theorem dX7_readIn_30 : decode cX7_readIn 30 = .ok (.invokevirtual 363, 3) := dk_182 1 107 (dk_at dksX7_readIn_1 8 rfl rfl)
theorem dX7_readIn_33 : decode cX7_readIn 33 = .ok (.istore 5, 2) := dk_54 5 (dk_at dksX7_readIn_1 11 rfl rfl)
theorem dX7_readIn_35 : decode cX7_readIn 35 = .ok (.iload_n 3, 1) := dk_29 (dk_at dksX7_readIn_1 13 rfl rfl)
theorem dX7_readIn_36 : decode cX7_readIn 36 = .ok (.iload 5, 2) := dk_21 5 (dk_at dksX7_readIn_1 14 rfl rfl)
theorem dX7_readIn_38 : decode cX7_readIn 38 = .ok (.ifCond .lt 20, 3) := dk_155 0 20 (dk_at dksX7_readIn_1 16 rfl rfl)
theorem dX7_readIn_41 : decode cX7_readIn 41 = .ok (.iload_n 2, 1) := dk_28 (dk_at dksX7_readIn_1 19 rfl rfl)
theorem dX7_readIn_42 : decode cX7_readIn 42 = .ok (.ifCond .lt 9, 3) := dk_155 0 9 (dk_at dksX7_readIn_1 20 rfl rfl)
theorem dX7_readIn_45 : decode cX7_readIn 45 = .ok (.iload 5, 2) := dk_21 5 (dk_at dksX7_readIn_2 0 rfl rfl)
theorem dX7_readIn_47 : decode cX7_readIn 47 = .ok (.iload_n 2, 1) := dk_28 (dk_at dksX7_readIn_2 2 rfl rfl)
theorem dX7_readIn_48 : decode cX7_readIn 48 = .ok (.if_icmp .ne 10, 3) := dk_160 0 10 (dk_at dksX7_readIn_2 3 rfl rfl)
theorem dX7_readIn_51 : decode cX7_readIn 51 = .ok (.iconst 1, 1) := dk_4 (dk_at dksX7_readIn_2 6 rfl rfl)
theorem dX7_readIn_52 : decode cX7_readIn 52 = .ok (.iload 4, 2) := dk_21 4 (dk_at dksX7_readIn_2 7 rfl rfl)
theorem dX7_readIn_54 : decode cX7_readIn 54 = .ok (.ishl, 1) := dk_120 (dk_at dksX7_readIn_2 9 rfl rfl)
theorem dX7_readIn_55 : decode cX7_readIn 55 = .ok (.goto 4, 3) := dk_167 0 4 (dk_at dksX7_readIn_2 10 rfl rfl)
theorem dX7_readIn_58 : decode cX7_readIn 58 = .ok (.iconst 0, 1) := dk_3 (dk_at dksX7_readIn_2 13 rfl rfl)
theorem dX7_readIn_59 : decode cX7_readIn 59 = .ok (.ior, 1) := dk_128 (dk_at dksX7_readIn_2 14 rfl rfl)
theorem dX7_readIn_60 : decode cX7_readIn 60 = .ok (.istore_n 3, 1) := dk_62 (dk_at dksX7_readIn_2 15 rfl rfl)
theorem dX7_readIn_61 : decode cX7_readIn 61 = .ok (.iinc 4 1, 3) := dk_132 4 1 (dk_at dksX7_readIn_2 16 rfl rfl)
theorem dX7_readIn_64 : decode cX7_readIn 64 = .ok (.goto (-59), 3) := dk_167 255 197 (dk_at dksX7_readIn_2 19 rfl rfl)
theorem dX7_readIn_67 : decode cX7_readIn 67 = .ok (.iload_n 3, 1) := dk_29 (dk_at dksX7_readIn_2 22 rfl rfl)
theorem dX7_readIn_68 : decode cX7_readIn 68 = .ok (.ireturn, 1) := dk_172 (dk_at dksX7_readIn_2 23 rfl rfl)
abbrev cX7_skin : ByteArray := prog_32_method_60_code
abbrev yX7_skin : MethodName := { cls := "WornSkinModel", name := "skin", desc := "(II)I" }
def dkwX7_skin_3 : List UInt8 := [180, 0, 120, 7, 27, 96, 46, 167, 0, 9, 42, 27, 2, 182, 1, 125, 172]
abbrev dktX7_skin_3 : List UInt8 := dkwX7_skin_3 ++ []
def dkwX7_skin_2 : List UInt8 := [96, 46, 172, 28, 5, 160, 0, 12, 42, 180, 0, 29, 27, 46, 167, 0, 25, 28, 6, 160, 0, 14, 42]
abbrev dktX7_skin_2 : List UInt8 := dkwX7_skin_2 ++ dktX7_skin_3
def dkwX7_skin_1 : List UInt8 := [28, 5, 162, 0, 25, 28, 154, 0, 12, 42, 180, 0, 23, 27, 46, 167, 0, 11, 42, 180, 0, 120, 4, 27]
abbrev dktX7_skin_1 : List UInt8 := dkwX7_skin_1 ++ dktX7_skin_2
def dkwX7_skin_0 : List UInt8 := [42, 3, 181, 0, 144, 42, 27, 182, 1, 97, 153, 0, 12, 28, 3, 7, 184, 1, 9, 154, 0, 5, 2, 172]
abbrev dktX7_skin_0 : List UInt8 := dkwX7_skin_0 ++ dktX7_skin_1
theorem dksX7_skin_0 : cX7_skin.data.toList.drop 0 = dktX7_skin_0 := by decide +kernel
theorem dksX7_skin_1 : cX7_skin.data.toList.drop 24 = dktX7_skin_1 := dk_seg dksX7_skin_0 24 rfl rfl
theorem dksX7_skin_2 : cX7_skin.data.toList.drop 48 = dktX7_skin_2 := dk_seg dksX7_skin_1 24 rfl rfl
theorem dksX7_skin_3 : cX7_skin.data.toList.drop 71 = dktX7_skin_3 := dk_seg dksX7_skin_2 23 rfl rfl
theorem dX7_skin_0 : decode cX7_skin 0 = .ok (.aload_n 0, 1) := dk_42 (dk_at dksX7_skin_0 0 rfl rfl)
theorem dX7_skin_1 : decode cX7_skin 1 = .ok (.iconst 0, 1) := dk_3 (dk_at dksX7_skin_0 1 rfl rfl)
theorem dX7_skin_2 : decode cX7_skin 2 = .ok (.putfield 144, 3) := dk_181 0 144 (dk_at dksX7_skin_0 2 rfl rfl)
theorem dX7_skin_5 : decode cX7_skin 5 = .ok (.aload_n 0, 1) := dk_42 (dk_at dksX7_skin_0 5 rfl rfl)
theorem dX7_skin_6 : decode cX7_skin 6 = .ok (.iload_n 1, 1) := dk_27 (dk_at dksX7_skin_0 6 rfl rfl)
theorem dX7_skin_7 : decode cX7_skin 7 = .ok (.invokevirtual 353, 3) := dk_182 1 97 (dk_at dksX7_skin_0 7 rfl rfl)
theorem dX7_skin_10 : decode cX7_skin 10 = .ok (.ifCond .eq 12, 3) := dk_153 0 12 (dk_at dksX7_skin_0 10 rfl rfl)
theorem dX7_skin_13 : decode cX7_skin 13 = .ok (.iload_n 2, 1) := dk_28 (dk_at dksX7_skin_0 13 rfl rfl)
theorem dX7_skin_14 : decode cX7_skin 14 = .ok (.iconst 0, 1) := dk_3 (dk_at dksX7_skin_0 14 rfl rfl)
theorem dX7_skin_15 : decode cX7_skin 15 = .ok (.iconst 4, 1) := dk_7 (dk_at dksX7_skin_0 15 rfl rfl)
theorem dX7_skin_16 : decode cX7_skin 16 = .ok (.invokestatic 265, 3) := dk_184 1 9 (dk_at dksX7_skin_0 16 rfl rfl)
theorem dX7_skin_19 : decode cX7_skin 19 = .ok (.ifCond .ne 5, 3) := dk_154 0 5 (dk_at dksX7_skin_0 19 rfl rfl)
theorem dX7_skin_22 : decode cX7_skin 22 = .ok (.iconst (-1), 1) := dk_2 (dk_at dksX7_skin_0 22 rfl rfl)
theorem dX7_skin_23 : decode cX7_skin 23 = .ok (.ireturn, 1) := dk_172 (dk_at dksX7_skin_0 23 rfl rfl)
theorem dX7_skin_24 : decode cX7_skin 24 = .ok (.iload_n 2, 1) := dk_28 (dk_at dksX7_skin_1 0 rfl rfl)
theorem dX7_skin_25 : decode cX7_skin 25 = .ok (.iconst 2, 1) := dk_5 (dk_at dksX7_skin_1 1 rfl rfl)
theorem dX7_skin_26 : decode cX7_skin 26 = .ok (.if_icmp .ge 25, 3) := dk_162 0 25 (dk_at dksX7_skin_1 2 rfl rfl)
theorem dX7_skin_29 : decode cX7_skin 29 = .ok (.iload_n 2, 1) := dk_28 (dk_at dksX7_skin_1 5 rfl rfl)
theorem dX7_skin_30 : decode cX7_skin 30 = .ok (.ifCond .ne 12, 3) := dk_154 0 12 (dk_at dksX7_skin_1 6 rfl rfl)
theorem dX7_skin_33 : decode cX7_skin 33 = .ok (.aload_n 0, 1) := dk_42 (dk_at dksX7_skin_1 9 rfl rfl)
theorem dX7_skin_34 : decode cX7_skin 34 = .ok (.getfield 23, 3) := dk_180 0 23 (dk_at dksX7_skin_1 10 rfl rfl)
theorem dX7_skin_37 : decode cX7_skin 37 = .ok (.iload_n 1, 1) := dk_27 (dk_at dksX7_skin_1 13 rfl rfl)
theorem dX7_skin_38 : decode cX7_skin 38 = .ok (.iaload, 1) := dk_46 (dk_at dksX7_skin_1 14 rfl rfl)
theorem dX7_skin_39 : decode cX7_skin 39 = .ok (.goto 11, 3) := dk_167 0 11 (dk_at dksX7_skin_1 15 rfl rfl)
theorem dX7_skin_42 : decode cX7_skin 42 = .ok (.aload_n 0, 1) := dk_42 (dk_at dksX7_skin_1 18 rfl rfl)
theorem dX7_skin_43 : decode cX7_skin 43 = .ok (.getfield 120, 3) := dk_180 0 120 (dk_at dksX7_skin_1 19 rfl rfl)
theorem dX7_skin_46 : decode cX7_skin 46 = .ok (.iconst 1, 1) := dk_4 (dk_at dksX7_skin_1 22 rfl rfl)
theorem dX7_skin_47 : decode cX7_skin 47 = .ok (.iload_n 1, 1) := dk_27 (dk_at dksX7_skin_1 23 rfl rfl)
theorem dX7_skin_48 : decode cX7_skin 48 = .ok (.iadd, 1) := dk_96 (dk_at dksX7_skin_2 0 rfl rfl)
theorem dX7_skin_49 : decode cX7_skin 49 = .ok (.iaload, 1) := dk_46 (dk_at dksX7_skin_2 1 rfl rfl)
theorem dX7_skin_50 : decode cX7_skin 50 = .ok (.ireturn, 1) := dk_172 (dk_at dksX7_skin_2 2 rfl rfl)
theorem dX7_skin_51 : decode cX7_skin 51 = .ok (.iload_n 2, 1) := dk_28 (dk_at dksX7_skin_2 3 rfl rfl)
theorem dX7_skin_52 : decode cX7_skin 52 = .ok (.iconst 2, 1) := dk_5 (dk_at dksX7_skin_2 4 rfl rfl)
theorem dX7_skin_53 : decode cX7_skin 53 = .ok (.if_icmp .ne 12, 3) := dk_160 0 12 (dk_at dksX7_skin_2 5 rfl rfl)
theorem dX7_skin_56 : decode cX7_skin 56 = .ok (.aload_n 0, 1) := dk_42 (dk_at dksX7_skin_2 8 rfl rfl)
theorem dX7_skin_57 : decode cX7_skin 57 = .ok (.getfield 29, 3) := dk_180 0 29 (dk_at dksX7_skin_2 9 rfl rfl)
theorem dX7_skin_60 : decode cX7_skin 60 = .ok (.iload_n 1, 1) := dk_27 (dk_at dksX7_skin_2 12 rfl rfl)
theorem dX7_skin_61 : decode cX7_skin 61 = .ok (.iaload, 1) := dk_46 (dk_at dksX7_skin_2 13 rfl rfl)
theorem dX7_skin_62 : decode cX7_skin 62 = .ok (.goto 25, 3) := dk_167 0 25 (dk_at dksX7_skin_2 14 rfl rfl)
theorem dX7_skin_65 : decode cX7_skin 65 = .ok (.iload_n 2, 1) := dk_28 (dk_at dksX7_skin_2 17 rfl rfl)
theorem dX7_skin_66 : decode cX7_skin 66 = .ok (.iconst 3, 1) := dk_6 (dk_at dksX7_skin_2 18 rfl rfl)
theorem dX7_skin_67 : decode cX7_skin 67 = .ok (.if_icmp .ne 14, 3) := dk_160 0 14 (dk_at dksX7_skin_2 19 rfl rfl)
theorem dX7_skin_70 : decode cX7_skin 70 = .ok (.aload_n 0, 1) := dk_42 (dk_at dksX7_skin_2 22 rfl rfl)
theorem dX7_skin_71 : decode cX7_skin 71 = .ok (.getfield 120, 3) := dk_180 0 120 (dk_at dksX7_skin_3 0 rfl rfl)
theorem dX7_skin_74 : decode cX7_skin 74 = .ok (.iconst 4, 1) := dk_7 (dk_at dksX7_skin_3 3 rfl rfl)
theorem dX7_skin_75 : decode cX7_skin 75 = .ok (.iload_n 1, 1) := dk_27 (dk_at dksX7_skin_3 4 rfl rfl)
theorem dX7_skin_76 : decode cX7_skin 76 = .ok (.iadd, 1) := dk_96 (dk_at dksX7_skin_3 5 rfl rfl)
theorem dX7_skin_77 : decode cX7_skin 77 = .ok (.iaload, 1) := dk_46 (dk_at dksX7_skin_3 6 rfl rfl)
theorem dX7_skin_78 : decode cX7_skin 78 = .ok (.goto 9, 3) := dk_167 0 9 (dk_at dksX7_skin_3 7 rfl rfl)
theorem dX7_skin_81 : decode cX7_skin 81 = .ok (.aload_n 0, 1) := dk_42 (dk_at dksX7_skin_3 10 rfl rfl)
theorem dX7_skin_82 : decode cX7_skin 82 = .ok (.iload_n 1, 1) := dk_27 (dk_at dksX7_skin_3 11 rfl rfl)
theorem dX7_skin_83 : decode cX7_skin 83 = .ok (.iconst (-1), 1) := dk_2 (dk_at dksX7_skin_3 12 rfl rfl)
theorem dX7_skin_84 : decode cX7_skin 84 = .ok (.invokevirtual 381, 3) := dk_182 1 125 (dk_at dksX7_skin_3 13 rfl rfl)
theorem dX7_skin_87 : decode cX7_skin 87 = .ok (.ireturn, 1) := dk_172 (dk_at dksX7_skin_3 16 rfl rfl)
abbrev cX7_isText : ByteArray := prog_32_method_45_code
abbrev yX7_isText : MethodName := { cls := "WornSkinModel", name := "isText", desc := "(I)Z" }
def dkwX7_isText_0 : List UInt8 := [27, 155, 0, 17, 27, 42, 180, 0, 13, 4, 46, 162, 0, 7, 4, 167, 0, 4, 3, 172]
abbrev dktX7_isText_0 : List UInt8 := dkwX7_isText_0 ++ []
theorem dksX7_isText_0 : cX7_isText.data.toList.drop 0 = dktX7_isText_0 := by decide +kernel
theorem dX7_isText_0 : decode cX7_isText 0 = .ok (.iload_n 1, 1) := dk_27 (dk_at dksX7_isText_0 0 rfl rfl)
theorem dX7_isText_1 : decode cX7_isText 1 = .ok (.ifCond .lt 17, 3) := dk_155 0 17 (dk_at dksX7_isText_0 1 rfl rfl)
theorem dX7_isText_4 : decode cX7_isText 4 = .ok (.iload_n 1, 1) := dk_27 (dk_at dksX7_isText_0 4 rfl rfl)
theorem dX7_isText_5 : decode cX7_isText 5 = .ok (.aload_n 0, 1) := dk_42 (dk_at dksX7_isText_0 5 rfl rfl)
theorem dX7_isText_6 : decode cX7_isText 6 = .ok (.getfield 13, 3) := dk_180 0 13 (dk_at dksX7_isText_0 6 rfl rfl)
theorem dX7_isText_9 : decode cX7_isText 9 = .ok (.iconst 1, 1) := dk_4 (dk_at dksX7_isText_0 9 rfl rfl)
theorem dX7_isText_10 : decode cX7_isText 10 = .ok (.iaload, 1) := dk_46 (dk_at dksX7_isText_0 10 rfl rfl)
theorem dX7_isText_11 : decode cX7_isText 11 = .ok (.if_icmp .ge 7, 3) := dk_162 0 7 (dk_at dksX7_isText_0 11 rfl rfl)
theorem dX7_isText_14 : decode cX7_isText 14 = .ok (.iconst 1, 1) := dk_4 (dk_at dksX7_isText_0 14 rfl rfl)
theorem dX7_isText_15 : decode cX7_isText 15 = .ok (.goto 4, 3) := dk_167 0 4 (dk_at dksX7_isText_0 15 rfl rfl)
theorem dX7_isText_18 : decode cX7_isText 18 = .ok (.iconst 0, 1) := dk_3 (dk_at dksX7_isText_0 18 rfl rfl)
theorem dX7_isText_19 : decode cX7_isText 19 = .ok (.ireturn, 1) := dk_172 (dk_at dksX7_isText_0 19 rfl rfl)
abbrev cX7_wholeBy : ByteArray := prog_32_method_51_code
abbrev yX7_wholeBy : MethodName := { cls := "WornSkinModel", name := "wholeBy", desc := "(I)I" }
def dkwX7_wholeBy_4 : List UInt8 := [167, 255, 187, 132, 3, 1, 167, 255, 162, 28, 172]
abbrev dktX7_wholeBy_4 : List UInt8 := dkwX7_wholeBy_4 ++ []
def dkwX7_wholeBy_3 : List UInt8 := [21, 5, 42, 180, 0, 38, 21, 7, 46, 161, 0, 10, 28, 4, 21, 7, 120, 128, 61, 132, 6, 1]
abbrev dktX7_wholeBy_3 : List UInt8 := dkwX7_wholeBy_3 ++ dktX7_wholeBy_4
def dkwX7_wholeBy_2 : List UInt8 := [21, 4, 160, 0, 10, 21, 5, 4, 96, 167, 0, 4, 4, 54, 5, 21, 7, 54, 4, 21, 7, 155, 0, 22]
abbrev dktX7_wholeBy_2 : List UInt8 := dkwX7_wholeBy_2 ++ dktX7_wholeBy_3
def dkwX7_wholeBy_1 : List UInt8 := [21, 6, 42, 180, 0, 23, 29, 46, 162, 0, 64, 42, 29, 21, 6, 27, 182, 1, 107, 54, 7, 21, 7]
abbrev dktX7_wholeBy_1 : List UInt8 := dkwX7_wholeBy_1 ++ dktX7_wholeBy_2
def dkwX7_wholeBy_0 : List UInt8 := [3, 61, 3, 62, 29, 42, 180, 0, 13, 3, 46, 162, 0, 90, 2, 54, 4, 3, 54, 5, 3, 54, 6]
abbrev dktX7_wholeBy_0 : List UInt8 := dkwX7_wholeBy_0 ++ dktX7_wholeBy_1
theorem dksX7_wholeBy_0 : cX7_wholeBy.data.toList.drop 0 = dktX7_wholeBy_0 := by decide +kernel
theorem dksX7_wholeBy_1 : cX7_wholeBy.data.toList.drop 23 = dktX7_wholeBy_1 := dk_seg dksX7_wholeBy_0 23 rfl rfl
theorem dksX7_wholeBy_2 : cX7_wholeBy.data.toList.drop 46 = dktX7_wholeBy_2 := dk_seg dksX7_wholeBy_1 23 rfl rfl
theorem dksX7_wholeBy_3 : cX7_wholeBy.data.toList.drop 70 = dktX7_wholeBy_3 := dk_seg dksX7_wholeBy_2 24 rfl rfl
theorem dksX7_wholeBy_4 : cX7_wholeBy.data.toList.drop 92 = dktX7_wholeBy_4 := dk_seg dksX7_wholeBy_3 22 rfl rfl
theorem dX7_wholeBy_0 : decode cX7_wholeBy 0 = .ok (.iconst 0, 1) := dk_3 (dk_at dksX7_wholeBy_0 0 rfl rfl)
theorem dX7_wholeBy_1 : decode cX7_wholeBy 1 = .ok (.istore_n 2, 1) := dk_61 (dk_at dksX7_wholeBy_0 1 rfl rfl)
theorem dX7_wholeBy_2 : decode cX7_wholeBy 2 = .ok (.iconst 0, 1) := dk_3 (dk_at dksX7_wholeBy_0 2 rfl rfl)
theorem dX7_wholeBy_3 : decode cX7_wholeBy 3 = .ok (.istore_n 3, 1) := dk_62 (dk_at dksX7_wholeBy_0 3 rfl rfl)
theorem dX7_wholeBy_4 : decode cX7_wholeBy 4 = .ok (.iload_n 3, 1) := dk_29 (dk_at dksX7_wholeBy_0 4 rfl rfl)
theorem dX7_wholeBy_5 : decode cX7_wholeBy 5 = .ok (.aload_n 0, 1) := dk_42 (dk_at dksX7_wholeBy_0 5 rfl rfl)
theorem dX7_wholeBy_6 : decode cX7_wholeBy 6 = .ok (.getfield 13, 3) := dk_180 0 13 (dk_at dksX7_wholeBy_0 6 rfl rfl)
theorem dX7_wholeBy_9 : decode cX7_wholeBy 9 = .ok (.iconst 0, 1) := dk_3 (dk_at dksX7_wholeBy_0 9 rfl rfl)
theorem dX7_wholeBy_10 : decode cX7_wholeBy 10 = .ok (.iaload, 1) := dk_46 (dk_at dksX7_wholeBy_0 10 rfl rfl)
theorem dX7_wholeBy_11 : decode cX7_wholeBy 11 = .ok (.if_icmp .ge 90, 3) := dk_162 0 90 (dk_at dksX7_wholeBy_0 11 rfl rfl)
theorem dX7_wholeBy_14 : decode cX7_wholeBy 14 = .ok (.iconst (-1), 1) := dk_2 (dk_at dksX7_wholeBy_0 14 rfl rfl)
theorem dX7_wholeBy_15 : decode cX7_wholeBy 15 = .ok (.istore 4, 2) := dk_54 4 (dk_at dksX7_wholeBy_0 15 rfl rfl)
theorem dX7_wholeBy_17 : decode cX7_wholeBy 17 = .ok (.iconst 0, 1) := dk_3 (dk_at dksX7_wholeBy_0 17 rfl rfl)
theorem dX7_wholeBy_18 : decode cX7_wholeBy 18 = .ok (.istore 5, 2) := dk_54 5 (dk_at dksX7_wholeBy_0 18 rfl rfl)
theorem dX7_wholeBy_20 : decode cX7_wholeBy 20 = .ok (.iconst 0, 1) := dk_3 (dk_at dksX7_wholeBy_0 20 rfl rfl)
theorem dX7_wholeBy_21 : decode cX7_wholeBy 21 = .ok (.istore 6, 2) := dk_54 6 (dk_at dksX7_wholeBy_0 21 rfl rfl)
theorem dX7_wholeBy_23 : decode cX7_wholeBy 23 = .ok (.iload 6, 2) := dk_21 6 (dk_at dksX7_wholeBy_1 0 rfl rfl)
theorem dX7_wholeBy_25 : decode cX7_wholeBy 25 = .ok (.aload_n 0, 1) := dk_42 (dk_at dksX7_wholeBy_1 2 rfl rfl)
theorem dX7_wholeBy_26 : decode cX7_wholeBy 26 = .ok (.getfield 23, 3) := dk_180 0 23 (dk_at dksX7_wholeBy_1 3 rfl rfl)
theorem dX7_wholeBy_29 : decode cX7_wholeBy 29 = .ok (.iload_n 3, 1) := dk_29 (dk_at dksX7_wholeBy_1 6 rfl rfl)
theorem dX7_wholeBy_30 : decode cX7_wholeBy 30 = .ok (.iaload, 1) := dk_46 (dk_at dksX7_wholeBy_1 7 rfl rfl)
theorem dX7_wholeBy_31 : decode cX7_wholeBy 31 = .ok (.if_icmp .ge 64, 3) := dk_162 0 64 (dk_at dksX7_wholeBy_1 8 rfl rfl)
theorem dX7_wholeBy_34 : decode cX7_wholeBy 34 = .ok (.aload_n 0, 1) := dk_42 (dk_at dksX7_wholeBy_1 11 rfl rfl)
theorem dX7_wholeBy_35 : decode cX7_wholeBy 35 = .ok (.iload_n 3, 1) := dk_29 (dk_at dksX7_wholeBy_1 12 rfl rfl)
theorem dX7_wholeBy_36 : decode cX7_wholeBy 36 = .ok (.iload 6, 2) := dk_21 6 (dk_at dksX7_wholeBy_1 13 rfl rfl)
theorem dX7_wholeBy_38 : decode cX7_wholeBy 38 = .ok (.iload_n 1, 1) := dk_27 (dk_at dksX7_wholeBy_1 15 rfl rfl)
theorem dX7_wholeBy_39 : decode cX7_wholeBy 39 = .ok (.invokevirtual 363, 3) := dk_182 1 107 (dk_at dksX7_wholeBy_1 16 rfl rfl)
theorem dX7_wholeBy_42 : decode cX7_wholeBy 42 = .ok (.istore 7, 2) := dk_54 7 (dk_at dksX7_wholeBy_1 19 rfl rfl)
theorem dX7_wholeBy_44 : decode cX7_wholeBy 44 = .ok (.iload 7, 2) := dk_21 7 (dk_at dksX7_wholeBy_1 21 rfl rfl)
theorem dX7_wholeBy_46 : decode cX7_wholeBy 46 = .ok (.iload 4, 2) := dk_21 4 (dk_at dksX7_wholeBy_2 0 rfl rfl)
theorem dX7_wholeBy_48 : decode cX7_wholeBy 48 = .ok (.if_icmp .ne 10, 3) := dk_160 0 10 (dk_at dksX7_wholeBy_2 2 rfl rfl)
theorem dX7_wholeBy_51 : decode cX7_wholeBy 51 = .ok (.iload 5, 2) := dk_21 5 (dk_at dksX7_wholeBy_2 5 rfl rfl)
theorem dX7_wholeBy_53 : decode cX7_wholeBy 53 = .ok (.iconst 1, 1) := dk_4 (dk_at dksX7_wholeBy_2 7 rfl rfl)
theorem dX7_wholeBy_54 : decode cX7_wholeBy 54 = .ok (.iadd, 1) := dk_96 (dk_at dksX7_wholeBy_2 8 rfl rfl)
theorem dX7_wholeBy_55 : decode cX7_wholeBy 55 = .ok (.goto 4, 3) := dk_167 0 4 (dk_at dksX7_wholeBy_2 9 rfl rfl)
theorem dX7_wholeBy_58 : decode cX7_wholeBy 58 = .ok (.iconst 1, 1) := dk_4 (dk_at dksX7_wholeBy_2 12 rfl rfl)
theorem dX7_wholeBy_59 : decode cX7_wholeBy 59 = .ok (.istore 5, 2) := dk_54 5 (dk_at dksX7_wholeBy_2 13 rfl rfl)
theorem dX7_wholeBy_61 : decode cX7_wholeBy 61 = .ok (.iload 7, 2) := dk_21 7 (dk_at dksX7_wholeBy_2 15 rfl rfl)
theorem dX7_wholeBy_63 : decode cX7_wholeBy 63 = .ok (.istore 4, 2) := dk_54 4 (dk_at dksX7_wholeBy_2 17 rfl rfl)
theorem dX7_wholeBy_65 : decode cX7_wholeBy 65 = .ok (.iload 7, 2) := dk_21 7 (dk_at dksX7_wholeBy_2 19 rfl rfl)
theorem dX7_wholeBy_67 : decode cX7_wholeBy 67 = .ok (.ifCond .lt 22, 3) := dk_155 0 22 (dk_at dksX7_wholeBy_2 21 rfl rfl)
theorem dX7_wholeBy_70 : decode cX7_wholeBy 70 = .ok (.iload 5, 2) := dk_21 5 (dk_at dksX7_wholeBy_3 0 rfl rfl)
theorem dX7_wholeBy_72 : decode cX7_wholeBy 72 = .ok (.aload_n 0, 1) := dk_42 (dk_at dksX7_wholeBy_3 2 rfl rfl)
theorem dX7_wholeBy_73 : decode cX7_wholeBy 73 = .ok (.getfield 38, 3) := dk_180 0 38 (dk_at dksX7_wholeBy_3 3 rfl rfl)
theorem dX7_wholeBy_76 : decode cX7_wholeBy 76 = .ok (.iload 7, 2) := dk_21 7 (dk_at dksX7_wholeBy_3 6 rfl rfl)
theorem dX7_wholeBy_78 : decode cX7_wholeBy 78 = .ok (.iaload, 1) := dk_46 (dk_at dksX7_wholeBy_3 8 rfl rfl)
theorem dX7_wholeBy_79 : decode cX7_wholeBy 79 = .ok (.if_icmp .lt 10, 3) := dk_161 0 10 (dk_at dksX7_wholeBy_3 9 rfl rfl)
theorem dX7_wholeBy_82 : decode cX7_wholeBy 82 = .ok (.iload_n 2, 1) := dk_28 (dk_at dksX7_wholeBy_3 12 rfl rfl)
theorem dX7_wholeBy_83 : decode cX7_wholeBy 83 = .ok (.iconst 1, 1) := dk_4 (dk_at dksX7_wholeBy_3 13 rfl rfl)
theorem dX7_wholeBy_84 : decode cX7_wholeBy 84 = .ok (.iload 7, 2) := dk_21 7 (dk_at dksX7_wholeBy_3 14 rfl rfl)
theorem dX7_wholeBy_86 : decode cX7_wholeBy 86 = .ok (.ishl, 1) := dk_120 (dk_at dksX7_wholeBy_3 16 rfl rfl)
theorem dX7_wholeBy_87 : decode cX7_wholeBy 87 = .ok (.ior, 1) := dk_128 (dk_at dksX7_wholeBy_3 17 rfl rfl)
theorem dX7_wholeBy_88 : decode cX7_wholeBy 88 = .ok (.istore_n 2, 1) := dk_61 (dk_at dksX7_wholeBy_3 18 rfl rfl)
theorem dX7_wholeBy_89 : decode cX7_wholeBy 89 = .ok (.iinc 6 1, 3) := dk_132 6 1 (dk_at dksX7_wholeBy_3 19 rfl rfl)
theorem dX7_wholeBy_92 : decode cX7_wholeBy 92 = .ok (.goto (-69), 3) := dk_167 255 187 (dk_at dksX7_wholeBy_4 0 rfl rfl)
theorem dX7_wholeBy_95 : decode cX7_wholeBy 95 = .ok (.iinc 3 1, 3) := dk_132 3 1 (dk_at dksX7_wholeBy_4 3 rfl rfl)
theorem dX7_wholeBy_98 : decode cX7_wholeBy 98 = .ok (.goto (-94), 3) := dk_167 255 162 (dk_at dksX7_wholeBy_4 6 rfl rfl)
theorem dX7_wholeBy_101 : decode cX7_wholeBy 101 = .ok (.iload_n 2, 1) := dk_28 (dk_at dksX7_wholeBy_4 9 rfl rfl)
theorem dX7_wholeBy_102 : decode cX7_wholeBy 102 = .ok (.ireturn, 1) := dk_172 (dk_at dksX7_wholeBy_4 10 rfl rfl)
abbrev cX7_wholeNow : ByteArray := prog_32_method_52_code
abbrev yX7_wholeNow : MethodName := { cls := "WornSkinModel", name := "wholeNow", desc := "()I" }
def dkwX7_wholeNow_0 : List UInt8 := [42, 42, 42, 180, 0, 120, 3, 46, 182, 1, 111, 182, 1, 114, 172]
abbrev dktX7_wholeNow_0 : List UInt8 := dkwX7_wholeNow_0 ++ []
theorem dksX7_wholeNow_0 : cX7_wholeNow.data.toList.drop 0 = dktX7_wholeNow_0 := by decide +kernel
theorem dX7_wholeNow_0 : decode cX7_wholeNow 0 = .ok (.aload_n 0, 1) := dk_42 (dk_at dksX7_wholeNow_0 0 rfl rfl)
theorem dX7_wholeNow_1 : decode cX7_wholeNow 1 = .ok (.aload_n 0, 1) := dk_42 (dk_at dksX7_wholeNow_0 1 rfl rfl)
theorem dX7_wholeNow_2 : decode cX7_wholeNow 2 = .ok (.aload_n 0, 1) := dk_42 (dk_at dksX7_wholeNow_0 2 rfl rfl)
theorem dX7_wholeNow_3 : decode cX7_wholeNow 3 = .ok (.getfield 120, 3) := dk_180 0 120 (dk_at dksX7_wholeNow_0 3 rfl rfl)
theorem dX7_wholeNow_6 : decode cX7_wholeNow 6 = .ok (.iconst 0, 1) := dk_3 (dk_at dksX7_wholeNow_0 6 rfl rfl)
theorem dX7_wholeNow_7 : decode cX7_wholeNow 7 = .ok (.iaload, 1) := dk_46 (dk_at dksX7_wholeNow_0 7 rfl rfl)
theorem dX7_wholeNow_8 : decode cX7_wholeNow 8 = .ok (.invokevirtual 367, 3) := dk_182 1 111 (dk_at dksX7_wholeNow_0 8 rfl rfl)
theorem dX7_wholeNow_11 : decode cX7_wholeNow 11 = .ok (.invokevirtual 370, 3) := dk_182 1 114 (dk_at dksX7_wholeNow_0 11 rfl rfl)
theorem dX7_wholeNow_14 : decode cX7_wholeNow 14 = .ok (.ireturn, 1) := dk_172 (dk_at dksX7_wholeNow_0 14 rfl rfl)
abbrev cX7_bits : ByteArray := prog_32_method_4_code
abbrev yX7_bits : MethodName := { cls := "WornSkinModel", name := "bits", desc := "(I)I" }
def dkwX7_bits_1 : List UInt8 := [27, 172]
abbrev dktX7_bits_1 : List UInt8 := dkwX7_bits_1 ++ []
def dkwX7_bits_0 : List UInt8 := [3, 60, 3, 61, 28, 16, 6, 162, 0, 17, 27, 26, 28, 122, 4, 126, 96, 60, 132, 2, 1, 167, 255, 239]
abbrev dktX7_bits_0 : List UInt8 := dkwX7_bits_0 ++ dktX7_bits_1
theorem dksX7_bits_0 : cX7_bits.data.toList.drop 0 = dktX7_bits_0 := by decide +kernel
theorem dksX7_bits_1 : cX7_bits.data.toList.drop 24 = dktX7_bits_1 := dk_seg dksX7_bits_0 24 rfl rfl
theorem dX7_bits_0 : decode cX7_bits 0 = .ok (.iconst 0, 1) := dk_3 (dk_at dksX7_bits_0 0 rfl rfl)
theorem dX7_bits_1 : decode cX7_bits 1 = .ok (.istore_n 1, 1) := dk_60 (dk_at dksX7_bits_0 1 rfl rfl)
theorem dX7_bits_2 : decode cX7_bits 2 = .ok (.iconst 0, 1) := dk_3 (dk_at dksX7_bits_0 2 rfl rfl)
theorem dX7_bits_3 : decode cX7_bits 3 = .ok (.istore_n 2, 1) := dk_61 (dk_at dksX7_bits_0 3 rfl rfl)
theorem dX7_bits_4 : decode cX7_bits 4 = .ok (.iload_n 2, 1) := dk_28 (dk_at dksX7_bits_0 4 rfl rfl)
theorem dX7_bits_5 : decode cX7_bits 5 = .ok (.bipush 6, 2) := dk_16 6 (dk_at dksX7_bits_0 5 rfl rfl)
theorem dX7_bits_7 : decode cX7_bits 7 = .ok (.if_icmp .ge 17, 3) := dk_162 0 17 (dk_at dksX7_bits_0 7 rfl rfl)
theorem dX7_bits_10 : decode cX7_bits 10 = .ok (.iload_n 1, 1) := dk_27 (dk_at dksX7_bits_0 10 rfl rfl)
theorem dX7_bits_11 : decode cX7_bits 11 = .ok (.iload_n 0, 1) := dk_26 (dk_at dksX7_bits_0 11 rfl rfl)
theorem dX7_bits_12 : decode cX7_bits 12 = .ok (.iload_n 2, 1) := dk_28 (dk_at dksX7_bits_0 12 rfl rfl)
theorem dX7_bits_13 : decode cX7_bits 13 = .ok (.ishr, 1) := dk_122 (dk_at dksX7_bits_0 13 rfl rfl)
theorem dX7_bits_14 : decode cX7_bits 14 = .ok (.iconst 1, 1) := dk_4 (dk_at dksX7_bits_0 14 rfl rfl)
theorem dX7_bits_15 : decode cX7_bits 15 = .ok (.iand, 1) := dk_126 (dk_at dksX7_bits_0 15 rfl rfl)
theorem dX7_bits_16 : decode cX7_bits 16 = .ok (.iadd, 1) := dk_96 (dk_at dksX7_bits_0 16 rfl rfl)
theorem dX7_bits_17 : decode cX7_bits 17 = .ok (.istore_n 1, 1) := dk_60 (dk_at dksX7_bits_0 17 rfl rfl)
theorem dX7_bits_18 : decode cX7_bits 18 = .ok (.iinc 2 1, 3) := dk_132 2 1 (dk_at dksX7_bits_0 18 rfl rfl)
theorem dX7_bits_21 : decode cX7_bits 21 = .ok (.goto (-17), 3) := dk_167 255 239 (dk_at dksX7_bits_0 21 rfl rfl)
theorem dX7_bits_24 : decode cX7_bits 24 = .ok (.iload_n 1, 1) := dk_27 (dk_at dksX7_bits_1 0 rfl rfl)
theorem dX7_bits_25 : decode cX7_bits 25 = .ok (.ireturn, 1) := dk_172 (dk_at dksX7_bits_1 1 rfl rfl)
abbrev cX7_madeOf : ByteArray := prog_32_method_59_code
abbrev yX7_madeOf : MethodName := { cls := "WornSkinModel", name := "madeOf", desc := "(I)I" }
def dkwX7_madeOf_1 : List UInt8 := [96, 61, 132, 3, 1, 167, 255, 231, 28, 172]
abbrev dktX7_madeOf_1 : List UInt8 := dkwX7_madeOf_1 ++ []
def dkwX7_madeOf_0 : List UInt8 := [3, 61, 3, 62, 29, 42, 180, 0, 13, 3, 46, 162, 0, 21, 28, 42, 29, 27, 182, 1, 125, 184, 1, 128]
abbrev dktX7_madeOf_0 : List UInt8 := dkwX7_madeOf_0 ++ dktX7_madeOf_1
theorem dksX7_madeOf_0 : cX7_madeOf.data.toList.drop 0 = dktX7_madeOf_0 := by decide +kernel
theorem dksX7_madeOf_1 : cX7_madeOf.data.toList.drop 24 = dktX7_madeOf_1 := dk_seg dksX7_madeOf_0 24 rfl rfl
theorem dX7_madeOf_0 : decode cX7_madeOf 0 = .ok (.iconst 0, 1) := dk_3 (dk_at dksX7_madeOf_0 0 rfl rfl)
theorem dX7_madeOf_1 : decode cX7_madeOf 1 = .ok (.istore_n 2, 1) := dk_61 (dk_at dksX7_madeOf_0 1 rfl rfl)
theorem dX7_madeOf_2 : decode cX7_madeOf 2 = .ok (.iconst 0, 1) := dk_3 (dk_at dksX7_madeOf_0 2 rfl rfl)
theorem dX7_madeOf_3 : decode cX7_madeOf 3 = .ok (.istore_n 3, 1) := dk_62 (dk_at dksX7_madeOf_0 3 rfl rfl)
theorem dX7_madeOf_4 : decode cX7_madeOf 4 = .ok (.iload_n 3, 1) := dk_29 (dk_at dksX7_madeOf_0 4 rfl rfl)
theorem dX7_madeOf_5 : decode cX7_madeOf 5 = .ok (.aload_n 0, 1) := dk_42 (dk_at dksX7_madeOf_0 5 rfl rfl)
theorem dX7_madeOf_6 : decode cX7_madeOf 6 = .ok (.getfield 13, 3) := dk_180 0 13 (dk_at dksX7_madeOf_0 6 rfl rfl)
theorem dX7_madeOf_9 : decode cX7_madeOf 9 = .ok (.iconst 0, 1) := dk_3 (dk_at dksX7_madeOf_0 9 rfl rfl)
theorem dX7_madeOf_10 : decode cX7_madeOf 10 = .ok (.iaload, 1) := dk_46 (dk_at dksX7_madeOf_0 10 rfl rfl)
theorem dX7_madeOf_11 : decode cX7_madeOf 11 = .ok (.if_icmp .ge 21, 3) := dk_162 0 21 (dk_at dksX7_madeOf_0 11 rfl rfl)
theorem dX7_madeOf_14 : decode cX7_madeOf 14 = .ok (.iload_n 2, 1) := dk_28 (dk_at dksX7_madeOf_0 14 rfl rfl)
theorem dX7_madeOf_15 : decode cX7_madeOf 15 = .ok (.aload_n 0, 1) := dk_42 (dk_at dksX7_madeOf_0 15 rfl rfl)
theorem dX7_madeOf_16 : decode cX7_madeOf 16 = .ok (.iload_n 3, 1) := dk_29 (dk_at dksX7_madeOf_0 16 rfl rfl)
theorem dX7_madeOf_17 : decode cX7_madeOf 17 = .ok (.iload_n 1, 1) := dk_27 (dk_at dksX7_madeOf_0 17 rfl rfl)
theorem dX7_madeOf_18 : decode cX7_madeOf 18 = .ok (.invokevirtual 381, 3) := dk_182 1 125 (dk_at dksX7_madeOf_0 18 rfl rfl)
theorem dX7_madeOf_21 : decode cX7_madeOf 21 = .ok (.invokestatic 384, 3) := dk_184 1 128 (dk_at dksX7_madeOf_0 21 rfl rfl)
theorem dX7_madeOf_24 : decode cX7_madeOf 24 = .ok (.iadd, 1) := dk_96 (dk_at dksX7_madeOf_1 0 rfl rfl)
theorem dX7_madeOf_25 : decode cX7_madeOf 25 = .ok (.istore_n 2, 1) := dk_61 (dk_at dksX7_madeOf_1 1 rfl rfl)
theorem dX7_madeOf_26 : decode cX7_madeOf 26 = .ok (.iinc 3 1, 3) := dk_132 3 1 (dk_at dksX7_madeOf_1 2 rfl rfl)
theorem dX7_madeOf_29 : decode cX7_madeOf 29 = .ok (.goto (-25), 3) := dk_167 255 231 (dk_at dksX7_madeOf_1 5 rfl rfl)
theorem dX7_madeOf_32 : decode cX7_madeOf 32 = .ok (.iload_n 2, 1) := dk_28 (dk_at dksX7_madeOf_1 8 rfl rfl)
theorem dX7_madeOf_33 : decode cX7_madeOf 33 = .ok (.ireturn, 1) := dk_172 (dk_at dksX7_madeOf_1 9 rfl rfl)
abbrev cX7_text : ByteArray := prog_32_method_61_code
abbrev yX7_text : MethodName := { cls := "WornSkinModel", name := "text", desc := "(II)I" }
def dkwX7_text_3 : List UInt8 := [182, 1, 134, 27, 122, 4, 126, 167, 0, 8, 42, 27, 182, 1, 137, 172]
abbrev dktX7_text_3 : List UInt8 := dkwX7_text_3 ++ []
def dkwX7_text_2 : List UInt8 := [42, 180, 0, 35, 27, 46, 167, 0, 9, 42, 180, 0, 38, 27, 46, 172, 28, 6, 160, 0, 14, 42]
abbrev dktX7_text_2 : List UInt8 := dkwX7_text_2 ++ dktX7_text_3
def dkwX7_text_1 : List UInt8 := [172, 28, 6, 162, 0, 37, 28, 154, 0, 12, 42, 180, 0, 32, 27, 46, 167, 0, 23, 28, 4, 160, 0, 12]
abbrev dktX7_text_1 : List UInt8 := dkwX7_text_1 ++ dktX7_text_2
def dkwX7_text_0 : List UInt8 := [42, 3, 181, 0, 144, 42, 27, 182, 1, 131, 153, 0, 12, 28, 3, 7, 184, 1, 9, 154, 0, 6, 16, 254]
abbrev dktX7_text_0 : List UInt8 := dkwX7_text_0 ++ dktX7_text_1
theorem dksX7_text_0 : cX7_text.data.toList.drop 0 = dktX7_text_0 := by decide +kernel
theorem dksX7_text_1 : cX7_text.data.toList.drop 24 = dktX7_text_1 := dk_seg dksX7_text_0 24 rfl rfl
theorem dksX7_text_2 : cX7_text.data.toList.drop 48 = dktX7_text_2 := dk_seg dksX7_text_1 24 rfl rfl
theorem dksX7_text_3 : cX7_text.data.toList.drop 70 = dktX7_text_3 := dk_seg dksX7_text_2 22 rfl rfl
theorem dX7_text_0 : decode cX7_text 0 = .ok (.aload_n 0, 1) := dk_42 (dk_at dksX7_text_0 0 rfl rfl)
theorem dX7_text_1 : decode cX7_text 1 = .ok (.iconst 0, 1) := dk_3 (dk_at dksX7_text_0 1 rfl rfl)
theorem dX7_text_2 : decode cX7_text 2 = .ok (.putfield 144, 3) := dk_181 0 144 (dk_at dksX7_text_0 2 rfl rfl)
theorem dX7_text_5 : decode cX7_text 5 = .ok (.aload_n 0, 1) := dk_42 (dk_at dksX7_text_0 5 rfl rfl)
theorem dX7_text_6 : decode cX7_text 6 = .ok (.iload_n 1, 1) := dk_27 (dk_at dksX7_text_0 6 rfl rfl)
theorem dX7_text_7 : decode cX7_text 7 = .ok (.invokevirtual 387, 3) := dk_182 1 131 (dk_at dksX7_text_0 7 rfl rfl)
theorem dX7_text_10 : decode cX7_text 10 = .ok (.ifCond .eq 12, 3) := dk_153 0 12 (dk_at dksX7_text_0 10 rfl rfl)
theorem dX7_text_13 : decode cX7_text 13 = .ok (.iload_n 2, 1) := dk_28 (dk_at dksX7_text_0 13 rfl rfl)
theorem dX7_text_14 : decode cX7_text 14 = .ok (.iconst 0, 1) := dk_3 (dk_at dksX7_text_0 14 rfl rfl)
theorem dX7_text_15 : decode cX7_text 15 = .ok (.iconst 4, 1) := dk_7 (dk_at dksX7_text_0 15 rfl rfl)
theorem dX7_text_16 : decode cX7_text 16 = .ok (.invokestatic 265, 3) := dk_184 1 9 (dk_at dksX7_text_0 16 rfl rfl)
theorem dX7_text_19 : decode cX7_text 19 = .ok (.ifCond .ne 6, 3) := dk_154 0 6 (dk_at dksX7_text_0 19 rfl rfl)
theorem dX7_text_22 : decode cX7_text 22 = .ok (.bipush (-2), 2) := dk_16 254 (dk_at dksX7_text_0 22 rfl rfl)
theorem dX7_text_24 : decode cX7_text 24 = .ok (.ireturn, 1) := dk_172 (dk_at dksX7_text_1 0 rfl rfl)
theorem dX7_text_25 : decode cX7_text 25 = .ok (.iload_n 2, 1) := dk_28 (dk_at dksX7_text_1 1 rfl rfl)
theorem dX7_text_26 : decode cX7_text 26 = .ok (.iconst 3, 1) := dk_6 (dk_at dksX7_text_1 2 rfl rfl)
theorem dX7_text_27 : decode cX7_text 27 = .ok (.if_icmp .ge 37, 3) := dk_162 0 37 (dk_at dksX7_text_1 3 rfl rfl)
theorem dX7_text_30 : decode cX7_text 30 = .ok (.iload_n 2, 1) := dk_28 (dk_at dksX7_text_1 6 rfl rfl)
theorem dX7_text_31 : decode cX7_text 31 = .ok (.ifCond .ne 12, 3) := dk_154 0 12 (dk_at dksX7_text_1 7 rfl rfl)
theorem dX7_text_34 : decode cX7_text 34 = .ok (.aload_n 0, 1) := dk_42 (dk_at dksX7_text_1 10 rfl rfl)
theorem dX7_text_35 : decode cX7_text 35 = .ok (.getfield 32, 3) := dk_180 0 32 (dk_at dksX7_text_1 11 rfl rfl)
theorem dX7_text_38 : decode cX7_text 38 = .ok (.iload_n 1, 1) := dk_27 (dk_at dksX7_text_1 14 rfl rfl)
theorem dX7_text_39 : decode cX7_text 39 = .ok (.iaload, 1) := dk_46 (dk_at dksX7_text_1 15 rfl rfl)
theorem dX7_text_40 : decode cX7_text 40 = .ok (.goto 23, 3) := dk_167 0 23 (dk_at dksX7_text_1 16 rfl rfl)
theorem dX7_text_43 : decode cX7_text 43 = .ok (.iload_n 2, 1) := dk_28 (dk_at dksX7_text_1 19 rfl rfl)
theorem dX7_text_44 : decode cX7_text 44 = .ok (.iconst 1, 1) := dk_4 (dk_at dksX7_text_1 20 rfl rfl)
theorem dX7_text_45 : decode cX7_text 45 = .ok (.if_icmp .ne 12, 3) := dk_160 0 12 (dk_at dksX7_text_1 21 rfl rfl)
theorem dX7_text_48 : decode cX7_text 48 = .ok (.aload_n 0, 1) := dk_42 (dk_at dksX7_text_2 0 rfl rfl)
theorem dX7_text_49 : decode cX7_text 49 = .ok (.getfield 35, 3) := dk_180 0 35 (dk_at dksX7_text_2 1 rfl rfl)
theorem dX7_text_52 : decode cX7_text 52 = .ok (.iload_n 1, 1) := dk_27 (dk_at dksX7_text_2 4 rfl rfl)
theorem dX7_text_53 : decode cX7_text 53 = .ok (.iaload, 1) := dk_46 (dk_at dksX7_text_2 5 rfl rfl)
theorem dX7_text_54 : decode cX7_text 54 = .ok (.goto 9, 3) := dk_167 0 9 (dk_at dksX7_text_2 6 rfl rfl)
theorem dX7_text_57 : decode cX7_text 57 = .ok (.aload_n 0, 1) := dk_42 (dk_at dksX7_text_2 9 rfl rfl)
theorem dX7_text_58 : decode cX7_text 58 = .ok (.getfield 38, 3) := dk_180 0 38 (dk_at dksX7_text_2 10 rfl rfl)
theorem dX7_text_61 : decode cX7_text 61 = .ok (.iload_n 1, 1) := dk_27 (dk_at dksX7_text_2 13 rfl rfl)
theorem dX7_text_62 : decode cX7_text 62 = .ok (.iaload, 1) := dk_46 (dk_at dksX7_text_2 14 rfl rfl)
theorem dX7_text_63 : decode cX7_text 63 = .ok (.ireturn, 1) := dk_172 (dk_at dksX7_text_2 15 rfl rfl)
theorem dX7_text_64 : decode cX7_text 64 = .ok (.iload_n 2, 1) := dk_28 (dk_at dksX7_text_2 16 rfl rfl)
theorem dX7_text_65 : decode cX7_text 65 = .ok (.iconst 3, 1) := dk_6 (dk_at dksX7_text_2 17 rfl rfl)
theorem dX7_text_66 : decode cX7_text 66 = .ok (.if_icmp .ne 14, 3) := dk_160 0 14 (dk_at dksX7_text_2 18 rfl rfl)
theorem dX7_text_69 : decode cX7_text 69 = .ok (.aload_n 0, 1) := dk_42 (dk_at dksX7_text_2 21 rfl rfl)
theorem dX7_text_70 : decode cX7_text 70 = .ok (.invokevirtual 390, 3) := dk_182 1 134 (dk_at dksX7_text_3 0 rfl rfl)
theorem dX7_text_73 : decode cX7_text 73 = .ok (.iload_n 1, 1) := dk_27 (dk_at dksX7_text_3 3 rfl rfl)
theorem dX7_text_74 : decode cX7_text 74 = .ok (.ishr, 1) := dk_122 (dk_at dksX7_text_3 4 rfl rfl)
theorem dX7_text_75 : decode cX7_text 75 = .ok (.iconst 1, 1) := dk_4 (dk_at dksX7_text_3 5 rfl rfl)
theorem dX7_text_76 : decode cX7_text 76 = .ok (.iand, 1) := dk_126 (dk_at dksX7_text_3 6 rfl rfl)
theorem dX7_text_77 : decode cX7_text 77 = .ok (.goto 8, 3) := dk_167 0 8 (dk_at dksX7_text_3 7 rfl rfl)
theorem dX7_text_80 : decode cX7_text 80 = .ok (.aload_n 0, 1) := dk_42 (dk_at dksX7_text_3 10 rfl rfl)
theorem dX7_text_81 : decode cX7_text 81 = .ok (.iload_n 1, 1) := dk_27 (dk_at dksX7_text_3 11 rfl rfl)
theorem dX7_text_82 : decode cX7_text 82 = .ok (.invokevirtual 393, 3) := dk_182 1 137 (dk_at dksX7_text_3 12 rfl rfl)
theorem dX7_text_85 : decode cX7_text 85 = .ok (.ireturn, 1) := dk_172 (dk_at dksX7_text_3 15 rfl rfl)
abbrev cX7_isLine : ByteArray := prog_32_method_46_code
abbrev yX7_isLine : MethodName := { cls := "WornSkinModel", name := "isLine", desc := "(II)Z" }
def dkwX7_isLine_1 : List UInt8 := [167, 0, 4, 3, 172]
abbrev dktX7_isLine_1 : List UInt8 := dkwX7_isLine_1 ++ []
def dkwX7_isLine_0 : List UInt8 := [42, 27, 182, 1, 97, 153, 0, 21, 28, 155, 0, 17, 28, 42, 180, 0, 23, 27, 46, 162, 0, 7, 4]
abbrev dktX7_isLine_0 : List UInt8 := dkwX7_isLine_0 ++ dktX7_isLine_1
theorem dksX7_isLine_0 : cX7_isLine.data.toList.drop 0 = dktX7_isLine_0 := by decide +kernel
theorem dksX7_isLine_1 : cX7_isLine.data.toList.drop 23 = dktX7_isLine_1 := dk_seg dksX7_isLine_0 23 rfl rfl
theorem dX7_isLine_0 : decode cX7_isLine 0 = .ok (.aload_n 0, 1) := dk_42 (dk_at dksX7_isLine_0 0 rfl rfl)
theorem dX7_isLine_1 : decode cX7_isLine 1 = .ok (.iload_n 1, 1) := dk_27 (dk_at dksX7_isLine_0 1 rfl rfl)
theorem dX7_isLine_2 : decode cX7_isLine 2 = .ok (.invokevirtual 353, 3) := dk_182 1 97 (dk_at dksX7_isLine_0 2 rfl rfl)
theorem dX7_isLine_5 : decode cX7_isLine 5 = .ok (.ifCond .eq 21, 3) := dk_153 0 21 (dk_at dksX7_isLine_0 5 rfl rfl)
theorem dX7_isLine_8 : decode cX7_isLine 8 = .ok (.iload_n 2, 1) := dk_28 (dk_at dksX7_isLine_0 8 rfl rfl)
theorem dX7_isLine_9 : decode cX7_isLine 9 = .ok (.ifCond .lt 17, 3) := dk_155 0 17 (dk_at dksX7_isLine_0 9 rfl rfl)
theorem dX7_isLine_12 : decode cX7_isLine 12 = .ok (.iload_n 2, 1) := dk_28 (dk_at dksX7_isLine_0 12 rfl rfl)
theorem dX7_isLine_13 : decode cX7_isLine 13 = .ok (.aload_n 0, 1) := dk_42 (dk_at dksX7_isLine_0 13 rfl rfl)
theorem dX7_isLine_14 : decode cX7_isLine 14 = .ok (.getfield 23, 3) := dk_180 0 23 (dk_at dksX7_isLine_0 14 rfl rfl)
theorem dX7_isLine_17 : decode cX7_isLine 17 = .ok (.iload_n 1, 1) := dk_27 (dk_at dksX7_isLine_0 17 rfl rfl)
theorem dX7_isLine_18 : decode cX7_isLine 18 = .ok (.iaload, 1) := dk_46 (dk_at dksX7_isLine_0 18 rfl rfl)
theorem dX7_isLine_19 : decode cX7_isLine 19 = .ok (.if_icmp .ge 7, 3) := dk_162 0 7 (dk_at dksX7_isLine_0 19 rfl rfl)
theorem dX7_isLine_22 : decode cX7_isLine 22 = .ok (.iconst 1, 1) := dk_4 (dk_at dksX7_isLine_0 22 rfl rfl)
theorem dX7_isLine_23 : decode cX7_isLine 23 = .ok (.goto 4, 3) := dk_167 0 4 (dk_at dksX7_isLine_1 0 rfl rfl)
theorem dX7_isLine_26 : decode cX7_isLine 26 = .ok (.iconst 0, 1) := dk_3 (dk_at dksX7_isLine_1 3 rfl rfl)
theorem dX7_isLine_27 : decode cX7_isLine 27 = .ok (.ireturn, 1) := dk_172 (dk_at dksX7_isLine_1 4 rfl rfl)
abbrev cX7_deepOf : ByteArray := prog_32_method_47_code
abbrev yX7_deepOf : MethodName := { cls := "WornSkinModel", name := "deepOf", desc := "(I)I" }
def dkwX7_deepOf_0 : List UInt8 := [3, 60, 26, 61, 28, 158, 0, 14, 132, 1, 1, 28, 16, 7, 108, 61, 167, 255, 244, 27, 172]
abbrev dktX7_deepOf_0 : List UInt8 := dkwX7_deepOf_0 ++ []
theorem dksX7_deepOf_0 : cX7_deepOf.data.toList.drop 0 = dktX7_deepOf_0 := by decide +kernel
theorem dX7_deepOf_0 : decode cX7_deepOf 0 = .ok (.iconst 0, 1) := dk_3 (dk_at dksX7_deepOf_0 0 rfl rfl)
theorem dX7_deepOf_1 : decode cX7_deepOf 1 = .ok (.istore_n 1, 1) := dk_60 (dk_at dksX7_deepOf_0 1 rfl rfl)
theorem dX7_deepOf_2 : decode cX7_deepOf 2 = .ok (.iload_n 0, 1) := dk_26 (dk_at dksX7_deepOf_0 2 rfl rfl)
theorem dX7_deepOf_3 : decode cX7_deepOf 3 = .ok (.istore_n 2, 1) := dk_61 (dk_at dksX7_deepOf_0 3 rfl rfl)
theorem dX7_deepOf_4 : decode cX7_deepOf 4 = .ok (.iload_n 2, 1) := dk_28 (dk_at dksX7_deepOf_0 4 rfl rfl)
theorem dX7_deepOf_5 : decode cX7_deepOf 5 = .ok (.ifCond .le 14, 3) := dk_158 0 14 (dk_at dksX7_deepOf_0 5 rfl rfl)
theorem dX7_deepOf_8 : decode cX7_deepOf 8 = .ok (.iinc 1 1, 3) := dk_132 1 1 (dk_at dksX7_deepOf_0 8 rfl rfl)
theorem dX7_deepOf_11 : decode cX7_deepOf 11 = .ok (.iload_n 2, 1) := dk_28 (dk_at dksX7_deepOf_0 11 rfl rfl)
theorem dX7_deepOf_12 : decode cX7_deepOf 12 = .ok (.bipush 7, 2) := dk_16 7 (dk_at dksX7_deepOf_0 12 rfl rfl)
theorem dX7_deepOf_14 : decode cX7_deepOf 14 = .ok (.idiv, 1) := dk_108 (dk_at dksX7_deepOf_0 14 rfl rfl)
theorem dX7_deepOf_15 : decode cX7_deepOf 15 = .ok (.istore_n 2, 1) := dk_61 (dk_at dksX7_deepOf_0 15 rfl rfl)
theorem dX7_deepOf_16 : decode cX7_deepOf 16 = .ok (.goto (-12), 3) := dk_167 255 244 (dk_at dksX7_deepOf_0 16 rfl rfl)
theorem dX7_deepOf_19 : decode cX7_deepOf 19 = .ok (.iload_n 1, 1) := dk_27 (dk_at dksX7_deepOf_0 19 rfl rfl)
theorem dX7_deepOf_20 : decode cX7_deepOf 20 = .ok (.ireturn, 1) := dk_172 (dk_at dksX7_deepOf_0 20 rfl rfl)
abbrev cX7_layers : ByteArray := prog_32_method_62_code
abbrev yX7_layers : MethodName := { cls := "WornSkinModel", name := "layers", desc := "(II)I" }
def dkwX7_layers_1 : List UInt8 := [96, 28, 96, 46, 184, 1, 143, 167, 0, 4, 2, 172]
abbrev dktX7_layers_1 : List UInt8 := dkwX7_layers_1 ++ []
def dkwX7_layers_0 : List UInt8 := [42, 3, 181, 0, 144, 42, 27, 28, 182, 1, 140, 153, 0, 23, 42, 180, 0, 120, 16, 7, 16, 6, 27, 104]
abbrev dktX7_layers_0 : List UInt8 := dkwX7_layers_0 ++ dktX7_layers_1
theorem dksX7_layers_0 : cX7_layers.data.toList.drop 0 = dktX7_layers_0 := by decide +kernel
theorem dksX7_layers_1 : cX7_layers.data.toList.drop 24 = dktX7_layers_1 := dk_seg dksX7_layers_0 24 rfl rfl
theorem dX7_layers_0 : decode cX7_layers 0 = .ok (.aload_n 0, 1) := dk_42 (dk_at dksX7_layers_0 0 rfl rfl)
theorem dX7_layers_1 : decode cX7_layers 1 = .ok (.iconst 0, 1) := dk_3 (dk_at dksX7_layers_0 1 rfl rfl)
theorem dX7_layers_2 : decode cX7_layers 2 = .ok (.putfield 144, 3) := dk_181 0 144 (dk_at dksX7_layers_0 2 rfl rfl)
theorem dX7_layers_5 : decode cX7_layers 5 = .ok (.aload_n 0, 1) := dk_42 (dk_at dksX7_layers_0 5 rfl rfl)
theorem dX7_layers_6 : decode cX7_layers 6 = .ok (.iload_n 1, 1) := dk_27 (dk_at dksX7_layers_0 6 rfl rfl)
theorem dX7_layers_7 : decode cX7_layers 7 = .ok (.iload_n 2, 1) := dk_28 (dk_at dksX7_layers_0 7 rfl rfl)
theorem dX7_layers_8 : decode cX7_layers 8 = .ok (.invokevirtual 396, 3) := dk_182 1 140 (dk_at dksX7_layers_0 8 rfl rfl)
theorem dX7_layers_11 : decode cX7_layers 11 = .ok (.ifCond .eq 23, 3) := dk_153 0 23 (dk_at dksX7_layers_0 11 rfl rfl)
theorem dX7_layers_14 : decode cX7_layers 14 = .ok (.aload_n 0, 1) := dk_42 (dk_at dksX7_layers_0 14 rfl rfl)
theorem dX7_layers_15 : decode cX7_layers 15 = .ok (.getfield 120, 3) := dk_180 0 120 (dk_at dksX7_layers_0 15 rfl rfl)
theorem dX7_layers_18 : decode cX7_layers 18 = .ok (.bipush 7, 2) := dk_16 7 (dk_at dksX7_layers_0 18 rfl rfl)
theorem dX7_layers_20 : decode cX7_layers 20 = .ok (.bipush 6, 2) := dk_16 6 (dk_at dksX7_layers_0 20 rfl rfl)
theorem dX7_layers_22 : decode cX7_layers 22 = .ok (.iload_n 1, 1) := dk_27 (dk_at dksX7_layers_0 22 rfl rfl)
theorem dX7_layers_23 : decode cX7_layers 23 = .ok (.imul, 1) := dk_104 (dk_at dksX7_layers_0 23 rfl rfl)
theorem dX7_layers_24 : decode cX7_layers 24 = .ok (.iadd, 1) := dk_96 (dk_at dksX7_layers_1 0 rfl rfl)
theorem dX7_layers_25 : decode cX7_layers 25 = .ok (.iload_n 2, 1) := dk_28 (dk_at dksX7_layers_1 1 rfl rfl)
theorem dX7_layers_26 : decode cX7_layers 26 = .ok (.iadd, 1) := dk_96 (dk_at dksX7_layers_1 2 rfl rfl)
theorem dX7_layers_27 : decode cX7_layers 27 = .ok (.iaload, 1) := dk_46 (dk_at dksX7_layers_1 3 rfl rfl)
theorem dX7_layers_28 : decode cX7_layers 28 = .ok (.invokestatic 399, 3) := dk_184 1 143 (dk_at dksX7_layers_1 4 rfl rfl)
theorem dX7_layers_31 : decode cX7_layers 31 = .ok (.goto 4, 3) := dk_167 0 4 (dk_at dksX7_layers_1 7 rfl rfl)
theorem dX7_layers_34 : decode cX7_layers 34 = .ok (.iconst (-1), 1) := dk_2 (dk_at dksX7_layers_1 10 rfl rfl)
theorem dX7_layers_35 : decode cX7_layers 35 = .ok (.ireturn, 1) := dk_172 (dk_at dksX7_layers_1 11 rfl rfl)
abbrev cX7_layerOf : ByteArray := prog_32_method_63_code
abbrev yX7_layerOf : MethodName := { cls := "WornSkinModel", name := "layerOf", desc := "(II)I" }
def dkwX7_layerOf_1 : List UInt8 := [167, 255, 243, 28, 16, 7, 112, 4, 100, 172]
abbrev dktX7_layerOf_1 : List UInt8 := dkwX7_layerOf_1 ++ []
def dkwX7_layerOf_0 : List UInt8 := [26, 61, 26, 184, 1, 143, 4, 100, 62, 29, 27, 164, 0, 14, 28, 16, 7, 108, 61, 132, 3, 255]
abbrev dktX7_layerOf_0 : List UInt8 := dkwX7_layerOf_0 ++ dktX7_layerOf_1
theorem dksX7_layerOf_0 : cX7_layerOf.data.toList.drop 0 = dktX7_layerOf_0 := by decide +kernel
theorem dksX7_layerOf_1 : cX7_layerOf.data.toList.drop 22 = dktX7_layerOf_1 := dk_seg dksX7_layerOf_0 22 rfl rfl
theorem dX7_layerOf_0 : decode cX7_layerOf 0 = .ok (.iload_n 0, 1) := dk_26 (dk_at dksX7_layerOf_0 0 rfl rfl)
theorem dX7_layerOf_1 : decode cX7_layerOf 1 = .ok (.istore_n 2, 1) := dk_61 (dk_at dksX7_layerOf_0 1 rfl rfl)
theorem dX7_layerOf_2 : decode cX7_layerOf 2 = .ok (.iload_n 0, 1) := dk_26 (dk_at dksX7_layerOf_0 2 rfl rfl)
theorem dX7_layerOf_3 : decode cX7_layerOf 3 = .ok (.invokestatic 399, 3) := dk_184 1 143 (dk_at dksX7_layerOf_0 3 rfl rfl)
theorem dX7_layerOf_6 : decode cX7_layerOf 6 = .ok (.iconst 1, 1) := dk_4 (dk_at dksX7_layerOf_0 6 rfl rfl)
theorem dX7_layerOf_7 : decode cX7_layerOf 7 = .ok (.isub, 1) := dk_100 (dk_at dksX7_layerOf_0 7 rfl rfl)
theorem dX7_layerOf_8 : decode cX7_layerOf 8 = .ok (.istore_n 3, 1) := dk_62 (dk_at dksX7_layerOf_0 8 rfl rfl)
theorem dX7_layerOf_9 : decode cX7_layerOf 9 = .ok (.iload_n 3, 1) := dk_29 (dk_at dksX7_layerOf_0 9 rfl rfl)
theorem dX7_layerOf_10 : decode cX7_layerOf 10 = .ok (.iload_n 1, 1) := dk_27 (dk_at dksX7_layerOf_0 10 rfl rfl)
theorem dX7_layerOf_11 : decode cX7_layerOf 11 = .ok (.if_icmp .le 14, 3) := dk_164 0 14 (dk_at dksX7_layerOf_0 11 rfl rfl)
theorem dX7_layerOf_14 : decode cX7_layerOf 14 = .ok (.iload_n 2, 1) := dk_28 (dk_at dksX7_layerOf_0 14 rfl rfl)
theorem dX7_layerOf_15 : decode cX7_layerOf 15 = .ok (.bipush 7, 2) := dk_16 7 (dk_at dksX7_layerOf_0 15 rfl rfl)
theorem dX7_layerOf_17 : decode cX7_layerOf 17 = .ok (.idiv, 1) := dk_108 (dk_at dksX7_layerOf_0 17 rfl rfl)
theorem dX7_layerOf_18 : decode cX7_layerOf 18 = .ok (.istore_n 2, 1) := dk_61 (dk_at dksX7_layerOf_0 18 rfl rfl)
theorem dX7_layerOf_19 : decode cX7_layerOf 19 = .ok (.iinc 3 (-1), 3) := dk_132 3 255 (dk_at dksX7_layerOf_0 19 rfl rfl)
theorem dX7_layerOf_22 : decode cX7_layerOf 22 = .ok (.goto (-13), 3) := dk_167 255 243 (dk_at dksX7_layerOf_1 0 rfl rfl)
theorem dX7_layerOf_25 : decode cX7_layerOf 25 = .ok (.iload_n 2, 1) := dk_28 (dk_at dksX7_layerOf_1 3 rfl rfl)
theorem dX7_layerOf_26 : decode cX7_layerOf 26 = .ok (.bipush 7, 2) := dk_16 7 (dk_at dksX7_layerOf_1 4 rfl rfl)
theorem dX7_layerOf_28 : decode cX7_layerOf 28 = .ok (.irem, 1) := dk_112 (dk_at dksX7_layerOf_1 6 rfl rfl)
theorem dX7_layerOf_29 : decode cX7_layerOf 29 = .ok (.iconst 1, 1) := dk_4 (dk_at dksX7_layerOf_1 7 rfl rfl)
theorem dX7_layerOf_30 : decode cX7_layerOf 30 = .ok (.isub, 1) := dk_100 (dk_at dksX7_layerOf_1 8 rfl rfl)
theorem dX7_layerOf_31 : decode cX7_layerOf 31 = .ok (.ireturn, 1) := dk_172 (dk_at dksX7_layerOf_1 9 rfl rfl)
abbrev cX7_layer : ByteArray := prog_32_method_64_code
abbrev yX7_layer : MethodName := { cls := "WornSkinModel", name := "layer", desc := "(III)I" }
def dkwX7_layer_2 : List UInt8 := [16, 6, 27, 104, 96, 28, 96, 46, 29, 184, 1, 146, 172]
abbrev dktX7_layer_2 : List UInt8 := dkwX7_layer_2 ++ []
def dkwX7_layer_1 : List UInt8 := [16, 7, 16, 6, 27, 104, 96, 28, 96, 46, 184, 1, 143, 161, 0, 5, 2, 172, 42, 180, 0, 120, 16, 7]
abbrev dktX7_layer_1 : List UInt8 := dkwX7_layer_1 ++ dktX7_layer_2
def dkwX7_layer_0 : List UInt8 := [42, 3, 181, 0, 144, 42, 27, 28, 182, 1, 140, 153, 0, 28, 29, 155, 0, 24, 29, 42, 180, 0, 120]
abbrev dktX7_layer_0 : List UInt8 := dkwX7_layer_0 ++ dktX7_layer_1
theorem dksX7_layer_0 : cX7_layer.data.toList.drop 0 = dktX7_layer_0 := by decide +kernel
theorem dksX7_layer_1 : cX7_layer.data.toList.drop 23 = dktX7_layer_1 := dk_seg dksX7_layer_0 23 rfl rfl
theorem dksX7_layer_2 : cX7_layer.data.toList.drop 47 = dktX7_layer_2 := dk_seg dksX7_layer_1 24 rfl rfl
theorem dX7_layer_0 : decode cX7_layer 0 = .ok (.aload_n 0, 1) := dk_42 (dk_at dksX7_layer_0 0 rfl rfl)
theorem dX7_layer_1 : decode cX7_layer 1 = .ok (.iconst 0, 1) := dk_3 (dk_at dksX7_layer_0 1 rfl rfl)
theorem dX7_layer_2 : decode cX7_layer 2 = .ok (.putfield 144, 3) := dk_181 0 144 (dk_at dksX7_layer_0 2 rfl rfl)
theorem dX7_layer_5 : decode cX7_layer 5 = .ok (.aload_n 0, 1) := dk_42 (dk_at dksX7_layer_0 5 rfl rfl)
theorem dX7_layer_6 : decode cX7_layer 6 = .ok (.iload_n 1, 1) := dk_27 (dk_at dksX7_layer_0 6 rfl rfl)
theorem dX7_layer_7 : decode cX7_layer 7 = .ok (.iload_n 2, 1) := dk_28 (dk_at dksX7_layer_0 7 rfl rfl)
theorem dX7_layer_8 : decode cX7_layer 8 = .ok (.invokevirtual 396, 3) := dk_182 1 140 (dk_at dksX7_layer_0 8 rfl rfl)
theorem dX7_layer_11 : decode cX7_layer 11 = .ok (.ifCond .eq 28, 3) := dk_153 0 28 (dk_at dksX7_layer_0 11 rfl rfl)
theorem dX7_layer_14 : decode cX7_layer 14 = .ok (.iload_n 3, 1) := dk_29 (dk_at dksX7_layer_0 14 rfl rfl)
theorem dX7_layer_15 : decode cX7_layer 15 = .ok (.ifCond .lt 24, 3) := dk_155 0 24 (dk_at dksX7_layer_0 15 rfl rfl)
theorem dX7_layer_18 : decode cX7_layer 18 = .ok (.iload_n 3, 1) := dk_29 (dk_at dksX7_layer_0 18 rfl rfl)
theorem dX7_layer_19 : decode cX7_layer 19 = .ok (.aload_n 0, 1) := dk_42 (dk_at dksX7_layer_0 19 rfl rfl)
theorem dX7_layer_20 : decode cX7_layer 20 = .ok (.getfield 120, 3) := dk_180 0 120 (dk_at dksX7_layer_0 20 rfl rfl)
theorem dX7_layer_23 : decode cX7_layer 23 = .ok (.bipush 7, 2) := dk_16 7 (dk_at dksX7_layer_1 0 rfl rfl)
theorem dX7_layer_25 : decode cX7_layer 25 = .ok (.bipush 6, 2) := dk_16 6 (dk_at dksX7_layer_1 2 rfl rfl)
theorem dX7_layer_27 : decode cX7_layer 27 = .ok (.iload_n 1, 1) := dk_27 (dk_at dksX7_layer_1 4 rfl rfl)
theorem dX7_layer_28 : decode cX7_layer 28 = .ok (.imul, 1) := dk_104 (dk_at dksX7_layer_1 5 rfl rfl)
theorem dX7_layer_29 : decode cX7_layer 29 = .ok (.iadd, 1) := dk_96 (dk_at dksX7_layer_1 6 rfl rfl)
theorem dX7_layer_30 : decode cX7_layer 30 = .ok (.iload_n 2, 1) := dk_28 (dk_at dksX7_layer_1 7 rfl rfl)
theorem dX7_layer_31 : decode cX7_layer 31 = .ok (.iadd, 1) := dk_96 (dk_at dksX7_layer_1 8 rfl rfl)
theorem dX7_layer_32 : decode cX7_layer 32 = .ok (.iaload, 1) := dk_46 (dk_at dksX7_layer_1 9 rfl rfl)
theorem dX7_layer_33 : decode cX7_layer 33 = .ok (.invokestatic 399, 3) := dk_184 1 143 (dk_at dksX7_layer_1 10 rfl rfl)
theorem dX7_layer_36 : decode cX7_layer 36 = .ok (.if_icmp .lt 5, 3) := dk_161 0 5 (dk_at dksX7_layer_1 13 rfl rfl)
theorem dX7_layer_39 : decode cX7_layer 39 = .ok (.iconst (-1), 1) := dk_2 (dk_at dksX7_layer_1 16 rfl rfl)
theorem dX7_layer_40 : decode cX7_layer 40 = .ok (.ireturn, 1) := dk_172 (dk_at dksX7_layer_1 17 rfl rfl)
theorem dX7_layer_41 : decode cX7_layer 41 = .ok (.aload_n 0, 1) := dk_42 (dk_at dksX7_layer_1 18 rfl rfl)
theorem dX7_layer_42 : decode cX7_layer 42 = .ok (.getfield 120, 3) := dk_180 0 120 (dk_at dksX7_layer_1 19 rfl rfl)
theorem dX7_layer_45 : decode cX7_layer 45 = .ok (.bipush 7, 2) := dk_16 7 (dk_at dksX7_layer_1 22 rfl rfl)
theorem dX7_layer_47 : decode cX7_layer 47 = .ok (.bipush 6, 2) := dk_16 6 (dk_at dksX7_layer_2 0 rfl rfl)
theorem dX7_layer_49 : decode cX7_layer 49 = .ok (.iload_n 1, 1) := dk_27 (dk_at dksX7_layer_2 2 rfl rfl)
theorem dX7_layer_50 : decode cX7_layer 50 = .ok (.imul, 1) := dk_104 (dk_at dksX7_layer_2 3 rfl rfl)
theorem dX7_layer_51 : decode cX7_layer 51 = .ok (.iadd, 1) := dk_96 (dk_at dksX7_layer_2 4 rfl rfl)
theorem dX7_layer_52 : decode cX7_layer 52 = .ok (.iload_n 2, 1) := dk_28 (dk_at dksX7_layer_2 5 rfl rfl)
theorem dX7_layer_53 : decode cX7_layer 53 = .ok (.iadd, 1) := dk_96 (dk_at dksX7_layer_2 6 rfl rfl)
theorem dX7_layer_54 : decode cX7_layer 54 = .ok (.iaload, 1) := dk_46 (dk_at dksX7_layer_2 7 rfl rfl)
theorem dX7_layer_55 : decode cX7_layer 55 = .ok (.iload_n 3, 1) := dk_29 (dk_at dksX7_layer_2 8 rfl rfl)
theorem dX7_layer_56 : decode cX7_layer 56 = .ok (.invokestatic 402, 3) := dk_184 1 146 (dk_at dksX7_layer_2 9 rfl rfl)
theorem dX7_layer_59 : decode cX7_layer 59 = .ok (.ireturn, 1) := dk_172 (dk_at dksX7_layer_2 12 rfl rfl)
abbrev cX7_read : ByteArray := prog_32_method_65_code
abbrev yX7_read : MethodName := { cls := "WornSkinModel", name := "read", desc := "(II)I" }
def dkwX7_read_1 : List UInt8 := [182, 1, 111, 182, 1, 107, 167, 0, 4, 2, 172]
abbrev dktX7_read_1 : List UInt8 := dkwX7_read_1 ++ []
def dkwX7_read_0 : List UInt8 := [42, 3, 181, 0, 144, 42, 27, 28, 182, 1, 140, 153, 0, 22, 42, 27, 28, 42, 42, 180, 0, 120, 3, 46]
abbrev dktX7_read_0 : List UInt8 := dkwX7_read_0 ++ dktX7_read_1
theorem dksX7_read_0 : cX7_read.data.toList.drop 0 = dktX7_read_0 := by decide +kernel
theorem dksX7_read_1 : cX7_read.data.toList.drop 24 = dktX7_read_1 := dk_seg dksX7_read_0 24 rfl rfl
theorem dX7_read_0 : decode cX7_read 0 = .ok (.aload_n 0, 1) := dk_42 (dk_at dksX7_read_0 0 rfl rfl)
theorem dX7_read_1 : decode cX7_read 1 = .ok (.iconst 0, 1) := dk_3 (dk_at dksX7_read_0 1 rfl rfl)
theorem dX7_read_2 : decode cX7_read 2 = .ok (.putfield 144, 3) := dk_181 0 144 (dk_at dksX7_read_0 2 rfl rfl)
theorem dX7_read_5 : decode cX7_read 5 = .ok (.aload_n 0, 1) := dk_42 (dk_at dksX7_read_0 5 rfl rfl)
theorem dX7_read_6 : decode cX7_read 6 = .ok (.iload_n 1, 1) := dk_27 (dk_at dksX7_read_0 6 rfl rfl)
theorem dX7_read_7 : decode cX7_read 7 = .ok (.iload_n 2, 1) := dk_28 (dk_at dksX7_read_0 7 rfl rfl)
theorem dX7_read_8 : decode cX7_read 8 = .ok (.invokevirtual 396, 3) := dk_182 1 140 (dk_at dksX7_read_0 8 rfl rfl)
theorem dX7_read_11 : decode cX7_read 11 = .ok (.ifCond .eq 22, 3) := dk_153 0 22 (dk_at dksX7_read_0 11 rfl rfl)
theorem dX7_read_14 : decode cX7_read 14 = .ok (.aload_n 0, 1) := dk_42 (dk_at dksX7_read_0 14 rfl rfl)
theorem dX7_read_15 : decode cX7_read 15 = .ok (.iload_n 1, 1) := dk_27 (dk_at dksX7_read_0 15 rfl rfl)
theorem dX7_read_16 : decode cX7_read 16 = .ok (.iload_n 2, 1) := dk_28 (dk_at dksX7_read_0 16 rfl rfl)
theorem dX7_read_17 : decode cX7_read 17 = .ok (.aload_n 0, 1) := dk_42 (dk_at dksX7_read_0 17 rfl rfl)
theorem dX7_read_18 : decode cX7_read 18 = .ok (.aload_n 0, 1) := dk_42 (dk_at dksX7_read_0 18 rfl rfl)
theorem dX7_read_19 : decode cX7_read 19 = .ok (.getfield 120, 3) := dk_180 0 120 (dk_at dksX7_read_0 19 rfl rfl)
theorem dX7_read_22 : decode cX7_read 22 = .ok (.iconst 0, 1) := dk_3 (dk_at dksX7_read_0 22 rfl rfl)
theorem dX7_read_23 : decode cX7_read 23 = .ok (.iaload, 1) := dk_46 (dk_at dksX7_read_0 23 rfl rfl)
theorem dX7_read_24 : decode cX7_read 24 = .ok (.invokevirtual 367, 3) := dk_182 1 111 (dk_at dksX7_read_1 0 rfl rfl)
theorem dX7_read_27 : decode cX7_read 27 = .ok (.invokevirtual 363, 3) := dk_182 1 107 (dk_at dksX7_read_1 3 rfl rfl)
theorem dX7_read_30 : decode cX7_read 30 = .ok (.goto 4, 3) := dk_167 0 4 (dk_at dksX7_read_1 6 rfl rfl)
theorem dX7_read_33 : decode cX7_read 33 = .ok (.iconst (-1), 1) := dk_2 (dk_at dksX7_read_1 9 rfl rfl)
theorem dX7_read_34 : decode cX7_read 34 = .ok (.ireturn, 1) := dk_172 (dk_at dksX7_read_1 10 rfl rfl)
abbrev cX7_canWrite : ByteArray := prog_32_method_53_code
abbrev yX7_canWrite : MethodName := { cls := "WornSkinModel", name := "canWrite", desc := "(III)Z" }
def dkwX7_canWrite_4 : List UInt8 := [19, 1, 117, 161, 0, 5, 3, 172, 132, 4, 1, 167, 255, 185, 4, 172]
abbrev dktX7_canWrite_4 : List UInt8 := dkwX7_canWrite_4 ++ []
def dkwX7_canWrite_3 : List UInt8 := [122, 4, 126, 4, 159, 0, 24, 42, 180, 0, 120, 16, 7, 16, 6, 28, 104, 96, 21, 4, 96, 46]
abbrev dktX7_canWrite_3 : List UInt8 := dkwX7_canWrite_3 ++ dktX7_canWrite_4
def dkwX7_canWrite_2 : List UInt8 := [180, 0, 29, 28, 46, 21, 4, 122, 4, 126, 4, 159, 0, 41, 42, 180, 0, 120, 7, 28, 96, 46, 21, 4]
abbrev dktX7_canWrite_2 : List UInt8 := dkwX7_canWrite_2 ++ dktX7_canWrite_3
def dkwX7_canWrite_1 : List UInt8 := [46, 164, 0, 5, 3, 172, 29, 54, 4, 21, 4, 29, 42, 180, 0, 38, 27, 46, 96, 162, 0, 64, 42]
abbrev dktX7_canWrite_1 : List UInt8 := dkwX7_canWrite_1 ++ dktX7_canWrite_2
def dkwX7_canWrite_0 : List UInt8 := [42, 180, 0, 120, 4, 28, 96, 46, 153, 0, 20, 29, 42, 180, 0, 38, 27, 46, 96, 42, 180, 0, 23, 28]
abbrev dktX7_canWrite_0 : List UInt8 := dkwX7_canWrite_0 ++ dktX7_canWrite_1
theorem dksX7_canWrite_0 : cX7_canWrite.data.toList.drop 0 = dktX7_canWrite_0 := by decide +kernel
theorem dksX7_canWrite_1 : cX7_canWrite.data.toList.drop 24 = dktX7_canWrite_1 := dk_seg dksX7_canWrite_0 24 rfl rfl
theorem dksX7_canWrite_2 : cX7_canWrite.data.toList.drop 47 = dktX7_canWrite_2 := dk_seg dksX7_canWrite_1 23 rfl rfl
theorem dksX7_canWrite_3 : cX7_canWrite.data.toList.drop 71 = dktX7_canWrite_3 := dk_seg dksX7_canWrite_2 24 rfl rfl
theorem dksX7_canWrite_4 : cX7_canWrite.data.toList.drop 93 = dktX7_canWrite_4 := dk_seg dksX7_canWrite_3 22 rfl rfl
theorem dX7_canWrite_0 : decode cX7_canWrite 0 = .ok (.aload_n 0, 1) := dk_42 (dk_at dksX7_canWrite_0 0 rfl rfl)
theorem dX7_canWrite_1 : decode cX7_canWrite 1 = .ok (.getfield 120, 3) := dk_180 0 120 (dk_at dksX7_canWrite_0 1 rfl rfl)
theorem dX7_canWrite_4 : decode cX7_canWrite 4 = .ok (.iconst 1, 1) := dk_4 (dk_at dksX7_canWrite_0 4 rfl rfl)
theorem dX7_canWrite_5 : decode cX7_canWrite 5 = .ok (.iload_n 2, 1) := dk_28 (dk_at dksX7_canWrite_0 5 rfl rfl)
theorem dX7_canWrite_6 : decode cX7_canWrite 6 = .ok (.iadd, 1) := dk_96 (dk_at dksX7_canWrite_0 6 rfl rfl)
theorem dX7_canWrite_7 : decode cX7_canWrite 7 = .ok (.iaload, 1) := dk_46 (dk_at dksX7_canWrite_0 7 rfl rfl)
theorem dX7_canWrite_8 : decode cX7_canWrite 8 = .ok (.ifCond .eq 20, 3) := dk_153 0 20 (dk_at dksX7_canWrite_0 8 rfl rfl)
theorem dX7_canWrite_11 : decode cX7_canWrite 11 = .ok (.iload_n 3, 1) := dk_29 (dk_at dksX7_canWrite_0 11 rfl rfl)
theorem dX7_canWrite_12 : decode cX7_canWrite 12 = .ok (.aload_n 0, 1) := dk_42 (dk_at dksX7_canWrite_0 12 rfl rfl)
theorem dX7_canWrite_13 : decode cX7_canWrite 13 = .ok (.getfield 38, 3) := dk_180 0 38 (dk_at dksX7_canWrite_0 13 rfl rfl)
theorem dX7_canWrite_16 : decode cX7_canWrite 16 = .ok (.iload_n 1, 1) := dk_27 (dk_at dksX7_canWrite_0 16 rfl rfl)
theorem dX7_canWrite_17 : decode cX7_canWrite 17 = .ok (.iaload, 1) := dk_46 (dk_at dksX7_canWrite_0 17 rfl rfl)
theorem dX7_canWrite_18 : decode cX7_canWrite 18 = .ok (.iadd, 1) := dk_96 (dk_at dksX7_canWrite_0 18 rfl rfl)
theorem dX7_canWrite_19 : decode cX7_canWrite 19 = .ok (.aload_n 0, 1) := dk_42 (dk_at dksX7_canWrite_0 19 rfl rfl)
theorem dX7_canWrite_20 : decode cX7_canWrite 20 = .ok (.getfield 23, 3) := dk_180 0 23 (dk_at dksX7_canWrite_0 20 rfl rfl)
theorem dX7_canWrite_23 : decode cX7_canWrite 23 = .ok (.iload_n 2, 1) := dk_28 (dk_at dksX7_canWrite_0 23 rfl rfl)
theorem dX7_canWrite_24 : decode cX7_canWrite 24 = .ok (.iaload, 1) := dk_46 (dk_at dksX7_canWrite_1 0 rfl rfl)
theorem dX7_canWrite_25 : decode cX7_canWrite 25 = .ok (.if_icmp .le 5, 3) := dk_164 0 5 (dk_at dksX7_canWrite_1 1 rfl rfl)
theorem dX7_canWrite_28 : decode cX7_canWrite 28 = .ok (.iconst 0, 1) := dk_3 (dk_at dksX7_canWrite_1 4 rfl rfl)
theorem dX7_canWrite_29 : decode cX7_canWrite 29 = .ok (.ireturn, 1) := dk_172 (dk_at dksX7_canWrite_1 5 rfl rfl)
theorem dX7_canWrite_30 : decode cX7_canWrite 30 = .ok (.iload_n 3, 1) := dk_29 (dk_at dksX7_canWrite_1 6 rfl rfl)
theorem dX7_canWrite_31 : decode cX7_canWrite 31 = .ok (.istore 4, 2) := dk_54 4 (dk_at dksX7_canWrite_1 7 rfl rfl)
theorem dX7_canWrite_33 : decode cX7_canWrite 33 = .ok (.iload 4, 2) := dk_21 4 (dk_at dksX7_canWrite_1 9 rfl rfl)
theorem dX7_canWrite_35 : decode cX7_canWrite 35 = .ok (.iload_n 3, 1) := dk_29 (dk_at dksX7_canWrite_1 11 rfl rfl)
theorem dX7_canWrite_36 : decode cX7_canWrite 36 = .ok (.aload_n 0, 1) := dk_42 (dk_at dksX7_canWrite_1 12 rfl rfl)
theorem dX7_canWrite_37 : decode cX7_canWrite 37 = .ok (.getfield 38, 3) := dk_180 0 38 (dk_at dksX7_canWrite_1 13 rfl rfl)
theorem dX7_canWrite_40 : decode cX7_canWrite 40 = .ok (.iload_n 1, 1) := dk_27 (dk_at dksX7_canWrite_1 16 rfl rfl)
theorem dX7_canWrite_41 : decode cX7_canWrite 41 = .ok (.iaload, 1) := dk_46 (dk_at dksX7_canWrite_1 17 rfl rfl)
theorem dX7_canWrite_42 : decode cX7_canWrite 42 = .ok (.iadd, 1) := dk_96 (dk_at dksX7_canWrite_1 18 rfl rfl)
theorem dX7_canWrite_43 : decode cX7_canWrite 43 = .ok (.if_icmp .ge 64, 3) := dk_162 0 64 (dk_at dksX7_canWrite_1 19 rfl rfl)
theorem dX7_canWrite_46 : decode cX7_canWrite 46 = .ok (.aload_n 0, 1) := dk_42 (dk_at dksX7_canWrite_1 22 rfl rfl)
theorem dX7_canWrite_47 : decode cX7_canWrite 47 = .ok (.getfield 29, 3) := dk_180 0 29 (dk_at dksX7_canWrite_2 0 rfl rfl)
theorem dX7_canWrite_50 : decode cX7_canWrite 50 = .ok (.iload_n 2, 1) := dk_28 (dk_at dksX7_canWrite_2 3 rfl rfl)
theorem dX7_canWrite_51 : decode cX7_canWrite 51 = .ok (.iaload, 1) := dk_46 (dk_at dksX7_canWrite_2 4 rfl rfl)
theorem dX7_canWrite_52 : decode cX7_canWrite 52 = .ok (.iload 4, 2) := dk_21 4 (dk_at dksX7_canWrite_2 5 rfl rfl)
theorem dX7_canWrite_54 : decode cX7_canWrite 54 = .ok (.ishr, 1) := dk_122 (dk_at dksX7_canWrite_2 7 rfl rfl)
theorem dX7_canWrite_55 : decode cX7_canWrite 55 = .ok (.iconst 1, 1) := dk_4 (dk_at dksX7_canWrite_2 8 rfl rfl)
theorem dX7_canWrite_56 : decode cX7_canWrite 56 = .ok (.iand, 1) := dk_126 (dk_at dksX7_canWrite_2 9 rfl rfl)
theorem dX7_canWrite_57 : decode cX7_canWrite 57 = .ok (.iconst 1, 1) := dk_4 (dk_at dksX7_canWrite_2 10 rfl rfl)
theorem dX7_canWrite_58 : decode cX7_canWrite 58 = .ok (.if_icmp .eq 41, 3) := dk_159 0 41 (dk_at dksX7_canWrite_2 11 rfl rfl)
theorem dX7_canWrite_61 : decode cX7_canWrite 61 = .ok (.aload_n 0, 1) := dk_42 (dk_at dksX7_canWrite_2 14 rfl rfl)
theorem dX7_canWrite_62 : decode cX7_canWrite 62 = .ok (.getfield 120, 3) := dk_180 0 120 (dk_at dksX7_canWrite_2 15 rfl rfl)
theorem dX7_canWrite_65 : decode cX7_canWrite 65 = .ok (.iconst 4, 1) := dk_7 (dk_at dksX7_canWrite_2 18 rfl rfl)
theorem dX7_canWrite_66 : decode cX7_canWrite 66 = .ok (.iload_n 2, 1) := dk_28 (dk_at dksX7_canWrite_2 19 rfl rfl)
theorem dX7_canWrite_67 : decode cX7_canWrite 67 = .ok (.iadd, 1) := dk_96 (dk_at dksX7_canWrite_2 20 rfl rfl)
theorem dX7_canWrite_68 : decode cX7_canWrite 68 = .ok (.iaload, 1) := dk_46 (dk_at dksX7_canWrite_2 21 rfl rfl)
theorem dX7_canWrite_69 : decode cX7_canWrite 69 = .ok (.iload 4, 2) := dk_21 4 (dk_at dksX7_canWrite_2 22 rfl rfl)
theorem dX7_canWrite_71 : decode cX7_canWrite 71 = .ok (.ishr, 1) := dk_122 (dk_at dksX7_canWrite_3 0 rfl rfl)
theorem dX7_canWrite_72 : decode cX7_canWrite 72 = .ok (.iconst 1, 1) := dk_4 (dk_at dksX7_canWrite_3 1 rfl rfl)
theorem dX7_canWrite_73 : decode cX7_canWrite 73 = .ok (.iand, 1) := dk_126 (dk_at dksX7_canWrite_3 2 rfl rfl)
theorem dX7_canWrite_74 : decode cX7_canWrite 74 = .ok (.iconst 1, 1) := dk_4 (dk_at dksX7_canWrite_3 3 rfl rfl)
theorem dX7_canWrite_75 : decode cX7_canWrite 75 = .ok (.if_icmp .eq 24, 3) := dk_159 0 24 (dk_at dksX7_canWrite_3 4 rfl rfl)
theorem dX7_canWrite_78 : decode cX7_canWrite 78 = .ok (.aload_n 0, 1) := dk_42 (dk_at dksX7_canWrite_3 7 rfl rfl)
theorem dX7_canWrite_79 : decode cX7_canWrite 79 = .ok (.getfield 120, 3) := dk_180 0 120 (dk_at dksX7_canWrite_3 8 rfl rfl)
theorem dX7_canWrite_82 : decode cX7_canWrite 82 = .ok (.bipush 7, 2) := dk_16 7 (dk_at dksX7_canWrite_3 11 rfl rfl)
theorem dX7_canWrite_84 : decode cX7_canWrite 84 = .ok (.bipush 6, 2) := dk_16 6 (dk_at dksX7_canWrite_3 13 rfl rfl)
theorem dX7_canWrite_86 : decode cX7_canWrite 86 = .ok (.iload_n 2, 1) := dk_28 (dk_at dksX7_canWrite_3 15 rfl rfl)
theorem dX7_canWrite_87 : decode cX7_canWrite 87 = .ok (.imul, 1) := dk_104 (dk_at dksX7_canWrite_3 16 rfl rfl)
theorem dX7_canWrite_88 : decode cX7_canWrite 88 = .ok (.iadd, 1) := dk_96 (dk_at dksX7_canWrite_3 17 rfl rfl)
theorem dX7_canWrite_89 : decode cX7_canWrite 89 = .ok (.iload 4, 2) := dk_21 4 (dk_at dksX7_canWrite_3 18 rfl rfl)
theorem dX7_canWrite_91 : decode cX7_canWrite 91 = .ok (.iadd, 1) := dk_96 (dk_at dksX7_canWrite_3 20 rfl rfl)
theorem dX7_canWrite_92 : decode cX7_canWrite 92 = .ok (.iaload, 1) := dk_46 (dk_at dksX7_canWrite_3 21 rfl rfl)
theorem dX7_canWrite_93 : decode cX7_canWrite 93 = .ok (.ldc_w 373, 3) := dk_19 1 117 (dk_at dksX7_canWrite_4 0 rfl rfl)
theorem dX7_canWrite_96 : decode cX7_canWrite 96 = .ok (.if_icmp .lt 5, 3) := dk_161 0 5 (dk_at dksX7_canWrite_4 3 rfl rfl)
theorem dX7_canWrite_99 : decode cX7_canWrite 99 = .ok (.iconst 0, 1) := dk_3 (dk_at dksX7_canWrite_4 6 rfl rfl)
theorem dX7_canWrite_100 : decode cX7_canWrite 100 = .ok (.ireturn, 1) := dk_172 (dk_at dksX7_canWrite_4 7 rfl rfl)
theorem dX7_canWrite_101 : decode cX7_canWrite 101 = .ok (.iinc 4 1, 3) := dk_132 4 1 (dk_at dksX7_canWrite_4 8 rfl rfl)
theorem dX7_canWrite_104 : decode cX7_canWrite 104 = .ok (.goto (-71), 3) := dk_167 255 185 (dk_at dksX7_canWrite_4 11 rfl rfl)
theorem dX7_canWrite_107 : decode cX7_canWrite 107 = .ok (.iconst 1, 1) := dk_4 (dk_at dksX7_canWrite_4 14 rfl rfl)
theorem dX7_canWrite_108 : decode cX7_canWrite 108 = .ok (.ireturn, 1) := dk_172 (dk_at dksX7_canWrite_4 15 rfl rfl)
abbrev cX7_copies : ByteArray := prog_32_method_37_code
abbrev yX7_copies : MethodName := { cls := "WornSkinModel", name := "copies", desc := "([II[II)V" }
def dkwX7_copies_1 : List UInt8 := [132, 4, 1, 167, 255, 234, 177]
abbrev dktX7_copies_1 : List UInt8 := dkwX7_copies_1 ++ []
def dkwX7_copies_0 : List UInt8 := [3, 54, 4, 21, 4, 16, 25, 162, 0, 21, 44, 29, 21, 4, 96, 42, 27, 21, 4, 96, 46, 79]
abbrev dktX7_copies_0 : List UInt8 := dkwX7_copies_0 ++ dktX7_copies_1
theorem dksX7_copies_0 : cX7_copies.data.toList.drop 0 = dktX7_copies_0 := by decide +kernel
theorem dksX7_copies_1 : cX7_copies.data.toList.drop 22 = dktX7_copies_1 := dk_seg dksX7_copies_0 22 rfl rfl
theorem dX7_copies_0 : decode cX7_copies 0 = .ok (.iconst 0, 1) := dk_3 (dk_at dksX7_copies_0 0 rfl rfl)
theorem dX7_copies_1 : decode cX7_copies 1 = .ok (.istore 4, 2) := dk_54 4 (dk_at dksX7_copies_0 1 rfl rfl)
theorem dX7_copies_3 : decode cX7_copies 3 = .ok (.iload 4, 2) := dk_21 4 (dk_at dksX7_copies_0 3 rfl rfl)
theorem dX7_copies_5 : decode cX7_copies 5 = .ok (.bipush 25, 2) := dk_16 25 (dk_at dksX7_copies_0 5 rfl rfl)
theorem dX7_copies_7 : decode cX7_copies 7 = .ok (.if_icmp .ge 21, 3) := dk_162 0 21 (dk_at dksX7_copies_0 7 rfl rfl)
theorem dX7_copies_10 : decode cX7_copies 10 = .ok (.aload_n 2, 1) := dk_44 (dk_at dksX7_copies_0 10 rfl rfl)
theorem dX7_copies_11 : decode cX7_copies 11 = .ok (.iload_n 3, 1) := dk_29 (dk_at dksX7_copies_0 11 rfl rfl)
theorem dX7_copies_12 : decode cX7_copies 12 = .ok (.iload 4, 2) := dk_21 4 (dk_at dksX7_copies_0 12 rfl rfl)
theorem dX7_copies_14 : decode cX7_copies 14 = .ok (.iadd, 1) := dk_96 (dk_at dksX7_copies_0 14 rfl rfl)
theorem dX7_copies_15 : decode cX7_copies 15 = .ok (.aload_n 0, 1) := dk_42 (dk_at dksX7_copies_0 15 rfl rfl)
theorem dX7_copies_16 : decode cX7_copies 16 = .ok (.iload_n 1, 1) := dk_27 (dk_at dksX7_copies_0 16 rfl rfl)
theorem dX7_copies_17 : decode cX7_copies 17 = .ok (.iload 4, 2) := dk_21 4 (dk_at dksX7_copies_0 17 rfl rfl)
theorem dX7_copies_19 : decode cX7_copies 19 = .ok (.iadd, 1) := dk_96 (dk_at dksX7_copies_0 19 rfl rfl)
theorem dX7_copies_20 : decode cX7_copies 20 = .ok (.iaload, 1) := dk_46 (dk_at dksX7_copies_0 20 rfl rfl)
theorem dX7_copies_21 : decode cX7_copies 21 = .ok (.iastore, 1) := dk_79 (dk_at dksX7_copies_0 21 rfl rfl)
theorem dX7_copies_22 : decode cX7_copies 22 = .ok (.iinc 4 1, 3) := dk_132 4 1 (dk_at dksX7_copies_1 0 rfl rfl)
theorem dX7_copies_25 : decode cX7_copies 25 = .ok (.goto (-22), 3) := dk_167 255 234 (dk_at dksX7_copies_1 3 rfl rfl)
theorem dX7_copies_28 : decode cX7_copies 28 = .ok (.return_, 1) := dk_177 (dk_at dksX7_copies_1 6 rfl rfl)
abbrev cX7_keeps : ByteArray := prog_32_method_66_code
abbrev yX7_keeps : MethodName := { cls := "WornSkinModel", name := "keeps", desc := "()V" }
def dkwX7_keeps_3 : List UInt8 := [180, 1, 87, 4, 96, 181, 1, 87, 177]
abbrev dktX7_keeps_3 : List UInt8 := dkwX7_keeps_3 ++ []
def dkwX7_keeps_2 : List UInt8 := [181, 1, 87, 42, 180, 0, 120, 3, 42, 180, 0, 132, 16, 25, 42, 180, 1, 87, 104, 184, 1, 149, 42, 89]
abbrev dktX7_keeps_2 : List UInt8 := dkwX7_keeps_2 ++ dktX7_keeps_3
def dkwX7_keeps_1 : List UInt8 := [180, 0, 132, 27, 16, 25, 96, 46, 79, 132, 1, 1, 167, 255, 231, 42, 89, 180, 1, 87, 4, 100]
abbrev dktX7_keeps_1 : List UInt8 := dkwX7_keeps_1 ++ dktX7_keeps_2
def dkwX7_keeps_0 : List UInt8 := [42, 180, 1, 87, 16, 16, 160, 0, 43, 3, 60, 27, 17, 1, 119, 162, 0, 24, 42, 180, 0, 132, 27, 42]
abbrev dktX7_keeps_0 : List UInt8 := dkwX7_keeps_0 ++ dktX7_keeps_1
theorem dksX7_keeps_0 : cX7_keeps.data.toList.drop 0 = dktX7_keeps_0 := by decide +kernel
theorem dksX7_keeps_1 : cX7_keeps.data.toList.drop 24 = dktX7_keeps_1 := dk_seg dksX7_keeps_0 24 rfl rfl
theorem dksX7_keeps_2 : cX7_keeps.data.toList.drop 46 = dktX7_keeps_2 := dk_seg dksX7_keeps_1 22 rfl rfl
theorem dksX7_keeps_3 : cX7_keeps.data.toList.drop 70 = dktX7_keeps_3 := dk_seg dksX7_keeps_2 24 rfl rfl
theorem dX7_keeps_0 : decode cX7_keeps 0 = .ok (.aload_n 0, 1) := dk_42 (dk_at dksX7_keeps_0 0 rfl rfl)
theorem dX7_keeps_1 : decode cX7_keeps 1 = .ok (.getfield 343, 3) := dk_180 1 87 (dk_at dksX7_keeps_0 1 rfl rfl)
theorem dX7_keeps_4 : decode cX7_keeps 4 = .ok (.bipush 16, 2) := dk_16 16 (dk_at dksX7_keeps_0 4 rfl rfl)
theorem dX7_keeps_6 : decode cX7_keeps 6 = .ok (.if_icmp .ne 43, 3) := dk_160 0 43 (dk_at dksX7_keeps_0 6 rfl rfl)
theorem dX7_keeps_9 : decode cX7_keeps 9 = .ok (.iconst 0, 1) := dk_3 (dk_at dksX7_keeps_0 9 rfl rfl)
theorem dX7_keeps_10 : decode cX7_keeps 10 = .ok (.istore_n 1, 1) := dk_60 (dk_at dksX7_keeps_0 10 rfl rfl)
theorem dX7_keeps_11 : decode cX7_keeps 11 = .ok (.iload_n 1, 1) := dk_27 (dk_at dksX7_keeps_0 11 rfl rfl)
theorem dX7_keeps_12 : decode cX7_keeps 12 = .ok (.sipush 375, 3) := dk_17 1 119 (dk_at dksX7_keeps_0 12 rfl rfl)
theorem dX7_keeps_15 : decode cX7_keeps 15 = .ok (.if_icmp .ge 24, 3) := dk_162 0 24 (dk_at dksX7_keeps_0 15 rfl rfl)
theorem dX7_keeps_18 : decode cX7_keeps 18 = .ok (.aload_n 0, 1) := dk_42 (dk_at dksX7_keeps_0 18 rfl rfl)
theorem dX7_keeps_19 : decode cX7_keeps 19 = .ok (.getfield 132, 3) := dk_180 0 132 (dk_at dksX7_keeps_0 19 rfl rfl)
theorem dX7_keeps_22 : decode cX7_keeps 22 = .ok (.iload_n 1, 1) := dk_27 (dk_at dksX7_keeps_0 22 rfl rfl)
theorem dX7_keeps_23 : decode cX7_keeps 23 = .ok (.aload_n 0, 1) := dk_42 (dk_at dksX7_keeps_0 23 rfl rfl)
theorem dX7_keeps_24 : decode cX7_keeps 24 = .ok (.getfield 132, 3) := dk_180 0 132 (dk_at dksX7_keeps_1 0 rfl rfl)
theorem dX7_keeps_27 : decode cX7_keeps 27 = .ok (.iload_n 1, 1) := dk_27 (dk_at dksX7_keeps_1 3 rfl rfl)
theorem dX7_keeps_28 : decode cX7_keeps 28 = .ok (.bipush 25, 2) := dk_16 25 (dk_at dksX7_keeps_1 4 rfl rfl)
theorem dX7_keeps_30 : decode cX7_keeps 30 = .ok (.iadd, 1) := dk_96 (dk_at dksX7_keeps_1 6 rfl rfl)
theorem dX7_keeps_31 : decode cX7_keeps 31 = .ok (.iaload, 1) := dk_46 (dk_at dksX7_keeps_1 7 rfl rfl)
theorem dX7_keeps_32 : decode cX7_keeps 32 = .ok (.iastore, 1) := dk_79 (dk_at dksX7_keeps_1 8 rfl rfl)
theorem dX7_keeps_33 : decode cX7_keeps 33 = .ok (.iinc 1 1, 3) := dk_132 1 1 (dk_at dksX7_keeps_1 9 rfl rfl)
theorem dX7_keeps_36 : decode cX7_keeps 36 = .ok (.goto (-25), 3) := dk_167 255 231 (dk_at dksX7_keeps_1 12 rfl rfl)
theorem dX7_keeps_39 : decode cX7_keeps 39 = .ok (.aload_n 0, 1) := dk_42 (dk_at dksX7_keeps_1 15 rfl rfl)
theorem dX7_keeps_40 : decode cX7_keeps 40 = .ok (.dup, 1) := dk_89 (dk_at dksX7_keeps_1 16 rfl rfl)
theorem dX7_keeps_41 : decode cX7_keeps 41 = .ok (.getfield 343, 3) := dk_180 1 87 (dk_at dksX7_keeps_1 17 rfl rfl)
theorem dX7_keeps_44 : decode cX7_keeps 44 = .ok (.iconst 1, 1) := dk_4 (dk_at dksX7_keeps_1 20 rfl rfl)
theorem dX7_keeps_45 : decode cX7_keeps 45 = .ok (.isub, 1) := dk_100 (dk_at dksX7_keeps_1 21 rfl rfl)
theorem dX7_keeps_46 : decode cX7_keeps 46 = .ok (.putfield 343, 3) := dk_181 1 87 (dk_at dksX7_keeps_2 0 rfl rfl)
theorem dX7_keeps_49 : decode cX7_keeps 49 = .ok (.aload_n 0, 1) := dk_42 (dk_at dksX7_keeps_2 3 rfl rfl)
theorem dX7_keeps_50 : decode cX7_keeps 50 = .ok (.getfield 120, 3) := dk_180 0 120 (dk_at dksX7_keeps_2 4 rfl rfl)
theorem dX7_keeps_53 : decode cX7_keeps 53 = .ok (.iconst 0, 1) := dk_3 (dk_at dksX7_keeps_2 7 rfl rfl)
theorem dX7_keeps_54 : decode cX7_keeps 54 = .ok (.aload_n 0, 1) := dk_42 (dk_at dksX7_keeps_2 8 rfl rfl)
theorem dX7_keeps_55 : decode cX7_keeps 55 = .ok (.getfield 132, 3) := dk_180 0 132 (dk_at dksX7_keeps_2 9 rfl rfl)
theorem dX7_keeps_58 : decode cX7_keeps 58 = .ok (.bipush 25, 2) := dk_16 25 (dk_at dksX7_keeps_2 12 rfl rfl)
theorem dX7_keeps_60 : decode cX7_keeps 60 = .ok (.aload_n 0, 1) := dk_42 (dk_at dksX7_keeps_2 14 rfl rfl)
theorem dX7_keeps_61 : decode cX7_keeps 61 = .ok (.getfield 343, 3) := dk_180 1 87 (dk_at dksX7_keeps_2 15 rfl rfl)
theorem dX7_keeps_64 : decode cX7_keeps 64 = .ok (.imul, 1) := dk_104 (dk_at dksX7_keeps_2 18 rfl rfl)
theorem dX7_keeps_65 : decode cX7_keeps 65 = .ok (.invokestatic 405, 3) := dk_184 1 149 (dk_at dksX7_keeps_2 19 rfl rfl)
theorem dX7_keeps_68 : decode cX7_keeps 68 = .ok (.aload_n 0, 1) := dk_42 (dk_at dksX7_keeps_2 22 rfl rfl)
theorem dX7_keeps_69 : decode cX7_keeps 69 = .ok (.dup, 1) := dk_89 (dk_at dksX7_keeps_2 23 rfl rfl)
theorem dX7_keeps_70 : decode cX7_keeps 70 = .ok (.getfield 343, 3) := dk_180 1 87 (dk_at dksX7_keeps_3 0 rfl rfl)
theorem dX7_keeps_73 : decode cX7_keeps 73 = .ok (.iconst 1, 1) := dk_4 (dk_at dksX7_keeps_3 3 rfl rfl)
theorem dX7_keeps_74 : decode cX7_keeps 74 = .ok (.iadd, 1) := dk_96 (dk_at dksX7_keeps_3 4 rfl rfl)
theorem dX7_keeps_75 : decode cX7_keeps 75 = .ok (.putfield 343, 3) := dk_181 1 87 (dk_at dksX7_keeps_3 5 rfl rfl)
theorem dX7_keeps_78 : decode cX7_keeps 78 = .ok (.return_, 1) := dk_177 (dk_at dksX7_keeps_3 8 rfl rfl)
abbrev cX7_writes : ByteArray := prog_32_method_54_code
abbrev yX7_writes : MethodName := { cls := "WornSkinModel", name := "writes", desc := "(III)V" }
def dkwX7_writes_3 : List UInt8 := [167, 255, 188, 177]
abbrev dktX7_writes_3 : List UInt8 := dkwX7_writes_3 ++ []
def dkwX7_writes_2 : List UInt8 := [27, 96, 4, 96, 79, 42, 180, 0, 120, 7, 28, 96, 92, 46, 4, 21, 4, 120, 128, 79, 132, 4, 1]
abbrev dktX7_writes_2 : List UInt8 := dkwX7_writes_2 ++ dktX7_writes_3
def dkwX7_writes_1 : List UInt8 := [28, 104, 96, 21, 4, 96, 42, 180, 0, 120, 16, 7, 16, 6, 28, 104, 96, 21, 4, 96, 46, 16, 7, 104]
abbrev dktX7_writes_1 : List UInt8 := dkwX7_writes_1 ++ dktX7_writes_2
def dkwX7_writes_0 : List UInt8 := [29, 54, 4, 21, 4, 29, 42, 180, 0, 38, 27, 46, 96, 162, 0, 61, 42, 180, 0, 120, 16, 7, 16, 6]
abbrev dktX7_writes_0 : List UInt8 := dkwX7_writes_0 ++ dktX7_writes_1
theorem dksX7_writes_0 : cX7_writes.data.toList.drop 0 = dktX7_writes_0 := by decide +kernel
theorem dksX7_writes_1 : cX7_writes.data.toList.drop 24 = dktX7_writes_1 := dk_seg dksX7_writes_0 24 rfl rfl
theorem dksX7_writes_2 : cX7_writes.data.toList.drop 48 = dktX7_writes_2 := dk_seg dksX7_writes_1 24 rfl rfl
theorem dksX7_writes_3 : cX7_writes.data.toList.drop 71 = dktX7_writes_3 := dk_seg dksX7_writes_2 23 rfl rfl
theorem dX7_writes_0 : decode cX7_writes 0 = .ok (.iload_n 3, 1) := dk_29 (dk_at dksX7_writes_0 0 rfl rfl)
theorem dX7_writes_1 : decode cX7_writes 1 = .ok (.istore 4, 2) := dk_54 4 (dk_at dksX7_writes_0 1 rfl rfl)
theorem dX7_writes_3 : decode cX7_writes 3 = .ok (.iload 4, 2) := dk_21 4 (dk_at dksX7_writes_0 3 rfl rfl)
theorem dX7_writes_5 : decode cX7_writes 5 = .ok (.iload_n 3, 1) := dk_29 (dk_at dksX7_writes_0 5 rfl rfl)
theorem dX7_writes_6 : decode cX7_writes 6 = .ok (.aload_n 0, 1) := dk_42 (dk_at dksX7_writes_0 6 rfl rfl)
theorem dX7_writes_7 : decode cX7_writes 7 = .ok (.getfield 38, 3) := dk_180 0 38 (dk_at dksX7_writes_0 7 rfl rfl)
theorem dX7_writes_10 : decode cX7_writes 10 = .ok (.iload_n 1, 1) := dk_27 (dk_at dksX7_writes_0 10 rfl rfl)
theorem dX7_writes_11 : decode cX7_writes 11 = .ok (.iaload, 1) := dk_46 (dk_at dksX7_writes_0 11 rfl rfl)
theorem dX7_writes_12 : decode cX7_writes 12 = .ok (.iadd, 1) := dk_96 (dk_at dksX7_writes_0 12 rfl rfl)
theorem dX7_writes_13 : decode cX7_writes 13 = .ok (.if_icmp .ge 61, 3) := dk_162 0 61 (dk_at dksX7_writes_0 13 rfl rfl)
theorem dX7_writes_16 : decode cX7_writes 16 = .ok (.aload_n 0, 1) := dk_42 (dk_at dksX7_writes_0 16 rfl rfl)
theorem dX7_writes_17 : decode cX7_writes 17 = .ok (.getfield 120, 3) := dk_180 0 120 (dk_at dksX7_writes_0 17 rfl rfl)
theorem dX7_writes_20 : decode cX7_writes 20 = .ok (.bipush 7, 2) := dk_16 7 (dk_at dksX7_writes_0 20 rfl rfl)
theorem dX7_writes_22 : decode cX7_writes 22 = .ok (.bipush 6, 2) := dk_16 6 (dk_at dksX7_writes_0 22 rfl rfl)
theorem dX7_writes_24 : decode cX7_writes 24 = .ok (.iload_n 2, 1) := dk_28 (dk_at dksX7_writes_1 0 rfl rfl)
theorem dX7_writes_25 : decode cX7_writes 25 = .ok (.imul, 1) := dk_104 (dk_at dksX7_writes_1 1 rfl rfl)
theorem dX7_writes_26 : decode cX7_writes 26 = .ok (.iadd, 1) := dk_96 (dk_at dksX7_writes_1 2 rfl rfl)
theorem dX7_writes_27 : decode cX7_writes 27 = .ok (.iload 4, 2) := dk_21 4 (dk_at dksX7_writes_1 3 rfl rfl)
theorem dX7_writes_29 : decode cX7_writes 29 = .ok (.iadd, 1) := dk_96 (dk_at dksX7_writes_1 5 rfl rfl)
theorem dX7_writes_30 : decode cX7_writes 30 = .ok (.aload_n 0, 1) := dk_42 (dk_at dksX7_writes_1 6 rfl rfl)
theorem dX7_writes_31 : decode cX7_writes 31 = .ok (.getfield 120, 3) := dk_180 0 120 (dk_at dksX7_writes_1 7 rfl rfl)
theorem dX7_writes_34 : decode cX7_writes 34 = .ok (.bipush 7, 2) := dk_16 7 (dk_at dksX7_writes_1 10 rfl rfl)
theorem dX7_writes_36 : decode cX7_writes 36 = .ok (.bipush 6, 2) := dk_16 6 (dk_at dksX7_writes_1 12 rfl rfl)
theorem dX7_writes_38 : decode cX7_writes 38 = .ok (.iload_n 2, 1) := dk_28 (dk_at dksX7_writes_1 14 rfl rfl)
theorem dX7_writes_39 : decode cX7_writes 39 = .ok (.imul, 1) := dk_104 (dk_at dksX7_writes_1 15 rfl rfl)
theorem dX7_writes_40 : decode cX7_writes 40 = .ok (.iadd, 1) := dk_96 (dk_at dksX7_writes_1 16 rfl rfl)
theorem dX7_writes_41 : decode cX7_writes 41 = .ok (.iload 4, 2) := dk_21 4 (dk_at dksX7_writes_1 17 rfl rfl)
theorem dX7_writes_43 : decode cX7_writes 43 = .ok (.iadd, 1) := dk_96 (dk_at dksX7_writes_1 19 rfl rfl)
theorem dX7_writes_44 : decode cX7_writes 44 = .ok (.iaload, 1) := dk_46 (dk_at dksX7_writes_1 20 rfl rfl)
theorem dX7_writes_45 : decode cX7_writes 45 = .ok (.bipush 7, 2) := dk_16 7 (dk_at dksX7_writes_1 21 rfl rfl)
theorem dX7_writes_47 : decode cX7_writes 47 = .ok (.imul, 1) := dk_104 (dk_at dksX7_writes_1 23 rfl rfl)
theorem dX7_writes_48 : decode cX7_writes 48 = .ok (.iload_n 1, 1) := dk_27 (dk_at dksX7_writes_2 0 rfl rfl)
theorem dX7_writes_49 : decode cX7_writes 49 = .ok (.iadd, 1) := dk_96 (dk_at dksX7_writes_2 1 rfl rfl)
theorem dX7_writes_50 : decode cX7_writes 50 = .ok (.iconst 1, 1) := dk_4 (dk_at dksX7_writes_2 2 rfl rfl)
theorem dX7_writes_51 : decode cX7_writes 51 = .ok (.iadd, 1) := dk_96 (dk_at dksX7_writes_2 3 rfl rfl)
theorem dX7_writes_52 : decode cX7_writes 52 = .ok (.iastore, 1) := dk_79 (dk_at dksX7_writes_2 4 rfl rfl)
theorem dX7_writes_53 : decode cX7_writes 53 = .ok (.aload_n 0, 1) := dk_42 (dk_at dksX7_writes_2 5 rfl rfl)
theorem dX7_writes_54 : decode cX7_writes 54 = .ok (.getfield 120, 3) := dk_180 0 120 (dk_at dksX7_writes_2 6 rfl rfl)
theorem dX7_writes_57 : decode cX7_writes 57 = .ok (.iconst 4, 1) := dk_7 (dk_at dksX7_writes_2 9 rfl rfl)
theorem dX7_writes_58 : decode cX7_writes 58 = .ok (.iload_n 2, 1) := dk_28 (dk_at dksX7_writes_2 10 rfl rfl)
theorem dX7_writes_59 : decode cX7_writes 59 = .ok (.iadd, 1) := dk_96 (dk_at dksX7_writes_2 11 rfl rfl)
theorem dX7_writes_60 : decode cX7_writes 60 = .ok (.dup2, 1) := dk_92 (dk_at dksX7_writes_2 12 rfl rfl)
theorem dX7_writes_61 : decode cX7_writes 61 = .ok (.iaload, 1) := dk_46 (dk_at dksX7_writes_2 13 rfl rfl)
theorem dX7_writes_62 : decode cX7_writes 62 = .ok (.iconst 1, 1) := dk_4 (dk_at dksX7_writes_2 14 rfl rfl)
theorem dX7_writes_63 : decode cX7_writes 63 = .ok (.iload 4, 2) := dk_21 4 (dk_at dksX7_writes_2 15 rfl rfl)
theorem dX7_writes_65 : decode cX7_writes 65 = .ok (.ishl, 1) := dk_120 (dk_at dksX7_writes_2 17 rfl rfl)
theorem dX7_writes_66 : decode cX7_writes 66 = .ok (.ior, 1) := dk_128 (dk_at dksX7_writes_2 18 rfl rfl)
theorem dX7_writes_67 : decode cX7_writes 67 = .ok (.iastore, 1) := dk_79 (dk_at dksX7_writes_2 19 rfl rfl)
theorem dX7_writes_68 : decode cX7_writes 68 = .ok (.iinc 4 1, 3) := dk_132 4 1 (dk_at dksX7_writes_2 20 rfl rfl)
theorem dX7_writes_71 : decode cX7_writes 71 = .ok (.goto (-68), 3) := dk_167 255 188 (dk_at dksX7_writes_3 0 rfl rfl)
theorem dX7_writes_74 : decode cX7_writes 74 = .ok (.return_, 1) := dk_177 (dk_at dksX7_writes_3 3 rfl rfl)
abbrev cX7_write : ByteArray := prog_32_method_67_code
abbrev yX7_write : MethodName := { cls := "WornSkinModel", name := "write", desc := "(III)Z" }
def dkwX7_write_1 : List UInt8 := [28, 29, 182, 1, 122, 154, 0, 5, 3, 172, 42, 182, 1, 153, 42, 27, 28, 29, 182, 1, 156, 4, 172]
abbrev dktX7_write_1 : List UInt8 := dkwX7_write_1 ++ []
def dkwX7_write_0 : List UInt8 := [42, 3, 181, 0, 144, 42, 27, 182, 1, 131, 153, 0, 22, 42, 28, 29, 182, 1, 140, 153, 0, 13, 42, 27]
abbrev dktX7_write_0 : List UInt8 := dkwX7_write_0 ++ dktX7_write_1
theorem dksX7_write_0 : cX7_write.data.toList.drop 0 = dktX7_write_0 := by decide +kernel
theorem dksX7_write_1 : cX7_write.data.toList.drop 24 = dktX7_write_1 := dk_seg dksX7_write_0 24 rfl rfl
theorem dX7_write_0 : decode cX7_write 0 = .ok (.aload_n 0, 1) := dk_42 (dk_at dksX7_write_0 0 rfl rfl)
theorem dX7_write_1 : decode cX7_write 1 = .ok (.iconst 0, 1) := dk_3 (dk_at dksX7_write_0 1 rfl rfl)
theorem dX7_write_2 : decode cX7_write 2 = .ok (.putfield 144, 3) := dk_181 0 144 (dk_at dksX7_write_0 2 rfl rfl)
theorem dX7_write_5 : decode cX7_write 5 = .ok (.aload_n 0, 1) := dk_42 (dk_at dksX7_write_0 5 rfl rfl)
theorem dX7_write_6 : decode cX7_write 6 = .ok (.iload_n 1, 1) := dk_27 (dk_at dksX7_write_0 6 rfl rfl)
theorem dX7_write_7 : decode cX7_write 7 = .ok (.invokevirtual 387, 3) := dk_182 1 131 (dk_at dksX7_write_0 7 rfl rfl)
theorem dX7_write_10 : decode cX7_write 10 = .ok (.ifCond .eq 22, 3) := dk_153 0 22 (dk_at dksX7_write_0 10 rfl rfl)
theorem dX7_write_13 : decode cX7_write 13 = .ok (.aload_n 0, 1) := dk_42 (dk_at dksX7_write_0 13 rfl rfl)
theorem dX7_write_14 : decode cX7_write 14 = .ok (.iload_n 2, 1) := dk_28 (dk_at dksX7_write_0 14 rfl rfl)
theorem dX7_write_15 : decode cX7_write 15 = .ok (.iload_n 3, 1) := dk_29 (dk_at dksX7_write_0 15 rfl rfl)
theorem dX7_write_16 : decode cX7_write 16 = .ok (.invokevirtual 396, 3) := dk_182 1 140 (dk_at dksX7_write_0 16 rfl rfl)
theorem dX7_write_19 : decode cX7_write 19 = .ok (.ifCond .eq 13, 3) := dk_153 0 13 (dk_at dksX7_write_0 19 rfl rfl)
theorem dX7_write_22 : decode cX7_write 22 = .ok (.aload_n 0, 1) := dk_42 (dk_at dksX7_write_0 22 rfl rfl)
theorem dX7_write_23 : decode cX7_write 23 = .ok (.iload_n 1, 1) := dk_27 (dk_at dksX7_write_0 23 rfl rfl)
theorem dX7_write_24 : decode cX7_write 24 = .ok (.iload_n 2, 1) := dk_28 (dk_at dksX7_write_1 0 rfl rfl)
theorem dX7_write_25 : decode cX7_write 25 = .ok (.iload_n 3, 1) := dk_29 (dk_at dksX7_write_1 1 rfl rfl)
theorem dX7_write_26 : decode cX7_write 26 = .ok (.invokevirtual 378, 3) := dk_182 1 122 (dk_at dksX7_write_1 2 rfl rfl)
theorem dX7_write_29 : decode cX7_write 29 = .ok (.ifCond .ne 5, 3) := dk_154 0 5 (dk_at dksX7_write_1 5 rfl rfl)
theorem dX7_write_32 : decode cX7_write 32 = .ok (.iconst 0, 1) := dk_3 (dk_at dksX7_write_1 8 rfl rfl)
theorem dX7_write_33 : decode cX7_write 33 = .ok (.ireturn, 1) := dk_172 (dk_at dksX7_write_1 9 rfl rfl)
theorem dX7_write_34 : decode cX7_write 34 = .ok (.aload_n 0, 1) := dk_42 (dk_at dksX7_write_1 10 rfl rfl)
theorem dX7_write_35 : decode cX7_write 35 = .ok (.invokevirtual 409, 3) := dk_182 1 153 (dk_at dksX7_write_1 11 rfl rfl)
theorem dX7_write_38 : decode cX7_write 38 = .ok (.aload_n 0, 1) := dk_42 (dk_at dksX7_write_1 14 rfl rfl)
theorem dX7_write_39 : decode cX7_write 39 = .ok (.iload_n 1, 1) := dk_27 (dk_at dksX7_write_1 15 rfl rfl)
theorem dX7_write_40 : decode cX7_write 40 = .ok (.iload_n 2, 1) := dk_28 (dk_at dksX7_write_1 16 rfl rfl)
theorem dX7_write_41 : decode cX7_write 41 = .ok (.iload_n 3, 1) := dk_29 (dk_at dksX7_write_1 17 rfl rfl)
theorem dX7_write_42 : decode cX7_write 42 = .ok (.invokevirtual 412, 3) := dk_182 1 156 (dk_at dksX7_write_1 18 rfl rfl)
theorem dX7_write_45 : decode cX7_write 45 = .ok (.iconst 1, 1) := dk_4 (dk_at dksX7_write_1 21 rfl rfl)
theorem dX7_write_46 : decode cX7_write 46 = .ok (.ireturn, 1) := dk_172 (dk_at dksX7_write_1 22 rfl rfl)
abbrev cX7_scrapedBy : ByteArray := prog_32_method_55_code
abbrev yX7_scrapedBy : MethodName := { cls := "WornSkinModel", name := "scrapedBy", desc := "(II)I" }
def dkwX7_scrapedBy_4 : List UInt8 := [132, 6, 1, 167, 255, 179, 29, 154, 0, 7, 3, 167, 0, 10, 4, 21, 4, 96, 21, 5, 96, 172]
abbrev dktX7_scrapedBy_4 : List UInt8 := dkwX7_scrapedBy_4 ++ []
def dkwX7_scrapedBy_3 : List UInt8 := [54, 4, 21, 5, 42, 180, 0, 32, 21, 7, 46, 6, 160, 0, 7, 4, 167, 0, 4, 3, 128, 54, 5]
abbrev dktX7_scrapedBy_3 : List UInt8 := dkwX7_scrapedBy_3 ++ dktX7_scrapedBy_4
def dkwX7_scrapedBy_2 : List UInt8 := [104, 96, 21, 6, 96, 46, 16, 7, 112, 4, 100, 54, 7, 21, 4, 42, 180, 0, 35, 21, 7, 46, 128]
abbrev dktX7_scrapedBy_2 : List UInt8 := dkwX7_scrapedBy_2 ++ dktX7_scrapedBy_3
def dkwX7_scrapedBy_1 : List UInt8 := [162, 0, 76, 29, 21, 6, 122, 4, 126, 154, 0, 6, 167, 0, 58, 42, 180, 0, 120, 16, 7, 16, 6, 27]
abbrev dktX7_scrapedBy_1 : List UInt8 := dkwX7_scrapedBy_1 ++ dktX7_scrapedBy_2
def dkwX7_scrapedBy_0 : List UInt8 := [42, 180, 0, 120, 7, 27, 96, 46, 28, 126, 62, 3, 54, 4, 3, 54, 5, 3, 54, 6, 21, 6, 16, 6]
abbrev dktX7_scrapedBy_0 : List UInt8 := dkwX7_scrapedBy_0 ++ dktX7_scrapedBy_1
theorem dksX7_scrapedBy_0 : cX7_scrapedBy.data.toList.drop 0 = dktX7_scrapedBy_0 := by decide +kernel
theorem dksX7_scrapedBy_1 : cX7_scrapedBy.data.toList.drop 24 = dktX7_scrapedBy_1 := dk_seg dksX7_scrapedBy_0 24 rfl rfl
theorem dksX7_scrapedBy_2 : cX7_scrapedBy.data.toList.drop 48 = dktX7_scrapedBy_2 := dk_seg dksX7_scrapedBy_1 24 rfl rfl
theorem dksX7_scrapedBy_3 : cX7_scrapedBy.data.toList.drop 71 = dktX7_scrapedBy_3 := dk_seg dksX7_scrapedBy_2 23 rfl rfl
theorem dksX7_scrapedBy_4 : cX7_scrapedBy.data.toList.drop 94 = dktX7_scrapedBy_4 := dk_seg dksX7_scrapedBy_3 23 rfl rfl
theorem dX7_scrapedBy_0 : decode cX7_scrapedBy 0 = .ok (.aload_n 0, 1) := dk_42 (dk_at dksX7_scrapedBy_0 0 rfl rfl)
theorem dX7_scrapedBy_1 : decode cX7_scrapedBy 1 = .ok (.getfield 120, 3) := dk_180 0 120 (dk_at dksX7_scrapedBy_0 1 rfl rfl)
theorem dX7_scrapedBy_4 : decode cX7_scrapedBy 4 = .ok (.iconst 4, 1) := dk_7 (dk_at dksX7_scrapedBy_0 4 rfl rfl)
theorem dX7_scrapedBy_5 : decode cX7_scrapedBy 5 = .ok (.iload_n 1, 1) := dk_27 (dk_at dksX7_scrapedBy_0 5 rfl rfl)
theorem dX7_scrapedBy_6 : decode cX7_scrapedBy 6 = .ok (.iadd, 1) := dk_96 (dk_at dksX7_scrapedBy_0 6 rfl rfl)
theorem dX7_scrapedBy_7 : decode cX7_scrapedBy 7 = .ok (.iaload, 1) := dk_46 (dk_at dksX7_scrapedBy_0 7 rfl rfl)
theorem dX7_scrapedBy_8 : decode cX7_scrapedBy 8 = .ok (.iload_n 2, 1) := dk_28 (dk_at dksX7_scrapedBy_0 8 rfl rfl)
theorem dX7_scrapedBy_9 : decode cX7_scrapedBy 9 = .ok (.iand, 1) := dk_126 (dk_at dksX7_scrapedBy_0 9 rfl rfl)
theorem dX7_scrapedBy_10 : decode cX7_scrapedBy 10 = .ok (.istore_n 3, 1) := dk_62 (dk_at dksX7_scrapedBy_0 10 rfl rfl)
theorem dX7_scrapedBy_11 : decode cX7_scrapedBy 11 = .ok (.iconst 0, 1) := dk_3 (dk_at dksX7_scrapedBy_0 11 rfl rfl)
theorem dX7_scrapedBy_12 : decode cX7_scrapedBy 12 = .ok (.istore 4, 2) := dk_54 4 (dk_at dksX7_scrapedBy_0 12 rfl rfl)
theorem dX7_scrapedBy_14 : decode cX7_scrapedBy 14 = .ok (.iconst 0, 1) := dk_3 (dk_at dksX7_scrapedBy_0 14 rfl rfl)
theorem dX7_scrapedBy_15 : decode cX7_scrapedBy 15 = .ok (.istore 5, 2) := dk_54 5 (dk_at dksX7_scrapedBy_0 15 rfl rfl)
theorem dX7_scrapedBy_17 : decode cX7_scrapedBy 17 = .ok (.iconst 0, 1) := dk_3 (dk_at dksX7_scrapedBy_0 17 rfl rfl)
theorem dX7_scrapedBy_18 : decode cX7_scrapedBy 18 = .ok (.istore 6, 2) := dk_54 6 (dk_at dksX7_scrapedBy_0 18 rfl rfl)
theorem dX7_scrapedBy_20 : decode cX7_scrapedBy 20 = .ok (.iload 6, 2) := dk_21 6 (dk_at dksX7_scrapedBy_0 20 rfl rfl)
theorem dX7_scrapedBy_22 : decode cX7_scrapedBy 22 = .ok (.bipush 6, 2) := dk_16 6 (dk_at dksX7_scrapedBy_0 22 rfl rfl)
theorem dX7_scrapedBy_24 : decode cX7_scrapedBy 24 = .ok (.if_icmp .ge 76, 3) := dk_162 0 76 (dk_at dksX7_scrapedBy_1 0 rfl rfl)
theorem dX7_scrapedBy_27 : decode cX7_scrapedBy 27 = .ok (.iload_n 3, 1) := dk_29 (dk_at dksX7_scrapedBy_1 3 rfl rfl)
theorem dX7_scrapedBy_28 : decode cX7_scrapedBy 28 = .ok (.iload 6, 2) := dk_21 6 (dk_at dksX7_scrapedBy_1 4 rfl rfl)
theorem dX7_scrapedBy_30 : decode cX7_scrapedBy 30 = .ok (.ishr, 1) := dk_122 (dk_at dksX7_scrapedBy_1 6 rfl rfl)
theorem dX7_scrapedBy_31 : decode cX7_scrapedBy 31 = .ok (.iconst 1, 1) := dk_4 (dk_at dksX7_scrapedBy_1 7 rfl rfl)
theorem dX7_scrapedBy_32 : decode cX7_scrapedBy 32 = .ok (.iand, 1) := dk_126 (dk_at dksX7_scrapedBy_1 8 rfl rfl)
theorem dX7_scrapedBy_33 : decode cX7_scrapedBy 33 = .ok (.ifCond .ne 6, 3) := dk_154 0 6 (dk_at dksX7_scrapedBy_1 9 rfl rfl)
theorem dX7_scrapedBy_36 : decode cX7_scrapedBy 36 = .ok (.goto 58, 3) := dk_167 0 58 (dk_at dksX7_scrapedBy_1 12 rfl rfl)
theorem dX7_scrapedBy_39 : decode cX7_scrapedBy 39 = .ok (.aload_n 0, 1) := dk_42 (dk_at dksX7_scrapedBy_1 15 rfl rfl)
theorem dX7_scrapedBy_40 : decode cX7_scrapedBy 40 = .ok (.getfield 120, 3) := dk_180 0 120 (dk_at dksX7_scrapedBy_1 16 rfl rfl)
theorem dX7_scrapedBy_43 : decode cX7_scrapedBy 43 = .ok (.bipush 7, 2) := dk_16 7 (dk_at dksX7_scrapedBy_1 19 rfl rfl)
theorem dX7_scrapedBy_45 : decode cX7_scrapedBy 45 = .ok (.bipush 6, 2) := dk_16 6 (dk_at dksX7_scrapedBy_1 21 rfl rfl)
theorem dX7_scrapedBy_47 : decode cX7_scrapedBy 47 = .ok (.iload_n 1, 1) := dk_27 (dk_at dksX7_scrapedBy_1 23 rfl rfl)
theorem dX7_scrapedBy_48 : decode cX7_scrapedBy 48 = .ok (.imul, 1) := dk_104 (dk_at dksX7_scrapedBy_2 0 rfl rfl)
theorem dX7_scrapedBy_49 : decode cX7_scrapedBy 49 = .ok (.iadd, 1) := dk_96 (dk_at dksX7_scrapedBy_2 1 rfl rfl)
theorem dX7_scrapedBy_50 : decode cX7_scrapedBy 50 = .ok (.iload 6, 2) := dk_21 6 (dk_at dksX7_scrapedBy_2 2 rfl rfl)
theorem dX7_scrapedBy_52 : decode cX7_scrapedBy 52 = .ok (.iadd, 1) := dk_96 (dk_at dksX7_scrapedBy_2 4 rfl rfl)
theorem dX7_scrapedBy_53 : decode cX7_scrapedBy 53 = .ok (.iaload, 1) := dk_46 (dk_at dksX7_scrapedBy_2 5 rfl rfl)
theorem dX7_scrapedBy_54 : decode cX7_scrapedBy 54 = .ok (.bipush 7, 2) := dk_16 7 (dk_at dksX7_scrapedBy_2 6 rfl rfl)
theorem dX7_scrapedBy_56 : decode cX7_scrapedBy 56 = .ok (.irem, 1) := dk_112 (dk_at dksX7_scrapedBy_2 8 rfl rfl)
theorem dX7_scrapedBy_57 : decode cX7_scrapedBy 57 = .ok (.iconst 1, 1) := dk_4 (dk_at dksX7_scrapedBy_2 9 rfl rfl)
theorem dX7_scrapedBy_58 : decode cX7_scrapedBy 58 = .ok (.isub, 1) := dk_100 (dk_at dksX7_scrapedBy_2 10 rfl rfl)
theorem dX7_scrapedBy_59 : decode cX7_scrapedBy 59 = .ok (.istore 7, 2) := dk_54 7 (dk_at dksX7_scrapedBy_2 11 rfl rfl)
theorem dX7_scrapedBy_61 : decode cX7_scrapedBy 61 = .ok (.iload 4, 2) := dk_21 4 (dk_at dksX7_scrapedBy_2 13 rfl rfl)
theorem dX7_scrapedBy_63 : decode cX7_scrapedBy 63 = .ok (.aload_n 0, 1) := dk_42 (dk_at dksX7_scrapedBy_2 15 rfl rfl)
theorem dX7_scrapedBy_64 : decode cX7_scrapedBy 64 = .ok (.getfield 35, 3) := dk_180 0 35 (dk_at dksX7_scrapedBy_2 16 rfl rfl)
theorem dX7_scrapedBy_67 : decode cX7_scrapedBy 67 = .ok (.iload 7, 2) := dk_21 7 (dk_at dksX7_scrapedBy_2 19 rfl rfl)
theorem dX7_scrapedBy_69 : decode cX7_scrapedBy 69 = .ok (.iaload, 1) := dk_46 (dk_at dksX7_scrapedBy_2 21 rfl rfl)
theorem dX7_scrapedBy_70 : decode cX7_scrapedBy 70 = .ok (.ior, 1) := dk_128 (dk_at dksX7_scrapedBy_2 22 rfl rfl)
theorem dX7_scrapedBy_71 : decode cX7_scrapedBy 71 = .ok (.istore 4, 2) := dk_54 4 (dk_at dksX7_scrapedBy_3 0 rfl rfl)
theorem dX7_scrapedBy_73 : decode cX7_scrapedBy 73 = .ok (.iload 5, 2) := dk_21 5 (dk_at dksX7_scrapedBy_3 2 rfl rfl)
theorem dX7_scrapedBy_75 : decode cX7_scrapedBy 75 = .ok (.aload_n 0, 1) := dk_42 (dk_at dksX7_scrapedBy_3 4 rfl rfl)
theorem dX7_scrapedBy_76 : decode cX7_scrapedBy 76 = .ok (.getfield 32, 3) := dk_180 0 32 (dk_at dksX7_scrapedBy_3 5 rfl rfl)
theorem dX7_scrapedBy_79 : decode cX7_scrapedBy 79 = .ok (.iload 7, 2) := dk_21 7 (dk_at dksX7_scrapedBy_3 8 rfl rfl)
theorem dX7_scrapedBy_81 : decode cX7_scrapedBy 81 = .ok (.iaload, 1) := dk_46 (dk_at dksX7_scrapedBy_3 10 rfl rfl)
theorem dX7_scrapedBy_82 : decode cX7_scrapedBy 82 = .ok (.iconst 3, 1) := dk_6 (dk_at dksX7_scrapedBy_3 11 rfl rfl)
theorem dX7_scrapedBy_83 : decode cX7_scrapedBy 83 = .ok (.if_icmp .ne 7, 3) := dk_160 0 7 (dk_at dksX7_scrapedBy_3 12 rfl rfl)
theorem dX7_scrapedBy_86 : decode cX7_scrapedBy 86 = .ok (.iconst 1, 1) := dk_4 (dk_at dksX7_scrapedBy_3 15 rfl rfl)
theorem dX7_scrapedBy_87 : decode cX7_scrapedBy 87 = .ok (.goto 4, 3) := dk_167 0 4 (dk_at dksX7_scrapedBy_3 16 rfl rfl)
theorem dX7_scrapedBy_90 : decode cX7_scrapedBy 90 = .ok (.iconst 0, 1) := dk_3 (dk_at dksX7_scrapedBy_3 19 rfl rfl)
theorem dX7_scrapedBy_91 : decode cX7_scrapedBy 91 = .ok (.ior, 1) := dk_128 (dk_at dksX7_scrapedBy_3 20 rfl rfl)
theorem dX7_scrapedBy_92 : decode cX7_scrapedBy 92 = .ok (.istore 5, 2) := dk_54 5 (dk_at dksX7_scrapedBy_3 21 rfl rfl)
theorem dX7_scrapedBy_94 : decode cX7_scrapedBy 94 = .ok (.iinc 6 1, 3) := dk_132 6 1 (dk_at dksX7_scrapedBy_4 0 rfl rfl)
theorem dX7_scrapedBy_97 : decode cX7_scrapedBy 97 = .ok (.goto (-77), 3) := dk_167 255 179 (dk_at dksX7_scrapedBy_4 3 rfl rfl)
theorem dX7_scrapedBy_100 : decode cX7_scrapedBy 100 = .ok (.iload_n 3, 1) := dk_29 (dk_at dksX7_scrapedBy_4 6 rfl rfl)
theorem dX7_scrapedBy_101 : decode cX7_scrapedBy 101 = .ok (.ifCond .ne 7, 3) := dk_154 0 7 (dk_at dksX7_scrapedBy_4 7 rfl rfl)
theorem dX7_scrapedBy_104 : decode cX7_scrapedBy 104 = .ok (.iconst 0, 1) := dk_3 (dk_at dksX7_scrapedBy_4 10 rfl rfl)
theorem dX7_scrapedBy_105 : decode cX7_scrapedBy 105 = .ok (.goto 10, 3) := dk_167 0 10 (dk_at dksX7_scrapedBy_4 11 rfl rfl)
theorem dX7_scrapedBy_108 : decode cX7_scrapedBy 108 = .ok (.iconst 1, 1) := dk_4 (dk_at dksX7_scrapedBy_4 14 rfl rfl)
theorem dX7_scrapedBy_109 : decode cX7_scrapedBy 109 = .ok (.iload 4, 2) := dk_21 4 (dk_at dksX7_scrapedBy_4 15 rfl rfl)
theorem dX7_scrapedBy_111 : decode cX7_scrapedBy 111 = .ok (.iadd, 1) := dk_96 (dk_at dksX7_scrapedBy_4 17 rfl rfl)
theorem dX7_scrapedBy_112 : decode cX7_scrapedBy 112 = .ok (.iload 5, 2) := dk_21 5 (dk_at dksX7_scrapedBy_4 18 rfl rfl)
theorem dX7_scrapedBy_114 : decode cX7_scrapedBy 114 = .ok (.iadd, 1) := dk_96 (dk_at dksX7_scrapedBy_4 20 rfl rfl)
theorem dX7_scrapedBy_115 : decode cX7_scrapedBy 115 = .ok (.ireturn, 1) := dk_172 (dk_at dksX7_scrapedBy_4 21 rfl rfl)
abbrev cX7_scrapes : ByteArray := prog_32_method_56_code
abbrev yX7_scrapes : MethodName := { cls := "WornSkinModel", name := "scrapes", desc := "(II)V" }
def dkwX7_scrapes_3 : List UInt8 := [180, 0, 120, 16, 7, 16, 6, 27, 104, 96, 29, 96, 3, 79, 132, 3, 1, 167, 255, 232, 177]
abbrev dktX7_scrapes_3 : List UInt8 := dkwX7_scrapes_3 ++ []
def dkwX7_scrapes_2 : List UInt8 := [27, 96, 3, 79, 42, 180, 0, 120, 7, 27, 96, 3, 79, 3, 62, 29, 16, 6, 162, 0, 24, 42]
abbrev dktX7_scrapes_2 : List UInt8 := dkwX7_scrapes_2 ++ dktX7_scrapes_3
def dkwX7_scrapes_1 : List UInt8 := [92, 46, 28, 2, 130, 126, 79, 42, 180, 0, 120, 4, 27, 96, 46, 158, 0, 4, 177, 42, 180, 0, 120, 4]
abbrev dktX7_scrapes_1 : List UInt8 := dkwX7_scrapes_1 ++ dktX7_scrapes_2
def dkwX7_scrapes_0 : List UInt8 := [42, 180, 0, 120, 4, 27, 96, 92, 46, 42, 27, 28, 182, 1, 118, 100, 79, 42, 180, 0, 120, 7, 27, 96]
abbrev dktX7_scrapes_0 : List UInt8 := dkwX7_scrapes_0 ++ dktX7_scrapes_1
theorem dksX7_scrapes_0 : cX7_scrapes.data.toList.drop 0 = dktX7_scrapes_0 := by decide +kernel
theorem dksX7_scrapes_1 : cX7_scrapes.data.toList.drop 24 = dktX7_scrapes_1 := dk_seg dksX7_scrapes_0 24 rfl rfl
theorem dksX7_scrapes_2 : cX7_scrapes.data.toList.drop 48 = dktX7_scrapes_2 := dk_seg dksX7_scrapes_1 24 rfl rfl
theorem dksX7_scrapes_3 : cX7_scrapes.data.toList.drop 70 = dktX7_scrapes_3 := dk_seg dksX7_scrapes_2 22 rfl rfl
theorem dX7_scrapes_0 : decode cX7_scrapes 0 = .ok (.aload_n 0, 1) := dk_42 (dk_at dksX7_scrapes_0 0 rfl rfl)
theorem dX7_scrapes_1 : decode cX7_scrapes 1 = .ok (.getfield 120, 3) := dk_180 0 120 (dk_at dksX7_scrapes_0 1 rfl rfl)
theorem dX7_scrapes_4 : decode cX7_scrapes 4 = .ok (.iconst 1, 1) := dk_4 (dk_at dksX7_scrapes_0 4 rfl rfl)
theorem dX7_scrapes_5 : decode cX7_scrapes 5 = .ok (.iload_n 1, 1) := dk_27 (dk_at dksX7_scrapes_0 5 rfl rfl)
theorem dX7_scrapes_6 : decode cX7_scrapes 6 = .ok (.iadd, 1) := dk_96 (dk_at dksX7_scrapes_0 6 rfl rfl)
theorem dX7_scrapes_7 : decode cX7_scrapes 7 = .ok (.dup2, 1) := dk_92 (dk_at dksX7_scrapes_0 7 rfl rfl)
theorem dX7_scrapes_8 : decode cX7_scrapes 8 = .ok (.iaload, 1) := dk_46 (dk_at dksX7_scrapes_0 8 rfl rfl)
theorem dX7_scrapes_9 : decode cX7_scrapes 9 = .ok (.aload_n 0, 1) := dk_42 (dk_at dksX7_scrapes_0 9 rfl rfl)
theorem dX7_scrapes_10 : decode cX7_scrapes 10 = .ok (.iload_n 1, 1) := dk_27 (dk_at dksX7_scrapes_0 10 rfl rfl)
theorem dX7_scrapes_11 : decode cX7_scrapes 11 = .ok (.iload_n 2, 1) := dk_28 (dk_at dksX7_scrapes_0 11 rfl rfl)
theorem dX7_scrapes_12 : decode cX7_scrapes 12 = .ok (.invokevirtual 374, 3) := dk_182 1 118 (dk_at dksX7_scrapes_0 12 rfl rfl)
theorem dX7_scrapes_15 : decode cX7_scrapes 15 = .ok (.isub, 1) := dk_100 (dk_at dksX7_scrapes_0 15 rfl rfl)
theorem dX7_scrapes_16 : decode cX7_scrapes 16 = .ok (.iastore, 1) := dk_79 (dk_at dksX7_scrapes_0 16 rfl rfl)
theorem dX7_scrapes_17 : decode cX7_scrapes 17 = .ok (.aload_n 0, 1) := dk_42 (dk_at dksX7_scrapes_0 17 rfl rfl)
theorem dX7_scrapes_18 : decode cX7_scrapes 18 = .ok (.getfield 120, 3) := dk_180 0 120 (dk_at dksX7_scrapes_0 18 rfl rfl)
theorem dX7_scrapes_21 : decode cX7_scrapes 21 = .ok (.iconst 4, 1) := dk_7 (dk_at dksX7_scrapes_0 21 rfl rfl)
theorem dX7_scrapes_22 : decode cX7_scrapes 22 = .ok (.iload_n 1, 1) := dk_27 (dk_at dksX7_scrapes_0 22 rfl rfl)
theorem dX7_scrapes_23 : decode cX7_scrapes 23 = .ok (.iadd, 1) := dk_96 (dk_at dksX7_scrapes_0 23 rfl rfl)
theorem dX7_scrapes_24 : decode cX7_scrapes 24 = .ok (.dup2, 1) := dk_92 (dk_at dksX7_scrapes_1 0 rfl rfl)
theorem dX7_scrapes_25 : decode cX7_scrapes 25 = .ok (.iaload, 1) := dk_46 (dk_at dksX7_scrapes_1 1 rfl rfl)
theorem dX7_scrapes_26 : decode cX7_scrapes 26 = .ok (.iload_n 2, 1) := dk_28 (dk_at dksX7_scrapes_1 2 rfl rfl)
theorem dX7_scrapes_27 : decode cX7_scrapes 27 = .ok (.iconst (-1), 1) := dk_2 (dk_at dksX7_scrapes_1 3 rfl rfl)
theorem dX7_scrapes_28 : decode cX7_scrapes 28 = .ok (.ixor, 1) := dk_130 (dk_at dksX7_scrapes_1 4 rfl rfl)
theorem dX7_scrapes_29 : decode cX7_scrapes 29 = .ok (.iand, 1) := dk_126 (dk_at dksX7_scrapes_1 5 rfl rfl)
theorem dX7_scrapes_30 : decode cX7_scrapes 30 = .ok (.iastore, 1) := dk_79 (dk_at dksX7_scrapes_1 6 rfl rfl)
theorem dX7_scrapes_31 : decode cX7_scrapes 31 = .ok (.aload_n 0, 1) := dk_42 (dk_at dksX7_scrapes_1 7 rfl rfl)
theorem dX7_scrapes_32 : decode cX7_scrapes 32 = .ok (.getfield 120, 3) := dk_180 0 120 (dk_at dksX7_scrapes_1 8 rfl rfl)
theorem dX7_scrapes_35 : decode cX7_scrapes 35 = .ok (.iconst 1, 1) := dk_4 (dk_at dksX7_scrapes_1 11 rfl rfl)
theorem dX7_scrapes_36 : decode cX7_scrapes 36 = .ok (.iload_n 1, 1) := dk_27 (dk_at dksX7_scrapes_1 12 rfl rfl)
theorem dX7_scrapes_37 : decode cX7_scrapes 37 = .ok (.iadd, 1) := dk_96 (dk_at dksX7_scrapes_1 13 rfl rfl)
theorem dX7_scrapes_38 : decode cX7_scrapes 38 = .ok (.iaload, 1) := dk_46 (dk_at dksX7_scrapes_1 14 rfl rfl)
theorem dX7_scrapes_39 : decode cX7_scrapes 39 = .ok (.ifCond .le 4, 3) := dk_158 0 4 (dk_at dksX7_scrapes_1 15 rfl rfl)
theorem dX7_scrapes_42 : decode cX7_scrapes 42 = .ok (.return_, 1) := dk_177 (dk_at dksX7_scrapes_1 18 rfl rfl)
theorem dX7_scrapes_43 : decode cX7_scrapes 43 = .ok (.aload_n 0, 1) := dk_42 (dk_at dksX7_scrapes_1 19 rfl rfl)
theorem dX7_scrapes_44 : decode cX7_scrapes 44 = .ok (.getfield 120, 3) := dk_180 0 120 (dk_at dksX7_scrapes_1 20 rfl rfl)
theorem dX7_scrapes_47 : decode cX7_scrapes 47 = .ok (.iconst 1, 1) := dk_4 (dk_at dksX7_scrapes_1 23 rfl rfl)
theorem dX7_scrapes_48 : decode cX7_scrapes 48 = .ok (.iload_n 1, 1) := dk_27 (dk_at dksX7_scrapes_2 0 rfl rfl)
theorem dX7_scrapes_49 : decode cX7_scrapes 49 = .ok (.iadd, 1) := dk_96 (dk_at dksX7_scrapes_2 1 rfl rfl)
theorem dX7_scrapes_50 : decode cX7_scrapes 50 = .ok (.iconst 0, 1) := dk_3 (dk_at dksX7_scrapes_2 2 rfl rfl)
theorem dX7_scrapes_51 : decode cX7_scrapes 51 = .ok (.iastore, 1) := dk_79 (dk_at dksX7_scrapes_2 3 rfl rfl)
theorem dX7_scrapes_52 : decode cX7_scrapes 52 = .ok (.aload_n 0, 1) := dk_42 (dk_at dksX7_scrapes_2 4 rfl rfl)
theorem dX7_scrapes_53 : decode cX7_scrapes 53 = .ok (.getfield 120, 3) := dk_180 0 120 (dk_at dksX7_scrapes_2 5 rfl rfl)
theorem dX7_scrapes_56 : decode cX7_scrapes 56 = .ok (.iconst 4, 1) := dk_7 (dk_at dksX7_scrapes_2 8 rfl rfl)
theorem dX7_scrapes_57 : decode cX7_scrapes 57 = .ok (.iload_n 1, 1) := dk_27 (dk_at dksX7_scrapes_2 9 rfl rfl)
theorem dX7_scrapes_58 : decode cX7_scrapes 58 = .ok (.iadd, 1) := dk_96 (dk_at dksX7_scrapes_2 10 rfl rfl)
theorem dX7_scrapes_59 : decode cX7_scrapes 59 = .ok (.iconst 0, 1) := dk_3 (dk_at dksX7_scrapes_2 11 rfl rfl)
theorem dX7_scrapes_60 : decode cX7_scrapes 60 = .ok (.iastore, 1) := dk_79 (dk_at dksX7_scrapes_2 12 rfl rfl)
theorem dX7_scrapes_61 : decode cX7_scrapes 61 = .ok (.iconst 0, 1) := dk_3 (dk_at dksX7_scrapes_2 13 rfl rfl)
theorem dX7_scrapes_62 : decode cX7_scrapes 62 = .ok (.istore_n 3, 1) := dk_62 (dk_at dksX7_scrapes_2 14 rfl rfl)
theorem dX7_scrapes_63 : decode cX7_scrapes 63 = .ok (.iload_n 3, 1) := dk_29 (dk_at dksX7_scrapes_2 15 rfl rfl)
theorem dX7_scrapes_64 : decode cX7_scrapes 64 = .ok (.bipush 6, 2) := dk_16 6 (dk_at dksX7_scrapes_2 16 rfl rfl)
theorem dX7_scrapes_66 : decode cX7_scrapes 66 = .ok (.if_icmp .ge 24, 3) := dk_162 0 24 (dk_at dksX7_scrapes_2 18 rfl rfl)
theorem dX7_scrapes_69 : decode cX7_scrapes 69 = .ok (.aload_n 0, 1) := dk_42 (dk_at dksX7_scrapes_2 21 rfl rfl)
theorem dX7_scrapes_70 : decode cX7_scrapes 70 = .ok (.getfield 120, 3) := dk_180 0 120 (dk_at dksX7_scrapes_3 0 rfl rfl)
theorem dX7_scrapes_73 : decode cX7_scrapes 73 = .ok (.bipush 7, 2) := dk_16 7 (dk_at dksX7_scrapes_3 3 rfl rfl)
theorem dX7_scrapes_75 : decode cX7_scrapes 75 = .ok (.bipush 6, 2) := dk_16 6 (dk_at dksX7_scrapes_3 5 rfl rfl)
theorem dX7_scrapes_77 : decode cX7_scrapes 77 = .ok (.iload_n 1, 1) := dk_27 (dk_at dksX7_scrapes_3 7 rfl rfl)
theorem dX7_scrapes_78 : decode cX7_scrapes 78 = .ok (.imul, 1) := dk_104 (dk_at dksX7_scrapes_3 8 rfl rfl)
theorem dX7_scrapes_79 : decode cX7_scrapes 79 = .ok (.iadd, 1) := dk_96 (dk_at dksX7_scrapes_3 9 rfl rfl)
theorem dX7_scrapes_80 : decode cX7_scrapes 80 = .ok (.iload_n 3, 1) := dk_29 (dk_at dksX7_scrapes_3 10 rfl rfl)
theorem dX7_scrapes_81 : decode cX7_scrapes 81 = .ok (.iadd, 1) := dk_96 (dk_at dksX7_scrapes_3 11 rfl rfl)
theorem dX7_scrapes_82 : decode cX7_scrapes 82 = .ok (.iconst 0, 1) := dk_3 (dk_at dksX7_scrapes_3 12 rfl rfl)
theorem dX7_scrapes_83 : decode cX7_scrapes 83 = .ok (.iastore, 1) := dk_79 (dk_at dksX7_scrapes_3 13 rfl rfl)
theorem dX7_scrapes_84 : decode cX7_scrapes 84 = .ok (.iinc 3 1, 3) := dk_132 3 1 (dk_at dksX7_scrapes_3 14 rfl rfl)
theorem dX7_scrapes_87 : decode cX7_scrapes 87 = .ok (.goto (-24), 3) := dk_167 255 232 (dk_at dksX7_scrapes_3 17 rfl rfl)
theorem dX7_scrapes_90 : decode cX7_scrapes 90 = .ok (.return_, 1) := dk_177 (dk_at dksX7_scrapes_3 20 rfl rfl)
abbrev cX7_scrapesNow : ByteArray := prog_32_method_68_code
abbrev yX7_scrapesNow : MethodName := { cls := "WornSkinModel", name := "scrapesNow", desc := "(II)I" }
def dkwX7_scrapesNow_1 : List UInt8 := [27, 28, 182, 1, 160, 42, 180, 0, 120, 4, 27, 96, 46, 172]
abbrev dktX7_scrapesNow_1 : List UInt8 := dkwX7_scrapesNow_1 ++ []
def dkwX7_scrapesNow_0 : List UInt8 := [42, 27, 182, 1, 97, 153, 0, 12, 42, 27, 28, 182, 1, 118, 154, 0, 5, 2, 172, 42, 182, 1, 153, 42]
abbrev dktX7_scrapesNow_0 : List UInt8 := dkwX7_scrapesNow_0 ++ dktX7_scrapesNow_1
theorem dksX7_scrapesNow_0 : cX7_scrapesNow.data.toList.drop 0 = dktX7_scrapesNow_0 := by decide +kernel
theorem dksX7_scrapesNow_1 : cX7_scrapesNow.data.toList.drop 24 = dktX7_scrapesNow_1 := dk_seg dksX7_scrapesNow_0 24 rfl rfl
theorem dX7_scrapesNow_0 : decode cX7_scrapesNow 0 = .ok (.aload_n 0, 1) := dk_42 (dk_at dksX7_scrapesNow_0 0 rfl rfl)
theorem dX7_scrapesNow_1 : decode cX7_scrapesNow 1 = .ok (.iload_n 1, 1) := dk_27 (dk_at dksX7_scrapesNow_0 1 rfl rfl)
theorem dX7_scrapesNow_2 : decode cX7_scrapesNow 2 = .ok (.invokevirtual 353, 3) := dk_182 1 97 (dk_at dksX7_scrapesNow_0 2 rfl rfl)
theorem dX7_scrapesNow_5 : decode cX7_scrapesNow 5 = .ok (.ifCond .eq 12, 3) := dk_153 0 12 (dk_at dksX7_scrapesNow_0 5 rfl rfl)
theorem dX7_scrapesNow_8 : decode cX7_scrapesNow 8 = .ok (.aload_n 0, 1) := dk_42 (dk_at dksX7_scrapesNow_0 8 rfl rfl)
theorem dX7_scrapesNow_9 : decode cX7_scrapesNow 9 = .ok (.iload_n 1, 1) := dk_27 (dk_at dksX7_scrapesNow_0 9 rfl rfl)
theorem dX7_scrapesNow_10 : decode cX7_scrapesNow 10 = .ok (.iload_n 2, 1) := dk_28 (dk_at dksX7_scrapesNow_0 10 rfl rfl)
theorem dX7_scrapesNow_11 : decode cX7_scrapesNow 11 = .ok (.invokevirtual 374, 3) := dk_182 1 118 (dk_at dksX7_scrapesNow_0 11 rfl rfl)
theorem dX7_scrapesNow_14 : decode cX7_scrapesNow 14 = .ok (.ifCond .ne 5, 3) := dk_154 0 5 (dk_at dksX7_scrapesNow_0 14 rfl rfl)
theorem dX7_scrapesNow_17 : decode cX7_scrapesNow 17 = .ok (.iconst (-1), 1) := dk_2 (dk_at dksX7_scrapesNow_0 17 rfl rfl)
theorem dX7_scrapesNow_18 : decode cX7_scrapesNow 18 = .ok (.ireturn, 1) := dk_172 (dk_at dksX7_scrapesNow_0 18 rfl rfl)
theorem dX7_scrapesNow_19 : decode cX7_scrapesNow 19 = .ok (.aload_n 0, 1) := dk_42 (dk_at dksX7_scrapesNow_0 19 rfl rfl)
theorem dX7_scrapesNow_20 : decode cX7_scrapesNow 20 = .ok (.invokevirtual 409, 3) := dk_182 1 153 (dk_at dksX7_scrapesNow_0 20 rfl rfl)
theorem dX7_scrapesNow_23 : decode cX7_scrapesNow 23 = .ok (.aload_n 0, 1) := dk_42 (dk_at dksX7_scrapesNow_0 23 rfl rfl)
theorem dX7_scrapesNow_24 : decode cX7_scrapesNow 24 = .ok (.iload_n 1, 1) := dk_27 (dk_at dksX7_scrapesNow_1 0 rfl rfl)
theorem dX7_scrapesNow_25 : decode cX7_scrapesNow 25 = .ok (.iload_n 2, 1) := dk_28 (dk_at dksX7_scrapesNow_1 1 rfl rfl)
theorem dX7_scrapesNow_26 : decode cX7_scrapesNow 26 = .ok (.invokevirtual 416, 3) := dk_182 1 160 (dk_at dksX7_scrapesNow_1 2 rfl rfl)
theorem dX7_scrapesNow_29 : decode cX7_scrapesNow 29 = .ok (.aload_n 0, 1) := dk_42 (dk_at dksX7_scrapesNow_1 5 rfl rfl)
theorem dX7_scrapesNow_30 : decode cX7_scrapesNow 30 = .ok (.getfield 120, 3) := dk_180 0 120 (dk_at dksX7_scrapesNow_1 6 rfl rfl)
theorem dX7_scrapesNow_33 : decode cX7_scrapesNow 33 = .ok (.iconst 1, 1) := dk_4 (dk_at dksX7_scrapesNow_1 9 rfl rfl)
theorem dX7_scrapesNow_34 : decode cX7_scrapesNow 34 = .ok (.iload_n 1, 1) := dk_27 (dk_at dksX7_scrapesNow_1 10 rfl rfl)
theorem dX7_scrapesNow_35 : decode cX7_scrapesNow 35 = .ok (.iadd, 1) := dk_96 (dk_at dksX7_scrapesNow_1 11 rfl rfl)
theorem dX7_scrapesNow_36 : decode cX7_scrapesNow 36 = .ok (.iaload, 1) := dk_46 (dk_at dksX7_scrapesNow_1 12 rfl rfl)
theorem dX7_scrapesNow_37 : decode cX7_scrapesNow 37 = .ok (.ireturn, 1) := dk_172 (dk_at dksX7_scrapesNow_1 13 rfl rfl)
abbrev cX7_scrape : ByteArray := prog_32_method_69_code
abbrev yX7_scrape : MethodName := { cls := "WornSkinModel", name := "scrape", desc := "(I)I" }
def dkwX7_scrape_0 : List UInt8 := [42, 3, 181, 0, 144, 42, 27, 16, 63, 182, 1, 163, 172]
abbrev dktX7_scrape_0 : List UInt8 := dkwX7_scrape_0 ++ []
theorem dksX7_scrape_0 : cX7_scrape.data.toList.drop 0 = dktX7_scrape_0 := by decide +kernel
theorem dX7_scrape_0 : decode cX7_scrape 0 = .ok (.aload_n 0, 1) := dk_42 (dk_at dksX7_scrape_0 0 rfl rfl)
theorem dX7_scrape_1 : decode cX7_scrape 1 = .ok (.iconst 0, 1) := dk_3 (dk_at dksX7_scrape_0 1 rfl rfl)
theorem dX7_scrape_2 : decode cX7_scrape 2 = .ok (.putfield 144, 3) := dk_181 0 144 (dk_at dksX7_scrape_0 2 rfl rfl)
theorem dX7_scrape_5 : decode cX7_scrape 5 = .ok (.aload_n 0, 1) := dk_42 (dk_at dksX7_scrape_0 5 rfl rfl)
theorem dX7_scrape_6 : decode cX7_scrape 6 = .ok (.iload_n 1, 1) := dk_27 (dk_at dksX7_scrape_0 6 rfl rfl)
theorem dX7_scrape_7 : decode cX7_scrape 7 = .ok (.bipush 63, 2) := dk_16 63 (dk_at dksX7_scrape_0 7 rfl rfl)
theorem dX7_scrape_9 : decode cX7_scrape 9 = .ok (.invokevirtual 419, 3) := dk_182 1 163 (dk_at dksX7_scrape_0 9 rfl rfl)
theorem dX7_scrape_12 : decode cX7_scrape 12 = .ok (.ireturn, 1) := dk_172 (dk_at dksX7_scrape_0 12 rfl rfl)
abbrev cX7_third : ByteArray := prog_32_method_70_code
abbrev yX7_third : MethodName := { cls := "WornSkinModel", name := "third", desc := "(I)I" }
def dkwX7_third_0 : List UInt8 := [42, 3, 181, 0, 144, 42, 27, 16, 9, 182, 1, 163, 172]
abbrev dktX7_third_0 : List UInt8 := dkwX7_third_0 ++ []
theorem dksX7_third_0 : cX7_third.data.toList.drop 0 = dktX7_third_0 := by decide +kernel
theorem dX7_third_0 : decode cX7_third 0 = .ok (.aload_n 0, 1) := dk_42 (dk_at dksX7_third_0 0 rfl rfl)
theorem dX7_third_1 : decode cX7_third 1 = .ok (.iconst 0, 1) := dk_3 (dk_at dksX7_third_0 1 rfl rfl)
theorem dX7_third_2 : decode cX7_third 2 = .ok (.putfield 144, 3) := dk_181 0 144 (dk_at dksX7_third_0 2 rfl rfl)
theorem dX7_third_5 : decode cX7_third 5 = .ok (.aload_n 0, 1) := dk_42 (dk_at dksX7_third_0 5 rfl rfl)
theorem dX7_third_6 : decode cX7_third 6 = .ok (.iload_n 1, 1) := dk_27 (dk_at dksX7_third_0 6 rfl rfl)
theorem dX7_third_7 : decode cX7_third 7 = .ok (.bipush 9, 2) := dk_16 9 (dk_at dksX7_third_0 7 rfl rfl)
theorem dX7_third_9 : decode cX7_third 9 = .ok (.invokevirtual 419, 3) := dk_182 1 163 (dk_at dksX7_third_0 9 rfl rfl)
theorem dX7_third_12 : decode cX7_third 12 = .ok (.ireturn, 1) := dk_172 (dk_at dksX7_third_0 12 rfl rfl)
abbrev cX7_week : ByteArray := prog_32_method_71_code
abbrev yX7_week : MethodName := { cls := "WornSkinModel", name := "week", desc := "()I" }
def dkwX7_week_1 : List UInt8 := [46, 172]
abbrev dktX7_week_1 : List UInt8 := dkwX7_week_1 ++ []
def dkwX7_week_0 : List UInt8 := [42, 3, 181, 0, 144, 42, 182, 1, 153, 42, 180, 0, 120, 3, 92, 46, 4, 96, 79, 42, 180, 0, 120, 3]
abbrev dktX7_week_0 : List UInt8 := dkwX7_week_0 ++ dktX7_week_1
theorem dksX7_week_0 : cX7_week.data.toList.drop 0 = dktX7_week_0 := by decide +kernel
theorem dksX7_week_1 : cX7_week.data.toList.drop 24 = dktX7_week_1 := dk_seg dksX7_week_0 24 rfl rfl
theorem dX7_week_0 : decode cX7_week 0 = .ok (.aload_n 0, 1) := dk_42 (dk_at dksX7_week_0 0 rfl rfl)
theorem dX7_week_1 : decode cX7_week 1 = .ok (.iconst 0, 1) := dk_3 (dk_at dksX7_week_0 1 rfl rfl)
theorem dX7_week_2 : decode cX7_week 2 = .ok (.putfield 144, 3) := dk_181 0 144 (dk_at dksX7_week_0 2 rfl rfl)
theorem dX7_week_5 : decode cX7_week 5 = .ok (.aload_n 0, 1) := dk_42 (dk_at dksX7_week_0 5 rfl rfl)
theorem dX7_week_6 : decode cX7_week 6 = .ok (.invokevirtual 409, 3) := dk_182 1 153 (dk_at dksX7_week_0 6 rfl rfl)
theorem dX7_week_9 : decode cX7_week 9 = .ok (.aload_n 0, 1) := dk_42 (dk_at dksX7_week_0 9 rfl rfl)
theorem dX7_week_10 : decode cX7_week 10 = .ok (.getfield 120, 3) := dk_180 0 120 (dk_at dksX7_week_0 10 rfl rfl)
theorem dX7_week_13 : decode cX7_week 13 = .ok (.iconst 0, 1) := dk_3 (dk_at dksX7_week_0 13 rfl rfl)
theorem dX7_week_14 : decode cX7_week 14 = .ok (.dup2, 1) := dk_92 (dk_at dksX7_week_0 14 rfl rfl)
theorem dX7_week_15 : decode cX7_week 15 = .ok (.iaload, 1) := dk_46 (dk_at dksX7_week_0 15 rfl rfl)
theorem dX7_week_16 : decode cX7_week 16 = .ok (.iconst 1, 1) := dk_4 (dk_at dksX7_week_0 16 rfl rfl)
theorem dX7_week_17 : decode cX7_week 17 = .ok (.iadd, 1) := dk_96 (dk_at dksX7_week_0 17 rfl rfl)
theorem dX7_week_18 : decode cX7_week 18 = .ok (.iastore, 1) := dk_79 (dk_at dksX7_week_0 18 rfl rfl)
theorem dX7_week_19 : decode cX7_week 19 = .ok (.aload_n 0, 1) := dk_42 (dk_at dksX7_week_0 19 rfl rfl)
theorem dX7_week_20 : decode cX7_week 20 = .ok (.getfield 120, 3) := dk_180 0 120 (dk_at dksX7_week_0 20 rfl rfl)
theorem dX7_week_23 : decode cX7_week 23 = .ok (.iconst 0, 1) := dk_3 (dk_at dksX7_week_0 23 rfl rfl)
theorem dX7_week_24 : decode cX7_week 24 = .ok (.iaload, 1) := dk_46 (dk_at dksX7_week_1 0 rfl rfl)
theorem dX7_week_25 : decode cX7_week 25 = .ok (.ireturn, 1) := dk_172 (dk_at dksX7_week_1 1 rfl rfl)
abbrev cX7_undo : ByteArray := prog_32_method_72_code
abbrev yX7_undo : MethodName := { cls := "WornSkinModel", name := "undo", desc := "()Z" }
def dkwX7_undo_1 : List UInt8 := [42, 180, 0, 132, 16, 25, 42, 180, 1, 87, 104, 42, 180, 0, 120, 3, 184, 1, 149, 4, 172]
abbrev dktX7_undo_1 : List UInt8 := dkwX7_undo_1 ++ []
def dkwX7_undo_0 : List UInt8 := [42, 3, 181, 0, 144, 42, 180, 1, 87, 154, 0, 5, 3, 172, 42, 89, 180, 1, 87, 4, 100, 181, 1, 87]
abbrev dktX7_undo_0 : List UInt8 := dkwX7_undo_0 ++ dktX7_undo_1
theorem dksX7_undo_0 : cX7_undo.data.toList.drop 0 = dktX7_undo_0 := by decide +kernel
theorem dksX7_undo_1 : cX7_undo.data.toList.drop 24 = dktX7_undo_1 := dk_seg dksX7_undo_0 24 rfl rfl
theorem dX7_undo_0 : decode cX7_undo 0 = .ok (.aload_n 0, 1) := dk_42 (dk_at dksX7_undo_0 0 rfl rfl)
theorem dX7_undo_1 : decode cX7_undo 1 = .ok (.iconst 0, 1) := dk_3 (dk_at dksX7_undo_0 1 rfl rfl)
theorem dX7_undo_2 : decode cX7_undo 2 = .ok (.putfield 144, 3) := dk_181 0 144 (dk_at dksX7_undo_0 2 rfl rfl)
theorem dX7_undo_5 : decode cX7_undo 5 = .ok (.aload_n 0, 1) := dk_42 (dk_at dksX7_undo_0 5 rfl rfl)
theorem dX7_undo_6 : decode cX7_undo 6 = .ok (.getfield 343, 3) := dk_180 1 87 (dk_at dksX7_undo_0 6 rfl rfl)
theorem dX7_undo_9 : decode cX7_undo 9 = .ok (.ifCond .ne 5, 3) := dk_154 0 5 (dk_at dksX7_undo_0 9 rfl rfl)
theorem dX7_undo_12 : decode cX7_undo 12 = .ok (.iconst 0, 1) := dk_3 (dk_at dksX7_undo_0 12 rfl rfl)
theorem dX7_undo_13 : decode cX7_undo 13 = .ok (.ireturn, 1) := dk_172 (dk_at dksX7_undo_0 13 rfl rfl)
theorem dX7_undo_14 : decode cX7_undo 14 = .ok (.aload_n 0, 1) := dk_42 (dk_at dksX7_undo_0 14 rfl rfl)
theorem dX7_undo_15 : decode cX7_undo 15 = .ok (.dup, 1) := dk_89 (dk_at dksX7_undo_0 15 rfl rfl)
theorem dX7_undo_16 : decode cX7_undo 16 = .ok (.getfield 343, 3) := dk_180 1 87 (dk_at dksX7_undo_0 16 rfl rfl)
theorem dX7_undo_19 : decode cX7_undo 19 = .ok (.iconst 1, 1) := dk_4 (dk_at dksX7_undo_0 19 rfl rfl)
theorem dX7_undo_20 : decode cX7_undo 20 = .ok (.isub, 1) := dk_100 (dk_at dksX7_undo_0 20 rfl rfl)
theorem dX7_undo_21 : decode cX7_undo 21 = .ok (.putfield 343, 3) := dk_181 1 87 (dk_at dksX7_undo_0 21 rfl rfl)
theorem dX7_undo_24 : decode cX7_undo 24 = .ok (.aload_n 0, 1) := dk_42 (dk_at dksX7_undo_1 0 rfl rfl)
theorem dX7_undo_25 : decode cX7_undo 25 = .ok (.getfield 132, 3) := dk_180 0 132 (dk_at dksX7_undo_1 1 rfl rfl)
theorem dX7_undo_28 : decode cX7_undo 28 = .ok (.bipush 25, 2) := dk_16 25 (dk_at dksX7_undo_1 4 rfl rfl)
theorem dX7_undo_30 : decode cX7_undo 30 = .ok (.aload_n 0, 1) := dk_42 (dk_at dksX7_undo_1 6 rfl rfl)
theorem dX7_undo_31 : decode cX7_undo 31 = .ok (.getfield 343, 3) := dk_180 1 87 (dk_at dksX7_undo_1 7 rfl rfl)
theorem dX7_undo_34 : decode cX7_undo 34 = .ok (.imul, 1) := dk_104 (dk_at dksX7_undo_1 10 rfl rfl)
theorem dX7_undo_35 : decode cX7_undo 35 = .ok (.aload_n 0, 1) := dk_42 (dk_at dksX7_undo_1 11 rfl rfl)
theorem dX7_undo_36 : decode cX7_undo 36 = .ok (.getfield 120, 3) := dk_180 0 120 (dk_at dksX7_undo_1 12 rfl rfl)
theorem dX7_undo_39 : decode cX7_undo 39 = .ok (.iconst 0, 1) := dk_3 (dk_at dksX7_undo_1 15 rfl rfl)
theorem dX7_undo_40 : decode cX7_undo 40 = .ok (.invokestatic 405, 3) := dk_184 1 149 (dk_at dksX7_undo_1 16 rfl rfl)
theorem dX7_undo_43 : decode cX7_undo 43 = .ok (.iconst 1, 1) := dk_4 (dk_at dksX7_undo_1 19 rfl rfl)
theorem dX7_undo_44 : decode cX7_undo 44 = .ok (.ireturn, 1) := dk_172 (dk_at dksX7_undo_1 20 rfl rfl)
abbrev cX7_gones : ByteArray := prog_32_method_74_code
abbrev yX7_gones : MethodName := { cls := "WornSkinModel", name := "gones", desc := "()I" }
def dkwX7_gones_1 : List UInt8 := [154, 0, 9, 4, 28, 120, 167, 0, 4, 3, 128, 60, 132, 2, 1, 167, 255, 222, 27, 172]
abbrev dktX7_gones_1 : List UInt8 := dkwX7_gones_1 ++ []
def dkwX7_gones_0 : List UInt8 := [3, 60, 3, 61, 28, 42, 180, 0, 13, 3, 46, 162, 0, 30, 27, 42, 180, 0, 120, 4, 28, 96, 46]
abbrev dktX7_gones_0 : List UInt8 := dkwX7_gones_0 ++ dktX7_gones_1
theorem dksX7_gones_0 : cX7_gones.data.toList.drop 0 = dktX7_gones_0 := by decide +kernel
theorem dksX7_gones_1 : cX7_gones.data.toList.drop 23 = dktX7_gones_1 := dk_seg dksX7_gones_0 23 rfl rfl
theorem dX7_gones_0 : decode cX7_gones 0 = .ok (.iconst 0, 1) := dk_3 (dk_at dksX7_gones_0 0 rfl rfl)
theorem dX7_gones_1 : decode cX7_gones 1 = .ok (.istore_n 1, 1) := dk_60 (dk_at dksX7_gones_0 1 rfl rfl)
theorem dX7_gones_2 : decode cX7_gones 2 = .ok (.iconst 0, 1) := dk_3 (dk_at dksX7_gones_0 2 rfl rfl)
theorem dX7_gones_3 : decode cX7_gones 3 = .ok (.istore_n 2, 1) := dk_61 (dk_at dksX7_gones_0 3 rfl rfl)
theorem dX7_gones_4 : decode cX7_gones 4 = .ok (.iload_n 2, 1) := dk_28 (dk_at dksX7_gones_0 4 rfl rfl)
theorem dX7_gones_5 : decode cX7_gones 5 = .ok (.aload_n 0, 1) := dk_42 (dk_at dksX7_gones_0 5 rfl rfl)
theorem dX7_gones_6 : decode cX7_gones 6 = .ok (.getfield 13, 3) := dk_180 0 13 (dk_at dksX7_gones_0 6 rfl rfl)
theorem dX7_gones_9 : decode cX7_gones 9 = .ok (.iconst 0, 1) := dk_3 (dk_at dksX7_gones_0 9 rfl rfl)
theorem dX7_gones_10 : decode cX7_gones 10 = .ok (.iaload, 1) := dk_46 (dk_at dksX7_gones_0 10 rfl rfl)
theorem dX7_gones_11 : decode cX7_gones 11 = .ok (.if_icmp .ge 30, 3) := dk_162 0 30 (dk_at dksX7_gones_0 11 rfl rfl)
theorem dX7_gones_14 : decode cX7_gones 14 = .ok (.iload_n 1, 1) := dk_27 (dk_at dksX7_gones_0 14 rfl rfl)
theorem dX7_gones_15 : decode cX7_gones 15 = .ok (.aload_n 0, 1) := dk_42 (dk_at dksX7_gones_0 15 rfl rfl)
theorem dX7_gones_16 : decode cX7_gones 16 = .ok (.getfield 120, 3) := dk_180 0 120 (dk_at dksX7_gones_0 16 rfl rfl)
theorem dX7_gones_19 : decode cX7_gones 19 = .ok (.iconst 1, 1) := dk_4 (dk_at dksX7_gones_0 19 rfl rfl)
theorem dX7_gones_20 : decode cX7_gones 20 = .ok (.iload_n 2, 1) := dk_28 (dk_at dksX7_gones_0 20 rfl rfl)
theorem dX7_gones_21 : decode cX7_gones 21 = .ok (.iadd, 1) := dk_96 (dk_at dksX7_gones_0 21 rfl rfl)
theorem dX7_gones_22 : decode cX7_gones 22 = .ok (.iaload, 1) := dk_46 (dk_at dksX7_gones_0 22 rfl rfl)
theorem dX7_gones_23 : decode cX7_gones 23 = .ok (.ifCond .ne 9, 3) := dk_154 0 9 (dk_at dksX7_gones_1 0 rfl rfl)
theorem dX7_gones_26 : decode cX7_gones 26 = .ok (.iconst 1, 1) := dk_4 (dk_at dksX7_gones_1 3 rfl rfl)
theorem dX7_gones_27 : decode cX7_gones 27 = .ok (.iload_n 2, 1) := dk_28 (dk_at dksX7_gones_1 4 rfl rfl)
theorem dX7_gones_28 : decode cX7_gones 28 = .ok (.ishl, 1) := dk_120 (dk_at dksX7_gones_1 5 rfl rfl)
theorem dX7_gones_29 : decode cX7_gones 29 = .ok (.goto 4, 3) := dk_167 0 4 (dk_at dksX7_gones_1 6 rfl rfl)
theorem dX7_gones_32 : decode cX7_gones 32 = .ok (.iconst 0, 1) := dk_3 (dk_at dksX7_gones_1 9 rfl rfl)
theorem dX7_gones_33 : decode cX7_gones 33 = .ok (.ior, 1) := dk_128 (dk_at dksX7_gones_1 10 rfl rfl)
theorem dX7_gones_34 : decode cX7_gones 34 = .ok (.istore_n 1, 1) := dk_60 (dk_at dksX7_gones_1 11 rfl rfl)
theorem dX7_gones_35 : decode cX7_gones 35 = .ok (.iinc 2 1, 3) := dk_132 2 1 (dk_at dksX7_gones_1 12 rfl rfl)
theorem dX7_gones_38 : decode cX7_gones 38 = .ok (.goto (-34), 3) := dk_167 255 222 (dk_at dksX7_gones_1 15 rfl rfl)
theorem dX7_gones_41 : decode cX7_gones 41 = .ok (.iload_n 1, 1) := dk_27 (dk_at dksX7_gones_1 18 rfl rfl)
theorem dX7_gones_42 : decode cX7_gones 42 = .ok (.ireturn, 1) := dk_172 (dk_at dksX7_gones_1 19 rfl rfl)
abbrev cX7_goes : ByteArray := prog_32_method_73_code
abbrev yX7_goes : MethodName := { cls := "WornSkinModel", name := "goes", desc := "(I)Z" }
def dkwX7_goes_5 : List UInt8 := [172]
abbrev dktX7_goes_5 : List UInt8 := dkwX7_goes_5 ++ []
def dkwX7_goes_4 : List UInt8 := [167, 0, 5, 16, 9, 62, 42, 28, 29, 182, 1, 118, 154, 0, 5, 3, 172, 42, 28, 29, 182, 1, 160, 4]
abbrev dktX7_goes_4 : List UInt8 := dkwX7_goes_4 ++ dktX7_goes_5
def dkwX7_goes_3 : List UInt8 := [180, 0, 102, 27, 46, 182, 1, 156, 167, 0, 38, 42, 180, 0, 93, 27, 46, 4, 160, 0, 8, 16, 63]
abbrev dktX7_goes_3 : List UInt8 := dkwX7_goes_3 ++ dktX7_goes_4
def dkwX7_goes_2 : List UInt8 := [180, 0, 102, 27, 46, 182, 1, 122, 154, 0, 5, 3, 172, 42, 42, 180, 0, 96, 27, 46, 28, 42]
abbrev dktX7_goes_2 : List UInt8 := dkwX7_goes_2 ++ dktX7_goes_3
def dkwX7_goes_1 : List UInt8 := [4, 96, 79, 167, 0, 89, 42, 180, 0, 93, 27, 46, 154, 0, 45, 42, 42, 180, 0, 96, 27, 46, 28, 42]
abbrev dktX7_goes_1 : List UInt8 := dkwX7_goes_1 ++ dktX7_goes_2
def dkwX7_goes_0 : List UInt8 := [42, 180, 0, 99, 27, 46, 61, 42, 180, 0, 93, 27, 46, 6, 160, 0, 16, 42, 180, 0, 120, 3, 92, 46]
abbrev dktX7_goes_0 : List UInt8 := dkwX7_goes_0 ++ dktX7_goes_1
theorem dksX7_goes_0 : cX7_goes.data.toList.drop 0 = dktX7_goes_0 := by decide +kernel
theorem dksX7_goes_1 : cX7_goes.data.toList.drop 24 = dktX7_goes_1 := dk_seg dksX7_goes_0 24 rfl rfl
theorem dksX7_goes_2 : cX7_goes.data.toList.drop 48 = dktX7_goes_2 := dk_seg dksX7_goes_1 24 rfl rfl
theorem dksX7_goes_3 : cX7_goes.data.toList.drop 70 = dktX7_goes_3 := dk_seg dksX7_goes_2 22 rfl rfl
theorem dksX7_goes_4 : cX7_goes.data.toList.drop 93 = dktX7_goes_4 := dk_seg dksX7_goes_3 23 rfl rfl
theorem dksX7_goes_5 : cX7_goes.data.toList.drop 117 = dktX7_goes_5 := dk_seg dksX7_goes_4 24 rfl rfl
theorem dX7_goes_0 : decode cX7_goes 0 = .ok (.aload_n 0, 1) := dk_42 (dk_at dksX7_goes_0 0 rfl rfl)
theorem dX7_goes_1 : decode cX7_goes 1 = .ok (.getfield 99, 3) := dk_180 0 99 (dk_at dksX7_goes_0 1 rfl rfl)
theorem dX7_goes_4 : decode cX7_goes 4 = .ok (.iload_n 1, 1) := dk_27 (dk_at dksX7_goes_0 4 rfl rfl)
theorem dX7_goes_5 : decode cX7_goes 5 = .ok (.iaload, 1) := dk_46 (dk_at dksX7_goes_0 5 rfl rfl)
theorem dX7_goes_6 : decode cX7_goes 6 = .ok (.istore_n 2, 1) := dk_61 (dk_at dksX7_goes_0 6 rfl rfl)
theorem dX7_goes_7 : decode cX7_goes 7 = .ok (.aload_n 0, 1) := dk_42 (dk_at dksX7_goes_0 7 rfl rfl)
theorem dX7_goes_8 : decode cX7_goes 8 = .ok (.getfield 93, 3) := dk_180 0 93 (dk_at dksX7_goes_0 8 rfl rfl)
theorem dX7_goes_11 : decode cX7_goes 11 = .ok (.iload_n 1, 1) := dk_27 (dk_at dksX7_goes_0 11 rfl rfl)
theorem dX7_goes_12 : decode cX7_goes 12 = .ok (.iaload, 1) := dk_46 (dk_at dksX7_goes_0 12 rfl rfl)
theorem dX7_goes_13 : decode cX7_goes 13 = .ok (.iconst 3, 1) := dk_6 (dk_at dksX7_goes_0 13 rfl rfl)
theorem dX7_goes_14 : decode cX7_goes 14 = .ok (.if_icmp .ne 16, 3) := dk_160 0 16 (dk_at dksX7_goes_0 14 rfl rfl)
theorem dX7_goes_17 : decode cX7_goes 17 = .ok (.aload_n 0, 1) := dk_42 (dk_at dksX7_goes_0 17 rfl rfl)
theorem dX7_goes_18 : decode cX7_goes 18 = .ok (.getfield 120, 3) := dk_180 0 120 (dk_at dksX7_goes_0 18 rfl rfl)
theorem dX7_goes_21 : decode cX7_goes 21 = .ok (.iconst 0, 1) := dk_3 (dk_at dksX7_goes_0 21 rfl rfl)
theorem dX7_goes_22 : decode cX7_goes 22 = .ok (.dup2, 1) := dk_92 (dk_at dksX7_goes_0 22 rfl rfl)
theorem dX7_goes_23 : decode cX7_goes 23 = .ok (.iaload, 1) := dk_46 (dk_at dksX7_goes_0 23 rfl rfl)
theorem dX7_goes_24 : decode cX7_goes 24 = .ok (.iconst 1, 1) := dk_4 (dk_at dksX7_goes_1 0 rfl rfl)
theorem dX7_goes_25 : decode cX7_goes 25 = .ok (.iadd, 1) := dk_96 (dk_at dksX7_goes_1 1 rfl rfl)
theorem dX7_goes_26 : decode cX7_goes 26 = .ok (.iastore, 1) := dk_79 (dk_at dksX7_goes_1 2 rfl rfl)
theorem dX7_goes_27 : decode cX7_goes 27 = .ok (.goto 89, 3) := dk_167 0 89 (dk_at dksX7_goes_1 3 rfl rfl)
theorem dX7_goes_30 : decode cX7_goes 30 = .ok (.aload_n 0, 1) := dk_42 (dk_at dksX7_goes_1 6 rfl rfl)
theorem dX7_goes_31 : decode cX7_goes 31 = .ok (.getfield 93, 3) := dk_180 0 93 (dk_at dksX7_goes_1 7 rfl rfl)
theorem dX7_goes_34 : decode cX7_goes 34 = .ok (.iload_n 1, 1) := dk_27 (dk_at dksX7_goes_1 10 rfl rfl)
theorem dX7_goes_35 : decode cX7_goes 35 = .ok (.iaload, 1) := dk_46 (dk_at dksX7_goes_1 11 rfl rfl)
theorem dX7_goes_36 : decode cX7_goes 36 = .ok (.ifCond .ne 45, 3) := dk_154 0 45 (dk_at dksX7_goes_1 12 rfl rfl)
theorem dX7_goes_39 : decode cX7_goes 39 = .ok (.aload_n 0, 1) := dk_42 (dk_at dksX7_goes_1 15 rfl rfl)
theorem dX7_goes_40 : decode cX7_goes 40 = .ok (.aload_n 0, 1) := dk_42 (dk_at dksX7_goes_1 16 rfl rfl)
theorem dX7_goes_41 : decode cX7_goes 41 = .ok (.getfield 96, 3) := dk_180 0 96 (dk_at dksX7_goes_1 17 rfl rfl)
theorem dX7_goes_44 : decode cX7_goes 44 = .ok (.iload_n 1, 1) := dk_27 (dk_at dksX7_goes_1 20 rfl rfl)
theorem dX7_goes_45 : decode cX7_goes 45 = .ok (.iaload, 1) := dk_46 (dk_at dksX7_goes_1 21 rfl rfl)
theorem dX7_goes_46 : decode cX7_goes 46 = .ok (.iload_n 2, 1) := dk_28 (dk_at dksX7_goes_1 22 rfl rfl)
theorem dX7_goes_47 : decode cX7_goes 47 = .ok (.aload_n 0, 1) := dk_42 (dk_at dksX7_goes_1 23 rfl rfl)
theorem dX7_goes_48 : decode cX7_goes 48 = .ok (.getfield 102, 3) := dk_180 0 102 (dk_at dksX7_goes_2 0 rfl rfl)
theorem dX7_goes_51 : decode cX7_goes 51 = .ok (.iload_n 1, 1) := dk_27 (dk_at dksX7_goes_2 3 rfl rfl)
theorem dX7_goes_52 : decode cX7_goes 52 = .ok (.iaload, 1) := dk_46 (dk_at dksX7_goes_2 4 rfl rfl)
theorem dX7_goes_53 : decode cX7_goes 53 = .ok (.invokevirtual 378, 3) := dk_182 1 122 (dk_at dksX7_goes_2 5 rfl rfl)
theorem dX7_goes_56 : decode cX7_goes 56 = .ok (.ifCond .ne 5, 3) := dk_154 0 5 (dk_at dksX7_goes_2 8 rfl rfl)
theorem dX7_goes_59 : decode cX7_goes 59 = .ok (.iconst 0, 1) := dk_3 (dk_at dksX7_goes_2 11 rfl rfl)
theorem dX7_goes_60 : decode cX7_goes 60 = .ok (.ireturn, 1) := dk_172 (dk_at dksX7_goes_2 12 rfl rfl)
theorem dX7_goes_61 : decode cX7_goes 61 = .ok (.aload_n 0, 1) := dk_42 (dk_at dksX7_goes_2 13 rfl rfl)
theorem dX7_goes_62 : decode cX7_goes 62 = .ok (.aload_n 0, 1) := dk_42 (dk_at dksX7_goes_2 14 rfl rfl)
theorem dX7_goes_63 : decode cX7_goes 63 = .ok (.getfield 96, 3) := dk_180 0 96 (dk_at dksX7_goes_2 15 rfl rfl)
theorem dX7_goes_66 : decode cX7_goes 66 = .ok (.iload_n 1, 1) := dk_27 (dk_at dksX7_goes_2 18 rfl rfl)
theorem dX7_goes_67 : decode cX7_goes 67 = .ok (.iaload, 1) := dk_46 (dk_at dksX7_goes_2 19 rfl rfl)
theorem dX7_goes_68 : decode cX7_goes 68 = .ok (.iload_n 2, 1) := dk_28 (dk_at dksX7_goes_2 20 rfl rfl)
theorem dX7_goes_69 : decode cX7_goes 69 = .ok (.aload_n 0, 1) := dk_42 (dk_at dksX7_goes_2 21 rfl rfl)
theorem dX7_goes_70 : decode cX7_goes 70 = .ok (.getfield 102, 3) := dk_180 0 102 (dk_at dksX7_goes_3 0 rfl rfl)
theorem dX7_goes_73 : decode cX7_goes 73 = .ok (.iload_n 1, 1) := dk_27 (dk_at dksX7_goes_3 3 rfl rfl)
theorem dX7_goes_74 : decode cX7_goes 74 = .ok (.iaload, 1) := dk_46 (dk_at dksX7_goes_3 4 rfl rfl)
theorem dX7_goes_75 : decode cX7_goes 75 = .ok (.invokevirtual 412, 3) := dk_182 1 156 (dk_at dksX7_goes_3 5 rfl rfl)
theorem dX7_goes_78 : decode cX7_goes 78 = .ok (.goto 38, 3) := dk_167 0 38 (dk_at dksX7_goes_3 8 rfl rfl)
theorem dX7_goes_81 : decode cX7_goes 81 = .ok (.aload_n 0, 1) := dk_42 (dk_at dksX7_goes_3 11 rfl rfl)
theorem dX7_goes_82 : decode cX7_goes 82 = .ok (.getfield 93, 3) := dk_180 0 93 (dk_at dksX7_goes_3 12 rfl rfl)
theorem dX7_goes_85 : decode cX7_goes 85 = .ok (.iload_n 1, 1) := dk_27 (dk_at dksX7_goes_3 15 rfl rfl)
theorem dX7_goes_86 : decode cX7_goes 86 = .ok (.iaload, 1) := dk_46 (dk_at dksX7_goes_3 16 rfl rfl)
theorem dX7_goes_87 : decode cX7_goes 87 = .ok (.iconst 1, 1) := dk_4 (dk_at dksX7_goes_3 17 rfl rfl)
theorem dX7_goes_88 : decode cX7_goes 88 = .ok (.if_icmp .ne 8, 3) := dk_160 0 8 (dk_at dksX7_goes_3 18 rfl rfl)
theorem dX7_goes_91 : decode cX7_goes 91 = .ok (.bipush 63, 2) := dk_16 63 (dk_at dksX7_goes_3 21 rfl rfl)
theorem dX7_goes_93 : decode cX7_goes 93 = .ok (.goto 5, 3) := dk_167 0 5 (dk_at dksX7_goes_4 0 rfl rfl)
theorem dX7_goes_96 : decode cX7_goes 96 = .ok (.bipush 9, 2) := dk_16 9 (dk_at dksX7_goes_4 3 rfl rfl)
theorem dX7_goes_98 : decode cX7_goes 98 = .ok (.istore_n 3, 1) := dk_62 (dk_at dksX7_goes_4 5 rfl rfl)
theorem dX7_goes_99 : decode cX7_goes 99 = .ok (.aload_n 0, 1) := dk_42 (dk_at dksX7_goes_4 6 rfl rfl)
theorem dX7_goes_100 : decode cX7_goes 100 = .ok (.iload_n 2, 1) := dk_28 (dk_at dksX7_goes_4 7 rfl rfl)
theorem dX7_goes_101 : decode cX7_goes 101 = .ok (.iload_n 3, 1) := dk_29 (dk_at dksX7_goes_4 8 rfl rfl)
theorem dX7_goes_102 : decode cX7_goes 102 = .ok (.invokevirtual 374, 3) := dk_182 1 118 (dk_at dksX7_goes_4 9 rfl rfl)
theorem dX7_goes_105 : decode cX7_goes 105 = .ok (.ifCond .ne 5, 3) := dk_154 0 5 (dk_at dksX7_goes_4 12 rfl rfl)
theorem dX7_goes_108 : decode cX7_goes 108 = .ok (.iconst 0, 1) := dk_3 (dk_at dksX7_goes_4 15 rfl rfl)
theorem dX7_goes_109 : decode cX7_goes 109 = .ok (.ireturn, 1) := dk_172 (dk_at dksX7_goes_4 16 rfl rfl)
theorem dX7_goes_110 : decode cX7_goes 110 = .ok (.aload_n 0, 1) := dk_42 (dk_at dksX7_goes_4 17 rfl rfl)
theorem dX7_goes_111 : decode cX7_goes 111 = .ok (.iload_n 2, 1) := dk_28 (dk_at dksX7_goes_4 18 rfl rfl)
theorem dX7_goes_112 : decode cX7_goes 112 = .ok (.iload_n 3, 1) := dk_29 (dk_at dksX7_goes_4 19 rfl rfl)
theorem dX7_goes_113 : decode cX7_goes 113 = .ok (.invokevirtual 416, 3) := dk_182 1 160 (dk_at dksX7_goes_4 20 rfl rfl)
theorem dX7_goes_116 : decode cX7_goes 116 = .ok (.iconst 1, 1) := dk_4 (dk_at dksX7_goes_4 23 rfl rfl)
theorem dX7_goes_117 : decode cX7_goes 117 = .ok (.ireturn, 1) := dk_172 (dk_at dksX7_goes_5 0 rfl rfl)
abbrev cX7_judged : ByteArray := prog_32_method_75_code
abbrev yX7_judged : MethodName := { cls := "WornSkinModel", name := "judged", desc := "(I)I" }
def dkwX7_judged_5 : List UInt8 := [184, 1, 149, 27, 154, 0, 7, 28, 167, 0, 14, 27, 4, 160, 0, 7, 29, 167, 0, 5, 21, 4, 172]
abbrev dktX7_judged_5 : List UInt8 := dkwX7_judged_5 ++ []
def dkwX7_judged_4 : List UInt8 := [167, 255, 204, 42, 182, 1, 134, 184, 1, 128, 54, 4, 42, 180, 0, 123, 3, 42, 180, 0, 120, 3]
abbrev dktX7_judged_4 : List UInt8 := dkwX7_judged_4 ++ dktX7_judged_5
def dkwX7_judged_3 : List UInt8 := [21, 4, 61, 42, 182, 1, 166, 21, 5, 159, 0, 10, 29, 156, 0, 6, 21, 4, 62, 132, 4, 1]
abbrev dktX7_judged_3 : List UInt8 := dkwX7_judged_3 ++ dktX7_judged_4
def dkwX7_judged_2 : List UInt8 := [3, 46, 162, 0, 47, 42, 182, 1, 166, 54, 5, 42, 21, 4, 182, 1, 169, 154, 0, 10, 28, 156, 0, 6]
abbrev dktX7_judged_2 : List UInt8 := dkwX7_judged_2 ++ dktX7_judged_3
def dkwX7_judged_1 : List UInt8 := [180, 0, 123, 3, 184, 1, 149, 42, 182, 1, 84, 2, 61, 2, 62, 3, 54, 4, 21, 4, 42, 180, 0, 90]
abbrev dktX7_judged_1 : List UInt8 := dkwX7_judged_1 ++ dktX7_judged_2
def dkwX7_judged_0 : List UInt8 := [42, 3, 181, 0, 144, 27, 3, 5, 184, 1, 9, 154, 0, 6, 16, 254, 172, 42, 180, 0, 120, 3, 42]
abbrev dktX7_judged_0 : List UInt8 := dkwX7_judged_0 ++ dktX7_judged_1
theorem dksX7_judged_0 : cX7_judged.data.toList.drop 0 = dktX7_judged_0 := by decide +kernel
theorem dksX7_judged_1 : cX7_judged.data.toList.drop 23 = dktX7_judged_1 := dk_seg dksX7_judged_0 23 rfl rfl
theorem dksX7_judged_2 : cX7_judged.data.toList.drop 47 = dktX7_judged_2 := dk_seg dksX7_judged_1 24 rfl rfl
theorem dksX7_judged_3 : cX7_judged.data.toList.drop 71 = dktX7_judged_3 := dk_seg dksX7_judged_2 24 rfl rfl
theorem dksX7_judged_4 : cX7_judged.data.toList.drop 93 = dktX7_judged_4 := dk_seg dksX7_judged_3 22 rfl rfl
theorem dksX7_judged_5 : cX7_judged.data.toList.drop 115 = dktX7_judged_5 := dk_seg dksX7_judged_4 22 rfl rfl
theorem dX7_judged_0 : decode cX7_judged 0 = .ok (.aload_n 0, 1) := dk_42 (dk_at dksX7_judged_0 0 rfl rfl)
theorem dX7_judged_1 : decode cX7_judged 1 = .ok (.iconst 0, 1) := dk_3 (dk_at dksX7_judged_0 1 rfl rfl)
theorem dX7_judged_2 : decode cX7_judged 2 = .ok (.putfield 144, 3) := dk_181 0 144 (dk_at dksX7_judged_0 2 rfl rfl)
theorem dX7_judged_5 : decode cX7_judged 5 = .ok (.iload_n 1, 1) := dk_27 (dk_at dksX7_judged_0 5 rfl rfl)
theorem dX7_judged_6 : decode cX7_judged 6 = .ok (.iconst 0, 1) := dk_3 (dk_at dksX7_judged_0 6 rfl rfl)
theorem dX7_judged_7 : decode cX7_judged 7 = .ok (.iconst 2, 1) := dk_5 (dk_at dksX7_judged_0 7 rfl rfl)
theorem dX7_judged_8 : decode cX7_judged 8 = .ok (.invokestatic 265, 3) := dk_184 1 9 (dk_at dksX7_judged_0 8 rfl rfl)
theorem dX7_judged_11 : decode cX7_judged 11 = .ok (.ifCond .ne 6, 3) := dk_154 0 6 (dk_at dksX7_judged_0 11 rfl rfl)
theorem dX7_judged_14 : decode cX7_judged 14 = .ok (.bipush (-2), 2) := dk_16 254 (dk_at dksX7_judged_0 14 rfl rfl)
theorem dX7_judged_16 : decode cX7_judged 16 = .ok (.ireturn, 1) := dk_172 (dk_at dksX7_judged_0 16 rfl rfl)
theorem dX7_judged_17 : decode cX7_judged 17 = .ok (.aload_n 0, 1) := dk_42 (dk_at dksX7_judged_0 17 rfl rfl)
theorem dX7_judged_18 : decode cX7_judged 18 = .ok (.getfield 120, 3) := dk_180 0 120 (dk_at dksX7_judged_0 18 rfl rfl)
theorem dX7_judged_21 : decode cX7_judged 21 = .ok (.iconst 0, 1) := dk_3 (dk_at dksX7_judged_0 21 rfl rfl)
theorem dX7_judged_22 : decode cX7_judged 22 = .ok (.aload_n 0, 1) := dk_42 (dk_at dksX7_judged_0 22 rfl rfl)
theorem dX7_judged_23 : decode cX7_judged 23 = .ok (.getfield 123, 3) := dk_180 0 123 (dk_at dksX7_judged_1 0 rfl rfl)
theorem dX7_judged_26 : decode cX7_judged 26 = .ok (.iconst 0, 1) := dk_3 (dk_at dksX7_judged_1 3 rfl rfl)
theorem dX7_judged_27 : decode cX7_judged 27 = .ok (.invokestatic 405, 3) := dk_184 1 149 (dk_at dksX7_judged_1 4 rfl rfl)
theorem dX7_judged_30 : decode cX7_judged 30 = .ok (.aload_n 0, 1) := dk_42 (dk_at dksX7_judged_1 7 rfl rfl)
theorem dX7_judged_31 : decode cX7_judged 31 = .ok (.invokevirtual 340, 3) := dk_182 1 84 (dk_at dksX7_judged_1 8 rfl rfl)
theorem dX7_judged_34 : decode cX7_judged 34 = .ok (.iconst (-1), 1) := dk_2 (dk_at dksX7_judged_1 11 rfl rfl)
theorem dX7_judged_35 : decode cX7_judged 35 = .ok (.istore_n 2, 1) := dk_61 (dk_at dksX7_judged_1 12 rfl rfl)
theorem dX7_judged_36 : decode cX7_judged 36 = .ok (.iconst (-1), 1) := dk_2 (dk_at dksX7_judged_1 13 rfl rfl)
theorem dX7_judged_37 : decode cX7_judged 37 = .ok (.istore_n 3, 1) := dk_62 (dk_at dksX7_judged_1 14 rfl rfl)
theorem dX7_judged_38 : decode cX7_judged 38 = .ok (.iconst 0, 1) := dk_3 (dk_at dksX7_judged_1 15 rfl rfl)
theorem dX7_judged_39 : decode cX7_judged 39 = .ok (.istore 4, 2) := dk_54 4 (dk_at dksX7_judged_1 16 rfl rfl)
theorem dX7_judged_41 : decode cX7_judged 41 = .ok (.iload 4, 2) := dk_21 4 (dk_at dksX7_judged_1 18 rfl rfl)
theorem dX7_judged_43 : decode cX7_judged 43 = .ok (.aload_n 0, 1) := dk_42 (dk_at dksX7_judged_1 20 rfl rfl)
theorem dX7_judged_44 : decode cX7_judged 44 = .ok (.getfield 90, 3) := dk_180 0 90 (dk_at dksX7_judged_1 21 rfl rfl)
theorem dX7_judged_47 : decode cX7_judged 47 = .ok (.iconst 0, 1) := dk_3 (dk_at dksX7_judged_2 0 rfl rfl)
theorem dX7_judged_48 : decode cX7_judged 48 = .ok (.iaload, 1) := dk_46 (dk_at dksX7_judged_2 1 rfl rfl)
theorem dX7_judged_49 : decode cX7_judged 49 = .ok (.if_icmp .ge 47, 3) := dk_162 0 47 (dk_at dksX7_judged_2 2 rfl rfl)
theorem dX7_judged_52 : decode cX7_judged 52 = .ok (.aload_n 0, 1) := dk_42 (dk_at dksX7_judged_2 5 rfl rfl)
theorem dX7_judged_53 : decode cX7_judged 53 = .ok (.invokevirtual 422, 3) := dk_182 1 166 (dk_at dksX7_judged_2 6 rfl rfl)
theorem dX7_judged_56 : decode cX7_judged 56 = .ok (.istore 5, 2) := dk_54 5 (dk_at dksX7_judged_2 9 rfl rfl)
theorem dX7_judged_58 : decode cX7_judged 58 = .ok (.aload_n 0, 1) := dk_42 (dk_at dksX7_judged_2 11 rfl rfl)
theorem dX7_judged_59 : decode cX7_judged 59 = .ok (.iload 4, 2) := dk_21 4 (dk_at dksX7_judged_2 12 rfl rfl)
theorem dX7_judged_61 : decode cX7_judged 61 = .ok (.invokevirtual 425, 3) := dk_182 1 169 (dk_at dksX7_judged_2 14 rfl rfl)
theorem dX7_judged_64 : decode cX7_judged 64 = .ok (.ifCond .ne 10, 3) := dk_154 0 10 (dk_at dksX7_judged_2 17 rfl rfl)
theorem dX7_judged_67 : decode cX7_judged 67 = .ok (.iload_n 2, 1) := dk_28 (dk_at dksX7_judged_2 20 rfl rfl)
theorem dX7_judged_68 : decode cX7_judged 68 = .ok (.ifCond .ge 6, 3) := dk_156 0 6 (dk_at dksX7_judged_2 21 rfl rfl)
theorem dX7_judged_71 : decode cX7_judged 71 = .ok (.iload 4, 2) := dk_21 4 (dk_at dksX7_judged_3 0 rfl rfl)
theorem dX7_judged_73 : decode cX7_judged 73 = .ok (.istore_n 2, 1) := dk_61 (dk_at dksX7_judged_3 2 rfl rfl)
theorem dX7_judged_74 : decode cX7_judged 74 = .ok (.aload_n 0, 1) := dk_42 (dk_at dksX7_judged_3 3 rfl rfl)
theorem dX7_judged_75 : decode cX7_judged 75 = .ok (.invokevirtual 422, 3) := dk_182 1 166 (dk_at dksX7_judged_3 4 rfl rfl)
theorem dX7_judged_78 : decode cX7_judged 78 = .ok (.iload 5, 2) := dk_21 5 (dk_at dksX7_judged_3 7 rfl rfl)
theorem dX7_judged_80 : decode cX7_judged 80 = .ok (.if_icmp .eq 10, 3) := dk_159 0 10 (dk_at dksX7_judged_3 9 rfl rfl)
theorem dX7_judged_83 : decode cX7_judged 83 = .ok (.iload_n 3, 1) := dk_29 (dk_at dksX7_judged_3 12 rfl rfl)
theorem dX7_judged_84 : decode cX7_judged 84 = .ok (.ifCond .ge 6, 3) := dk_156 0 6 (dk_at dksX7_judged_3 13 rfl rfl)
theorem dX7_judged_87 : decode cX7_judged 87 = .ok (.iload 4, 2) := dk_21 4 (dk_at dksX7_judged_3 16 rfl rfl)
theorem dX7_judged_89 : decode cX7_judged 89 = .ok (.istore_n 3, 1) := dk_62 (dk_at dksX7_judged_3 18 rfl rfl)
theorem dX7_judged_90 : decode cX7_judged 90 = .ok (.iinc 4 1, 3) := dk_132 4 1 (dk_at dksX7_judged_3 19 rfl rfl)
theorem dX7_judged_93 : decode cX7_judged 93 = .ok (.goto (-52), 3) := dk_167 255 204 (dk_at dksX7_judged_4 0 rfl rfl)
theorem dX7_judged_96 : decode cX7_judged 96 = .ok (.aload_n 0, 1) := dk_42 (dk_at dksX7_judged_4 3 rfl rfl)
theorem dX7_judged_97 : decode cX7_judged 97 = .ok (.invokevirtual 390, 3) := dk_182 1 134 (dk_at dksX7_judged_4 4 rfl rfl)
theorem dX7_judged_100 : decode cX7_judged 100 = .ok (.invokestatic 384, 3) := dk_184 1 128 (dk_at dksX7_judged_4 7 rfl rfl)
theorem dX7_judged_103 : decode cX7_judged 103 = .ok (.istore 4, 2) := dk_54 4 (dk_at dksX7_judged_4 10 rfl rfl)
theorem dX7_judged_105 : decode cX7_judged 105 = .ok (.aload_n 0, 1) := dk_42 (dk_at dksX7_judged_4 12 rfl rfl)
theorem dX7_judged_106 : decode cX7_judged 106 = .ok (.getfield 123, 3) := dk_180 0 123 (dk_at dksX7_judged_4 13 rfl rfl)
theorem dX7_judged_109 : decode cX7_judged 109 = .ok (.iconst 0, 1) := dk_3 (dk_at dksX7_judged_4 16 rfl rfl)
theorem dX7_judged_110 : decode cX7_judged 110 = .ok (.aload_n 0, 1) := dk_42 (dk_at dksX7_judged_4 17 rfl rfl)
theorem dX7_judged_111 : decode cX7_judged 111 = .ok (.getfield 120, 3) := dk_180 0 120 (dk_at dksX7_judged_4 18 rfl rfl)
theorem dX7_judged_114 : decode cX7_judged 114 = .ok (.iconst 0, 1) := dk_3 (dk_at dksX7_judged_4 21 rfl rfl)
theorem dX7_judged_115 : decode cX7_judged 115 = .ok (.invokestatic 405, 3) := dk_184 1 149 (dk_at dksX7_judged_5 0 rfl rfl)
theorem dX7_judged_118 : decode cX7_judged 118 = .ok (.iload_n 1, 1) := dk_27 (dk_at dksX7_judged_5 3 rfl rfl)
theorem dX7_judged_119 : decode cX7_judged 119 = .ok (.ifCond .ne 7, 3) := dk_154 0 7 (dk_at dksX7_judged_5 4 rfl rfl)
theorem dX7_judged_122 : decode cX7_judged 122 = .ok (.iload_n 2, 1) := dk_28 (dk_at dksX7_judged_5 7 rfl rfl)
theorem dX7_judged_123 : decode cX7_judged 123 = .ok (.goto 14, 3) := dk_167 0 14 (dk_at dksX7_judged_5 8 rfl rfl)
theorem dX7_judged_126 : decode cX7_judged 126 = .ok (.iload_n 1, 1) := dk_27 (dk_at dksX7_judged_5 11 rfl rfl)
theorem dX7_judged_127 : decode cX7_judged 127 = .ok (.iconst 1, 1) := dk_4 (dk_at dksX7_judged_5 12 rfl rfl)
theorem dX7_judged_128 : decode cX7_judged 128 = .ok (.if_icmp .ne 7, 3) := dk_160 0 7 (dk_at dksX7_judged_5 13 rfl rfl)
theorem dX7_judged_131 : decode cX7_judged 131 = .ok (.iload_n 3, 1) := dk_29 (dk_at dksX7_judged_5 16 rfl rfl)
theorem dX7_judged_132 : decode cX7_judged 132 = .ok (.goto 5, 3) := dk_167 0 5 (dk_at dksX7_judged_5 17 rfl rfl)
theorem dX7_judged_135 : decode cX7_judged 135 = .ok (.iload 4, 2) := dk_21 4 (dk_at dksX7_judged_5 20 rfl rfl)
theorem dX7_judged_137 : decode cX7_judged 137 = .ok (.ireturn, 1) := dk_172 (dk_at dksX7_judged_5 22 rfl rfl)
abbrev cX7_later : ByteArray := prog_32_method_76_code
abbrev yX7_later : MethodName := { cls := "WornSkinModel", name := "later", desc := "(III)I" }
def dkwX7_later_1 : List UInt8 := [42, 27, 28, 42, 42, 180, 0, 120, 3, 46, 29, 96, 182, 1, 111, 182, 1, 107, 167, 0, 4, 2, 172]
abbrev dktX7_later_1 : List UInt8 := dkwX7_later_1 ++ []
def dkwX7_later_0 : List UInt8 := [42, 3, 181, 0, 144, 42, 27, 28, 182, 1, 140, 153, 0, 34, 29, 3, 16, 40, 184, 1, 9, 153, 0, 24]
abbrev dktX7_later_0 : List UInt8 := dkwX7_later_0 ++ dktX7_later_1
theorem dksX7_later_0 : cX7_later.data.toList.drop 0 = dktX7_later_0 := by decide +kernel
theorem dksX7_later_1 : cX7_later.data.toList.drop 24 = dktX7_later_1 := dk_seg dksX7_later_0 24 rfl rfl
theorem dX7_later_0 : decode cX7_later 0 = .ok (.aload_n 0, 1) := dk_42 (dk_at dksX7_later_0 0 rfl rfl)
theorem dX7_later_1 : decode cX7_later 1 = .ok (.iconst 0, 1) := dk_3 (dk_at dksX7_later_0 1 rfl rfl)
theorem dX7_later_2 : decode cX7_later 2 = .ok (.putfield 144, 3) := dk_181 0 144 (dk_at dksX7_later_0 2 rfl rfl)
theorem dX7_later_5 : decode cX7_later 5 = .ok (.aload_n 0, 1) := dk_42 (dk_at dksX7_later_0 5 rfl rfl)
theorem dX7_later_6 : decode cX7_later 6 = .ok (.iload_n 1, 1) := dk_27 (dk_at dksX7_later_0 6 rfl rfl)
theorem dX7_later_7 : decode cX7_later 7 = .ok (.iload_n 2, 1) := dk_28 (dk_at dksX7_later_0 7 rfl rfl)
theorem dX7_later_8 : decode cX7_later 8 = .ok (.invokevirtual 396, 3) := dk_182 1 140 (dk_at dksX7_later_0 8 rfl rfl)
theorem dX7_later_11 : decode cX7_later 11 = .ok (.ifCond .eq 34, 3) := dk_153 0 34 (dk_at dksX7_later_0 11 rfl rfl)
theorem dX7_later_14 : decode cX7_later 14 = .ok (.iload_n 3, 1) := dk_29 (dk_at dksX7_later_0 14 rfl rfl)
theorem dX7_later_15 : decode cX7_later 15 = .ok (.iconst 0, 1) := dk_3 (dk_at dksX7_later_0 15 rfl rfl)
theorem dX7_later_16 : decode cX7_later 16 = .ok (.bipush 40, 2) := dk_16 40 (dk_at dksX7_later_0 16 rfl rfl)
theorem dX7_later_18 : decode cX7_later 18 = .ok (.invokestatic 265, 3) := dk_184 1 9 (dk_at dksX7_later_0 18 rfl rfl)
theorem dX7_later_21 : decode cX7_later 21 = .ok (.ifCond .eq 24, 3) := dk_153 0 24 (dk_at dksX7_later_0 21 rfl rfl)
theorem dX7_later_24 : decode cX7_later 24 = .ok (.aload_n 0, 1) := dk_42 (dk_at dksX7_later_1 0 rfl rfl)
theorem dX7_later_25 : decode cX7_later 25 = .ok (.iload_n 1, 1) := dk_27 (dk_at dksX7_later_1 1 rfl rfl)
theorem dX7_later_26 : decode cX7_later 26 = .ok (.iload_n 2, 1) := dk_28 (dk_at dksX7_later_1 2 rfl rfl)
theorem dX7_later_27 : decode cX7_later 27 = .ok (.aload_n 0, 1) := dk_42 (dk_at dksX7_later_1 3 rfl rfl)
theorem dX7_later_28 : decode cX7_later 28 = .ok (.aload_n 0, 1) := dk_42 (dk_at dksX7_later_1 4 rfl rfl)
theorem dX7_later_29 : decode cX7_later 29 = .ok (.getfield 120, 3) := dk_180 0 120 (dk_at dksX7_later_1 5 rfl rfl)
theorem dX7_later_32 : decode cX7_later 32 = .ok (.iconst 0, 1) := dk_3 (dk_at dksX7_later_1 8 rfl rfl)
theorem dX7_later_33 : decode cX7_later 33 = .ok (.iaload, 1) := dk_46 (dk_at dksX7_later_1 9 rfl rfl)
theorem dX7_later_34 : decode cX7_later 34 = .ok (.iload_n 3, 1) := dk_29 (dk_at dksX7_later_1 10 rfl rfl)
theorem dX7_later_35 : decode cX7_later 35 = .ok (.iadd, 1) := dk_96 (dk_at dksX7_later_1 11 rfl rfl)
theorem dX7_later_36 : decode cX7_later 36 = .ok (.invokevirtual 367, 3) := dk_182 1 111 (dk_at dksX7_later_1 12 rfl rfl)
theorem dX7_later_39 : decode cX7_later 39 = .ok (.invokevirtual 363, 3) := dk_182 1 107 (dk_at dksX7_later_1 15 rfl rfl)
theorem dX7_later_42 : decode cX7_later 42 = .ok (.goto 4, 3) := dk_167 0 4 (dk_at dksX7_later_1 18 rfl rfl)
theorem dX7_later_45 : decode cX7_later 45 = .ok (.iconst (-1), 1) := dk_2 (dk_at dksX7_later_1 21 rfl rfl)
theorem dX7_later_46 : decode cX7_later 46 = .ok (.ireturn, 1) := dk_172 (dk_at dksX7_later_1 22 rfl rfl)
abbrev cX7_when : ByteArray := prog_32_method_77_code
abbrev yX7_when : MethodName := { cls := "WornSkinModel", name := "when", desc := "(I)I" }
def dkwX7_when_2 : List UInt8 := [172, 132, 2, 1, 167, 255, 221, 2, 172]
abbrev dktX7_when_2 : List UInt8 := dkwX7_when_2 ++ []
def dkwX7_when_1 : List UInt8 := [42, 42, 180, 0, 120, 3, 46, 28, 96, 182, 1, 111, 182, 1, 114, 27, 122, 4, 126, 4, 160, 0, 5, 28]
abbrev dktX7_when_1 : List UInt8 := dkwX7_when_1 ++ dktX7_when_2
def dkwX7_when_0 : List UInt8 := [42, 3, 181, 0, 144, 42, 27, 182, 1, 131, 154, 0, 5, 2, 172, 3, 61, 28, 16, 40, 163, 0, 35, 42]
abbrev dktX7_when_0 : List UInt8 := dkwX7_when_0 ++ dktX7_when_1
theorem dksX7_when_0 : cX7_when.data.toList.drop 0 = dktX7_when_0 := by decide +kernel
theorem dksX7_when_1 : cX7_when.data.toList.drop 24 = dktX7_when_1 := dk_seg dksX7_when_0 24 rfl rfl
theorem dksX7_when_2 : cX7_when.data.toList.drop 48 = dktX7_when_2 := dk_seg dksX7_when_1 24 rfl rfl
theorem dX7_when_0 : decode cX7_when 0 = .ok (.aload_n 0, 1) := dk_42 (dk_at dksX7_when_0 0 rfl rfl)
theorem dX7_when_1 : decode cX7_when 1 = .ok (.iconst 0, 1) := dk_3 (dk_at dksX7_when_0 1 rfl rfl)
theorem dX7_when_2 : decode cX7_when 2 = .ok (.putfield 144, 3) := dk_181 0 144 (dk_at dksX7_when_0 2 rfl rfl)
theorem dX7_when_5 : decode cX7_when 5 = .ok (.aload_n 0, 1) := dk_42 (dk_at dksX7_when_0 5 rfl rfl)
theorem dX7_when_6 : decode cX7_when 6 = .ok (.iload_n 1, 1) := dk_27 (dk_at dksX7_when_0 6 rfl rfl)
theorem dX7_when_7 : decode cX7_when 7 = .ok (.invokevirtual 387, 3) := dk_182 1 131 (dk_at dksX7_when_0 7 rfl rfl)
theorem dX7_when_10 : decode cX7_when 10 = .ok (.ifCond .ne 5, 3) := dk_154 0 5 (dk_at dksX7_when_0 10 rfl rfl)
theorem dX7_when_13 : decode cX7_when 13 = .ok (.iconst (-1), 1) := dk_2 (dk_at dksX7_when_0 13 rfl rfl)
theorem dX7_when_14 : decode cX7_when 14 = .ok (.ireturn, 1) := dk_172 (dk_at dksX7_when_0 14 rfl rfl)
theorem dX7_when_15 : decode cX7_when 15 = .ok (.iconst 0, 1) := dk_3 (dk_at dksX7_when_0 15 rfl rfl)
theorem dX7_when_16 : decode cX7_when 16 = .ok (.istore_n 2, 1) := dk_61 (dk_at dksX7_when_0 16 rfl rfl)
theorem dX7_when_17 : decode cX7_when 17 = .ok (.iload_n 2, 1) := dk_28 (dk_at dksX7_when_0 17 rfl rfl)
theorem dX7_when_18 : decode cX7_when 18 = .ok (.bipush 40, 2) := dk_16 40 (dk_at dksX7_when_0 18 rfl rfl)
theorem dX7_when_20 : decode cX7_when 20 = .ok (.if_icmp .gt 35, 3) := dk_163 0 35 (dk_at dksX7_when_0 20 rfl rfl)
theorem dX7_when_23 : decode cX7_when 23 = .ok (.aload_n 0, 1) := dk_42 (dk_at dksX7_when_0 23 rfl rfl)
theorem dX7_when_24 : decode cX7_when 24 = .ok (.aload_n 0, 1) := dk_42 (dk_at dksX7_when_1 0 rfl rfl)
theorem dX7_when_25 : decode cX7_when 25 = .ok (.aload_n 0, 1) := dk_42 (dk_at dksX7_when_1 1 rfl rfl)
theorem dX7_when_26 : decode cX7_when 26 = .ok (.getfield 120, 3) := dk_180 0 120 (dk_at dksX7_when_1 2 rfl rfl)
theorem dX7_when_29 : decode cX7_when 29 = .ok (.iconst 0, 1) := dk_3 (dk_at dksX7_when_1 5 rfl rfl)
theorem dX7_when_30 : decode cX7_when 30 = .ok (.iaload, 1) := dk_46 (dk_at dksX7_when_1 6 rfl rfl)
theorem dX7_when_31 : decode cX7_when 31 = .ok (.iload_n 2, 1) := dk_28 (dk_at dksX7_when_1 7 rfl rfl)
theorem dX7_when_32 : decode cX7_when 32 = .ok (.iadd, 1) := dk_96 (dk_at dksX7_when_1 8 rfl rfl)
theorem dX7_when_33 : decode cX7_when 33 = .ok (.invokevirtual 367, 3) := dk_182 1 111 (dk_at dksX7_when_1 9 rfl rfl)
theorem dX7_when_36 : decode cX7_when 36 = .ok (.invokevirtual 370, 3) := dk_182 1 114 (dk_at dksX7_when_1 12 rfl rfl)
theorem dX7_when_39 : decode cX7_when 39 = .ok (.iload_n 1, 1) := dk_27 (dk_at dksX7_when_1 15 rfl rfl)
theorem dX7_when_40 : decode cX7_when 40 = .ok (.ishr, 1) := dk_122 (dk_at dksX7_when_1 16 rfl rfl)
theorem dX7_when_41 : decode cX7_when 41 = .ok (.iconst 1, 1) := dk_4 (dk_at dksX7_when_1 17 rfl rfl)
theorem dX7_when_42 : decode cX7_when 42 = .ok (.iand, 1) := dk_126 (dk_at dksX7_when_1 18 rfl rfl)
theorem dX7_when_43 : decode cX7_when 43 = .ok (.iconst 1, 1) := dk_4 (dk_at dksX7_when_1 19 rfl rfl)
theorem dX7_when_44 : decode cX7_when 44 = .ok (.if_icmp .ne 5, 3) := dk_160 0 5 (dk_at dksX7_when_1 20 rfl rfl)
theorem dX7_when_47 : decode cX7_when 47 = .ok (.iload_n 2, 1) := dk_28 (dk_at dksX7_when_1 23 rfl rfl)
theorem dX7_when_48 : decode cX7_when 48 = .ok (.ireturn, 1) := dk_172 (dk_at dksX7_when_2 0 rfl rfl)
theorem dX7_when_49 : decode cX7_when 49 = .ok (.iinc 2 1, 3) := dk_132 2 1 (dk_at dksX7_when_2 1 rfl rfl)
theorem dX7_when_52 : decode cX7_when 52 = .ok (.goto (-35), 3) := dk_167 255 221 (dk_at dksX7_when_2 4 rfl rfl)
theorem dX7_when_55 : decode cX7_when 55 = .ok (.iconst (-1), 1) := dk_2 (dk_at dksX7_when_2 7 rfl rfl)
theorem dX7_when_56 : decode cX7_when 56 = .ok (.ireturn, 1) := dk_172 (dk_at dksX7_when_2 8 rfl rfl)
abbrev cX7_need : ByteArray := prog_32_method_78_code
abbrev yX7_need : MethodName := { cls := "WornSkinModel", name := "need", desc := "(I)I" }
def dkwX7_need_1 : List UInt8 := [28, 182, 1, 114, 27, 122, 4, 126, 4, 160, 0, 5, 28, 172, 132, 2, 1, 167, 255, 232, 2, 172]
abbrev dktX7_need_1 : List UInt8 := dkwX7_need_1 ++ []
def dkwX7_need_0 : List UInt8 := [42, 3, 181, 0, 144, 42, 27, 182, 1, 131, 154, 0, 5, 2, 172, 3, 61, 28, 16, 10, 162, 0, 24, 42]
abbrev dktX7_need_0 : List UInt8 := dkwX7_need_0 ++ dktX7_need_1
theorem dksX7_need_0 : cX7_need.data.toList.drop 0 = dktX7_need_0 := by decide +kernel
theorem dksX7_need_1 : cX7_need.data.toList.drop 24 = dktX7_need_1 := dk_seg dksX7_need_0 24 rfl rfl
theorem dX7_need_0 : decode cX7_need 0 = .ok (.aload_n 0, 1) := dk_42 (dk_at dksX7_need_0 0 rfl rfl)
theorem dX7_need_1 : decode cX7_need 1 = .ok (.iconst 0, 1) := dk_3 (dk_at dksX7_need_0 1 rfl rfl)
theorem dX7_need_2 : decode cX7_need 2 = .ok (.putfield 144, 3) := dk_181 0 144 (dk_at dksX7_need_0 2 rfl rfl)
theorem dX7_need_5 : decode cX7_need 5 = .ok (.aload_n 0, 1) := dk_42 (dk_at dksX7_need_0 5 rfl rfl)
theorem dX7_need_6 : decode cX7_need 6 = .ok (.iload_n 1, 1) := dk_27 (dk_at dksX7_need_0 6 rfl rfl)
theorem dX7_need_7 : decode cX7_need 7 = .ok (.invokevirtual 387, 3) := dk_182 1 131 (dk_at dksX7_need_0 7 rfl rfl)
theorem dX7_need_10 : decode cX7_need 10 = .ok (.ifCond .ne 5, 3) := dk_154 0 5 (dk_at dksX7_need_0 10 rfl rfl)
theorem dX7_need_13 : decode cX7_need 13 = .ok (.iconst (-1), 1) := dk_2 (dk_at dksX7_need_0 13 rfl rfl)
theorem dX7_need_14 : decode cX7_need 14 = .ok (.ireturn, 1) := dk_172 (dk_at dksX7_need_0 14 rfl rfl)
theorem dX7_need_15 : decode cX7_need 15 = .ok (.iconst 0, 1) := dk_3 (dk_at dksX7_need_0 15 rfl rfl)
theorem dX7_need_16 : decode cX7_need 16 = .ok (.istore_n 2, 1) := dk_61 (dk_at dksX7_need_0 16 rfl rfl)
theorem dX7_need_17 : decode cX7_need 17 = .ok (.iload_n 2, 1) := dk_28 (dk_at dksX7_need_0 17 rfl rfl)
theorem dX7_need_18 : decode cX7_need 18 = .ok (.bipush 10, 2) := dk_16 10 (dk_at dksX7_need_0 18 rfl rfl)
theorem dX7_need_20 : decode cX7_need 20 = .ok (.if_icmp .ge 24, 3) := dk_162 0 24 (dk_at dksX7_need_0 20 rfl rfl)
theorem dX7_need_23 : decode cX7_need 23 = .ok (.aload_n 0, 1) := dk_42 (dk_at dksX7_need_0 23 rfl rfl)
theorem dX7_need_24 : decode cX7_need 24 = .ok (.iload_n 2, 1) := dk_28 (dk_at dksX7_need_1 0 rfl rfl)
theorem dX7_need_25 : decode cX7_need 25 = .ok (.invokevirtual 370, 3) := dk_182 1 114 (dk_at dksX7_need_1 1 rfl rfl)
theorem dX7_need_28 : decode cX7_need 28 = .ok (.iload_n 1, 1) := dk_27 (dk_at dksX7_need_1 4 rfl rfl)
theorem dX7_need_29 : decode cX7_need 29 = .ok (.ishr, 1) := dk_122 (dk_at dksX7_need_1 5 rfl rfl)
theorem dX7_need_30 : decode cX7_need 30 = .ok (.iconst 1, 1) := dk_4 (dk_at dksX7_need_1 6 rfl rfl)
theorem dX7_need_31 : decode cX7_need 31 = .ok (.iand, 1) := dk_126 (dk_at dksX7_need_1 7 rfl rfl)
theorem dX7_need_32 : decode cX7_need 32 = .ok (.iconst 1, 1) := dk_4 (dk_at dksX7_need_1 8 rfl rfl)
theorem dX7_need_33 : decode cX7_need 33 = .ok (.if_icmp .ne 5, 3) := dk_160 0 5 (dk_at dksX7_need_1 9 rfl rfl)
theorem dX7_need_36 : decode cX7_need 36 = .ok (.iload_n 2, 1) := dk_28 (dk_at dksX7_need_1 12 rfl rfl)
theorem dX7_need_37 : decode cX7_need 37 = .ok (.ireturn, 1) := dk_172 (dk_at dksX7_need_1 13 rfl rfl)
theorem dX7_need_38 : decode cX7_need 38 = .ok (.iinc 2 1, 3) := dk_132 2 1 (dk_at dksX7_need_1 14 rfl rfl)
theorem dX7_need_41 : decode cX7_need 41 = .ok (.goto (-24), 3) := dk_167 255 232 (dk_at dksX7_need_1 17 rfl rfl)
theorem dX7_need_44 : decode cX7_need 44 = .ok (.iconst (-1), 1) := dk_2 (dk_at dksX7_need_1 20 rfl rfl)
theorem dX7_need_45 : decode cX7_need 45 = .ok (.ireturn, 1) := dk_172 (dk_at dksX7_need_1 21 rfl rfl)
abbrev cX7_psalter : ByteArray := prog_32_method_79_code
abbrev yX7_psalter : MethodName := { cls := "WornSkinModel", name := "psalter", desc := "(I)I" }
def dkwX7_psalter_1 : List UInt8 := [162, 0, 21, 28, 42, 29, 182, 1, 114, 27, 122, 4, 126, 96, 61, 132, 3, 1, 167, 255, 235, 28, 172]
abbrev dktX7_psalter_1 : List UInt8 := dkwX7_psalter_1 ++ []
def dkwX7_psalter_0 : List UInt8 := [42, 3, 181, 0, 144, 42, 27, 182, 1, 131, 154, 0, 5, 2, 172, 3, 61, 3, 62, 29, 16, 10]
abbrev dktX7_psalter_0 : List UInt8 := dkwX7_psalter_0 ++ dktX7_psalter_1
theorem dksX7_psalter_0 : cX7_psalter.data.toList.drop 0 = dktX7_psalter_0 := by decide +kernel
theorem dksX7_psalter_1 : cX7_psalter.data.toList.drop 22 = dktX7_psalter_1 := dk_seg dksX7_psalter_0 22 rfl rfl
theorem dX7_psalter_0 : decode cX7_psalter 0 = .ok (.aload_n 0, 1) := dk_42 (dk_at dksX7_psalter_0 0 rfl rfl)
theorem dX7_psalter_1 : decode cX7_psalter 1 = .ok (.iconst 0, 1) := dk_3 (dk_at dksX7_psalter_0 1 rfl rfl)
theorem dX7_psalter_2 : decode cX7_psalter 2 = .ok (.putfield 144, 3) := dk_181 0 144 (dk_at dksX7_psalter_0 2 rfl rfl)
theorem dX7_psalter_5 : decode cX7_psalter 5 = .ok (.aload_n 0, 1) := dk_42 (dk_at dksX7_psalter_0 5 rfl rfl)
theorem dX7_psalter_6 : decode cX7_psalter 6 = .ok (.iload_n 1, 1) := dk_27 (dk_at dksX7_psalter_0 6 rfl rfl)
theorem dX7_psalter_7 : decode cX7_psalter 7 = .ok (.invokevirtual 387, 3) := dk_182 1 131 (dk_at dksX7_psalter_0 7 rfl rfl)
theorem dX7_psalter_10 : decode cX7_psalter 10 = .ok (.ifCond .ne 5, 3) := dk_154 0 5 (dk_at dksX7_psalter_0 10 rfl rfl)
theorem dX7_psalter_13 : decode cX7_psalter 13 = .ok (.iconst (-1), 1) := dk_2 (dk_at dksX7_psalter_0 13 rfl rfl)
theorem dX7_psalter_14 : decode cX7_psalter 14 = .ok (.ireturn, 1) := dk_172 (dk_at dksX7_psalter_0 14 rfl rfl)
theorem dX7_psalter_15 : decode cX7_psalter 15 = .ok (.iconst 0, 1) := dk_3 (dk_at dksX7_psalter_0 15 rfl rfl)
theorem dX7_psalter_16 : decode cX7_psalter 16 = .ok (.istore_n 2, 1) := dk_61 (dk_at dksX7_psalter_0 16 rfl rfl)
theorem dX7_psalter_17 : decode cX7_psalter 17 = .ok (.iconst 0, 1) := dk_3 (dk_at dksX7_psalter_0 17 rfl rfl)
theorem dX7_psalter_18 : decode cX7_psalter 18 = .ok (.istore_n 3, 1) := dk_62 (dk_at dksX7_psalter_0 18 rfl rfl)
theorem dX7_psalter_19 : decode cX7_psalter 19 = .ok (.iload_n 3, 1) := dk_29 (dk_at dksX7_psalter_0 19 rfl rfl)
theorem dX7_psalter_20 : decode cX7_psalter 20 = .ok (.bipush 10, 2) := dk_16 10 (dk_at dksX7_psalter_0 20 rfl rfl)
theorem dX7_psalter_22 : decode cX7_psalter 22 = .ok (.if_icmp .ge 21, 3) := dk_162 0 21 (dk_at dksX7_psalter_1 0 rfl rfl)
theorem dX7_psalter_25 : decode cX7_psalter 25 = .ok (.iload_n 2, 1) := dk_28 (dk_at dksX7_psalter_1 3 rfl rfl)
theorem dX7_psalter_26 : decode cX7_psalter 26 = .ok (.aload_n 0, 1) := dk_42 (dk_at dksX7_psalter_1 4 rfl rfl)
theorem dX7_psalter_27 : decode cX7_psalter 27 = .ok (.iload_n 3, 1) := dk_29 (dk_at dksX7_psalter_1 5 rfl rfl)
theorem dX7_psalter_28 : decode cX7_psalter 28 = .ok (.invokevirtual 370, 3) := dk_182 1 114 (dk_at dksX7_psalter_1 6 rfl rfl)
theorem dX7_psalter_31 : decode cX7_psalter 31 = .ok (.iload_n 1, 1) := dk_27 (dk_at dksX7_psalter_1 9 rfl rfl)
theorem dX7_psalter_32 : decode cX7_psalter 32 = .ok (.ishr, 1) := dk_122 (dk_at dksX7_psalter_1 10 rfl rfl)
theorem dX7_psalter_33 : decode cX7_psalter 33 = .ok (.iconst 1, 1) := dk_4 (dk_at dksX7_psalter_1 11 rfl rfl)
theorem dX7_psalter_34 : decode cX7_psalter 34 = .ok (.iand, 1) := dk_126 (dk_at dksX7_psalter_1 12 rfl rfl)
theorem dX7_psalter_35 : decode cX7_psalter 35 = .ok (.iadd, 1) := dk_96 (dk_at dksX7_psalter_1 13 rfl rfl)
theorem dX7_psalter_36 : decode cX7_psalter 36 = .ok (.istore_n 2, 1) := dk_61 (dk_at dksX7_psalter_1 14 rfl rfl)
theorem dX7_psalter_37 : decode cX7_psalter 37 = .ok (.iinc 3 1, 3) := dk_132 3 1 (dk_at dksX7_psalter_1 15 rfl rfl)
theorem dX7_psalter_40 : decode cX7_psalter 40 = .ok (.goto (-21), 3) := dk_167 255 235 (dk_at dksX7_psalter_1 18 rfl rfl)
theorem dX7_psalter_43 : decode cX7_psalter 43 = .ok (.iload_n 2, 1) := dk_28 (dk_at dksX7_psalter_1 21 rfl rfl)
theorem dX7_psalter_44 : decode cX7_psalter 44 = .ok (.ireturn, 1) := dk_172 (dk_at dksX7_psalter_1 22 rfl rfl)
abbrev cX7_lost : ByteArray := prog_32_method_80_code
abbrev yX7_lost : MethodName := { cls := "WornSkinModel", name := "lost", desc := "()I" }
def dkwX7_lost_5 : List UInt8 := [167, 255, 219, 132, 4, 1, 167, 255, 155, 132, 3, 1, 167, 255, 136, 27, 28, 2, 130, 126, 172]
abbrev dktX7_lost_5 : List UInt8 := dkwX7_lost_5 ++ []
def dkwX7_lost_4 : List UInt8 := [182, 1, 107, 54, 6, 28, 21, 6, 156, 0, 7, 3, 167, 0, 7, 4, 21, 6, 120, 128, 61, 132, 5, 1]
abbrev dktX7_lost_4 : List UInt8 := dkwX7_lost_4 ++ dktX7_lost_5
def dkwX7_lost_3 : List UInt8 := [16, 7, 108, 54, 5, 167, 255, 232, 3, 54, 5, 21, 5, 16, 10, 162, 0, 36, 42, 29, 21, 4, 21, 5]
abbrev dktX7_lost_3 : List UInt8 := dkwX7_lost_3 ++ dktX7_lost_4
def dkwX7_lost_2 : List UInt8 := [96, 46, 54, 5, 21, 5, 158, 0, 25, 27, 4, 21, 5, 16, 7, 112, 4, 100, 120, 128, 60, 21, 5]
abbrev dktX7_lost_2 : List UInt8 := dkwX7_lost_2 ++ dktX7_lost_3
def dkwX7_lost_1 : List UInt8 := [21, 4, 42, 180, 0, 23, 29, 46, 162, 0, 96, 42, 180, 0, 120, 16, 7, 16, 6, 29, 104, 96, 21, 4]
abbrev dktX7_lost_1 : List UInt8 := dkwX7_lost_1 ++ dktX7_lost_2
def dkwX7_lost_0 : List UInt8 := [42, 3, 181, 0, 144, 3, 60, 3, 61, 3, 62, 29, 42, 180, 0, 13, 3, 46, 162, 0, 116, 3, 54, 4]
abbrev dktX7_lost_0 : List UInt8 := dkwX7_lost_0 ++ dktX7_lost_1
theorem dksX7_lost_0 : cX7_lost.data.toList.drop 0 = dktX7_lost_0 := by decide +kernel
theorem dksX7_lost_1 : cX7_lost.data.toList.drop 24 = dktX7_lost_1 := dk_seg dksX7_lost_0 24 rfl rfl
theorem dksX7_lost_2 : cX7_lost.data.toList.drop 48 = dktX7_lost_2 := dk_seg dksX7_lost_1 24 rfl rfl
theorem dksX7_lost_3 : cX7_lost.data.toList.drop 71 = dktX7_lost_3 := dk_seg dksX7_lost_2 23 rfl rfl
theorem dksX7_lost_4 : cX7_lost.data.toList.drop 95 = dktX7_lost_4 := dk_seg dksX7_lost_3 24 rfl rfl
theorem dksX7_lost_5 : cX7_lost.data.toList.drop 119 = dktX7_lost_5 := dk_seg dksX7_lost_4 24 rfl rfl
theorem dX7_lost_0 : decode cX7_lost 0 = .ok (.aload_n 0, 1) := dk_42 (dk_at dksX7_lost_0 0 rfl rfl)
theorem dX7_lost_1 : decode cX7_lost 1 = .ok (.iconst 0, 1) := dk_3 (dk_at dksX7_lost_0 1 rfl rfl)
theorem dX7_lost_2 : decode cX7_lost 2 = .ok (.putfield 144, 3) := dk_181 0 144 (dk_at dksX7_lost_0 2 rfl rfl)
theorem dX7_lost_5 : decode cX7_lost 5 = .ok (.iconst 0, 1) := dk_3 (dk_at dksX7_lost_0 5 rfl rfl)
theorem dX7_lost_6 : decode cX7_lost 6 = .ok (.istore_n 1, 1) := dk_60 (dk_at dksX7_lost_0 6 rfl rfl)
theorem dX7_lost_7 : decode cX7_lost 7 = .ok (.iconst 0, 1) := dk_3 (dk_at dksX7_lost_0 7 rfl rfl)
theorem dX7_lost_8 : decode cX7_lost 8 = .ok (.istore_n 2, 1) := dk_61 (dk_at dksX7_lost_0 8 rfl rfl)
theorem dX7_lost_9 : decode cX7_lost 9 = .ok (.iconst 0, 1) := dk_3 (dk_at dksX7_lost_0 9 rfl rfl)
theorem dX7_lost_10 : decode cX7_lost 10 = .ok (.istore_n 3, 1) := dk_62 (dk_at dksX7_lost_0 10 rfl rfl)
theorem dX7_lost_11 : decode cX7_lost 11 = .ok (.iload_n 3, 1) := dk_29 (dk_at dksX7_lost_0 11 rfl rfl)
theorem dX7_lost_12 : decode cX7_lost 12 = .ok (.aload_n 0, 1) := dk_42 (dk_at dksX7_lost_0 12 rfl rfl)
theorem dX7_lost_13 : decode cX7_lost 13 = .ok (.getfield 13, 3) := dk_180 0 13 (dk_at dksX7_lost_0 13 rfl rfl)
theorem dX7_lost_16 : decode cX7_lost 16 = .ok (.iconst 0, 1) := dk_3 (dk_at dksX7_lost_0 16 rfl rfl)
theorem dX7_lost_17 : decode cX7_lost 17 = .ok (.iaload, 1) := dk_46 (dk_at dksX7_lost_0 17 rfl rfl)
theorem dX7_lost_18 : decode cX7_lost 18 = .ok (.if_icmp .ge 116, 3) := dk_162 0 116 (dk_at dksX7_lost_0 18 rfl rfl)
theorem dX7_lost_21 : decode cX7_lost 21 = .ok (.iconst 0, 1) := dk_3 (dk_at dksX7_lost_0 21 rfl rfl)
theorem dX7_lost_22 : decode cX7_lost 22 = .ok (.istore 4, 2) := dk_54 4 (dk_at dksX7_lost_0 22 rfl rfl)
theorem dX7_lost_24 : decode cX7_lost 24 = .ok (.iload 4, 2) := dk_21 4 (dk_at dksX7_lost_1 0 rfl rfl)
theorem dX7_lost_26 : decode cX7_lost 26 = .ok (.aload_n 0, 1) := dk_42 (dk_at dksX7_lost_1 2 rfl rfl)
theorem dX7_lost_27 : decode cX7_lost 27 = .ok (.getfield 23, 3) := dk_180 0 23 (dk_at dksX7_lost_1 3 rfl rfl)
theorem dX7_lost_30 : decode cX7_lost 30 = .ok (.iload_n 3, 1) := dk_29 (dk_at dksX7_lost_1 6 rfl rfl)
theorem dX7_lost_31 : decode cX7_lost 31 = .ok (.iaload, 1) := dk_46 (dk_at dksX7_lost_1 7 rfl rfl)
theorem dX7_lost_32 : decode cX7_lost 32 = .ok (.if_icmp .ge 96, 3) := dk_162 0 96 (dk_at dksX7_lost_1 8 rfl rfl)
theorem dX7_lost_35 : decode cX7_lost 35 = .ok (.aload_n 0, 1) := dk_42 (dk_at dksX7_lost_1 11 rfl rfl)
theorem dX7_lost_36 : decode cX7_lost 36 = .ok (.getfield 120, 3) := dk_180 0 120 (dk_at dksX7_lost_1 12 rfl rfl)
theorem dX7_lost_39 : decode cX7_lost 39 = .ok (.bipush 7, 2) := dk_16 7 (dk_at dksX7_lost_1 15 rfl rfl)
theorem dX7_lost_41 : decode cX7_lost 41 = .ok (.bipush 6, 2) := dk_16 6 (dk_at dksX7_lost_1 17 rfl rfl)
theorem dX7_lost_43 : decode cX7_lost 43 = .ok (.iload_n 3, 1) := dk_29 (dk_at dksX7_lost_1 19 rfl rfl)
theorem dX7_lost_44 : decode cX7_lost 44 = .ok (.imul, 1) := dk_104 (dk_at dksX7_lost_1 20 rfl rfl)
theorem dX7_lost_45 : decode cX7_lost 45 = .ok (.iadd, 1) := dk_96 (dk_at dksX7_lost_1 21 rfl rfl)
theorem dX7_lost_46 : decode cX7_lost 46 = .ok (.iload 4, 2) := dk_21 4 (dk_at dksX7_lost_1 22 rfl rfl)
theorem dX7_lost_48 : decode cX7_lost 48 = .ok (.iadd, 1) := dk_96 (dk_at dksX7_lost_2 0 rfl rfl)
theorem dX7_lost_49 : decode cX7_lost 49 = .ok (.iaload, 1) := dk_46 (dk_at dksX7_lost_2 1 rfl rfl)
theorem dX7_lost_50 : decode cX7_lost 50 = .ok (.istore 5, 2) := dk_54 5 (dk_at dksX7_lost_2 2 rfl rfl)
theorem dX7_lost_52 : decode cX7_lost 52 = .ok (.iload 5, 2) := dk_21 5 (dk_at dksX7_lost_2 4 rfl rfl)
theorem dX7_lost_54 : decode cX7_lost 54 = .ok (.ifCond .le 25, 3) := dk_158 0 25 (dk_at dksX7_lost_2 6 rfl rfl)
theorem dX7_lost_57 : decode cX7_lost 57 = .ok (.iload_n 1, 1) := dk_27 (dk_at dksX7_lost_2 9 rfl rfl)
theorem dX7_lost_58 : decode cX7_lost 58 = .ok (.iconst 1, 1) := dk_4 (dk_at dksX7_lost_2 10 rfl rfl)
theorem dX7_lost_59 : decode cX7_lost 59 = .ok (.iload 5, 2) := dk_21 5 (dk_at dksX7_lost_2 11 rfl rfl)
theorem dX7_lost_61 : decode cX7_lost 61 = .ok (.bipush 7, 2) := dk_16 7 (dk_at dksX7_lost_2 13 rfl rfl)
theorem dX7_lost_63 : decode cX7_lost 63 = .ok (.irem, 1) := dk_112 (dk_at dksX7_lost_2 15 rfl rfl)
theorem dX7_lost_64 : decode cX7_lost 64 = .ok (.iconst 1, 1) := dk_4 (dk_at dksX7_lost_2 16 rfl rfl)
theorem dX7_lost_65 : decode cX7_lost 65 = .ok (.isub, 1) := dk_100 (dk_at dksX7_lost_2 17 rfl rfl)
theorem dX7_lost_66 : decode cX7_lost 66 = .ok (.ishl, 1) := dk_120 (dk_at dksX7_lost_2 18 rfl rfl)
theorem dX7_lost_67 : decode cX7_lost 67 = .ok (.ior, 1) := dk_128 (dk_at dksX7_lost_2 19 rfl rfl)
theorem dX7_lost_68 : decode cX7_lost 68 = .ok (.istore_n 1, 1) := dk_60 (dk_at dksX7_lost_2 20 rfl rfl)
theorem dX7_lost_69 : decode cX7_lost 69 = .ok (.iload 5, 2) := dk_21 5 (dk_at dksX7_lost_2 21 rfl rfl)
theorem dX7_lost_71 : decode cX7_lost 71 = .ok (.bipush 7, 2) := dk_16 7 (dk_at dksX7_lost_3 0 rfl rfl)
theorem dX7_lost_73 : decode cX7_lost 73 = .ok (.idiv, 1) := dk_108 (dk_at dksX7_lost_3 2 rfl rfl)
theorem dX7_lost_74 : decode cX7_lost 74 = .ok (.istore 5, 2) := dk_54 5 (dk_at dksX7_lost_3 3 rfl rfl)
theorem dX7_lost_76 : decode cX7_lost 76 = .ok (.goto (-24), 3) := dk_167 255 232 (dk_at dksX7_lost_3 5 rfl rfl)
theorem dX7_lost_79 : decode cX7_lost 79 = .ok (.iconst 0, 1) := dk_3 (dk_at dksX7_lost_3 8 rfl rfl)
theorem dX7_lost_80 : decode cX7_lost 80 = .ok (.istore 5, 2) := dk_54 5 (dk_at dksX7_lost_3 9 rfl rfl)
theorem dX7_lost_82 : decode cX7_lost 82 = .ok (.iload 5, 2) := dk_21 5 (dk_at dksX7_lost_3 11 rfl rfl)
theorem dX7_lost_84 : decode cX7_lost 84 = .ok (.bipush 10, 2) := dk_16 10 (dk_at dksX7_lost_3 13 rfl rfl)
theorem dX7_lost_86 : decode cX7_lost 86 = .ok (.if_icmp .ge 36, 3) := dk_162 0 36 (dk_at dksX7_lost_3 15 rfl rfl)
theorem dX7_lost_89 : decode cX7_lost 89 = .ok (.aload_n 0, 1) := dk_42 (dk_at dksX7_lost_3 18 rfl rfl)
theorem dX7_lost_90 : decode cX7_lost 90 = .ok (.iload_n 3, 1) := dk_29 (dk_at dksX7_lost_3 19 rfl rfl)
theorem dX7_lost_91 : decode cX7_lost 91 = .ok (.iload 4, 2) := dk_21 4 (dk_at dksX7_lost_3 20 rfl rfl)
theorem dX7_lost_93 : decode cX7_lost 93 = .ok (.iload 5, 2) := dk_21 5 (dk_at dksX7_lost_3 22 rfl rfl)
theorem dX7_lost_95 : decode cX7_lost 95 = .ok (.invokevirtual 363, 3) := dk_182 1 107 (dk_at dksX7_lost_4 0 rfl rfl)
theorem dX7_lost_98 : decode cX7_lost 98 = .ok (.istore 6, 2) := dk_54 6 (dk_at dksX7_lost_4 3 rfl rfl)
theorem dX7_lost_100 : decode cX7_lost 100 = .ok (.iload_n 2, 1) := dk_28 (dk_at dksX7_lost_4 5 rfl rfl)
theorem dX7_lost_101 : decode cX7_lost 101 = .ok (.iload 6, 2) := dk_21 6 (dk_at dksX7_lost_4 6 rfl rfl)
theorem dX7_lost_103 : decode cX7_lost 103 = .ok (.ifCond .ge 7, 3) := dk_156 0 7 (dk_at dksX7_lost_4 8 rfl rfl)
theorem dX7_lost_106 : decode cX7_lost 106 = .ok (.iconst 0, 1) := dk_3 (dk_at dksX7_lost_4 11 rfl rfl)
theorem dX7_lost_107 : decode cX7_lost 107 = .ok (.goto 7, 3) := dk_167 0 7 (dk_at dksX7_lost_4 12 rfl rfl)
theorem dX7_lost_110 : decode cX7_lost 110 = .ok (.iconst 1, 1) := dk_4 (dk_at dksX7_lost_4 15 rfl rfl)
theorem dX7_lost_111 : decode cX7_lost 111 = .ok (.iload 6, 2) := dk_21 6 (dk_at dksX7_lost_4 16 rfl rfl)
theorem dX7_lost_113 : decode cX7_lost 113 = .ok (.ishl, 1) := dk_120 (dk_at dksX7_lost_4 18 rfl rfl)
theorem dX7_lost_114 : decode cX7_lost 114 = .ok (.ior, 1) := dk_128 (dk_at dksX7_lost_4 19 rfl rfl)
theorem dX7_lost_115 : decode cX7_lost 115 = .ok (.istore_n 2, 1) := dk_61 (dk_at dksX7_lost_4 20 rfl rfl)
theorem dX7_lost_116 : decode cX7_lost 116 = .ok (.iinc 5 1, 3) := dk_132 5 1 (dk_at dksX7_lost_4 21 rfl rfl)
theorem dX7_lost_119 : decode cX7_lost 119 = .ok (.goto (-37), 3) := dk_167 255 219 (dk_at dksX7_lost_5 0 rfl rfl)
theorem dX7_lost_122 : decode cX7_lost 122 = .ok (.iinc 4 1, 3) := dk_132 4 1 (dk_at dksX7_lost_5 3 rfl rfl)
theorem dX7_lost_125 : decode cX7_lost 125 = .ok (.goto (-101), 3) := dk_167 255 155 (dk_at dksX7_lost_5 6 rfl rfl)
theorem dX7_lost_128 : decode cX7_lost 128 = .ok (.iinc 3 1, 3) := dk_132 3 1 (dk_at dksX7_lost_5 9 rfl rfl)
theorem dX7_lost_131 : decode cX7_lost 131 = .ok (.goto (-120), 3) := dk_167 255 136 (dk_at dksX7_lost_5 12 rfl rfl)
theorem dX7_lost_134 : decode cX7_lost 134 = .ok (.iload_n 1, 1) := dk_27 (dk_at dksX7_lost_5 15 rfl rfl)
theorem dX7_lost_135 : decode cX7_lost 135 = .ok (.iload_n 2, 1) := dk_28 (dk_at dksX7_lost_5 16 rfl rfl)
theorem dX7_lost_136 : decode cX7_lost 136 = .ok (.iconst (-1), 1) := dk_2 (dk_at dksX7_lost_5 17 rfl rfl)
theorem dX7_lost_137 : decode cX7_lost 137 = .ok (.ixor, 1) := dk_130 (dk_at dksX7_lost_5 18 rfl rfl)
theorem dX7_lost_138 : decode cX7_lost 138 = .ok (.iand, 1) := dk_126 (dk_at dksX7_lost_5 19 rfl rfl)
theorem dX7_lost_139 : decode cX7_lost 139 = .ok (.ireturn, 1) := dk_172 (dk_at dksX7_lost_5 20 rfl rfl)
abbrev cX7_placeOf : ByteArray := prog_32_method_57_code
abbrev yX7_placeOf : MethodName := { cls := "WornSkinModel", name := "placeOf", desc := "(II)I" }
def dkwX7_placeOf_1 : List UInt8 := [132, 3, 1, 167, 255, 231, 2, 172]
abbrev dktX7_placeOf_1 : List UInt8 := dkwX7_placeOf_1 ++ []
def dkwX7_placeOf_0 : List UInt8 := [3, 62, 29, 42, 180, 0, 23, 28, 46, 162, 0, 21, 42, 27, 28, 29, 182, 1, 122, 153, 0, 5, 29, 172]
abbrev dktX7_placeOf_0 : List UInt8 := dkwX7_placeOf_0 ++ dktX7_placeOf_1
theorem dksX7_placeOf_0 : cX7_placeOf.data.toList.drop 0 = dktX7_placeOf_0 := by decide +kernel
theorem dksX7_placeOf_1 : cX7_placeOf.data.toList.drop 24 = dktX7_placeOf_1 := dk_seg dksX7_placeOf_0 24 rfl rfl
theorem dX7_placeOf_0 : decode cX7_placeOf 0 = .ok (.iconst 0, 1) := dk_3 (dk_at dksX7_placeOf_0 0 rfl rfl)
theorem dX7_placeOf_1 : decode cX7_placeOf 1 = .ok (.istore_n 3, 1) := dk_62 (dk_at dksX7_placeOf_0 1 rfl rfl)
theorem dX7_placeOf_2 : decode cX7_placeOf 2 = .ok (.iload_n 3, 1) := dk_29 (dk_at dksX7_placeOf_0 2 rfl rfl)
theorem dX7_placeOf_3 : decode cX7_placeOf 3 = .ok (.aload_n 0, 1) := dk_42 (dk_at dksX7_placeOf_0 3 rfl rfl)
theorem dX7_placeOf_4 : decode cX7_placeOf 4 = .ok (.getfield 23, 3) := dk_180 0 23 (dk_at dksX7_placeOf_0 4 rfl rfl)
theorem dX7_placeOf_7 : decode cX7_placeOf 7 = .ok (.iload_n 2, 1) := dk_28 (dk_at dksX7_placeOf_0 7 rfl rfl)
theorem dX7_placeOf_8 : decode cX7_placeOf 8 = .ok (.iaload, 1) := dk_46 (dk_at dksX7_placeOf_0 8 rfl rfl)
theorem dX7_placeOf_9 : decode cX7_placeOf 9 = .ok (.if_icmp .ge 21, 3) := dk_162 0 21 (dk_at dksX7_placeOf_0 9 rfl rfl)
theorem dX7_placeOf_12 : decode cX7_placeOf 12 = .ok (.aload_n 0, 1) := dk_42 (dk_at dksX7_placeOf_0 12 rfl rfl)
theorem dX7_placeOf_13 : decode cX7_placeOf 13 = .ok (.iload_n 1, 1) := dk_27 (dk_at dksX7_placeOf_0 13 rfl rfl)
theorem dX7_placeOf_14 : decode cX7_placeOf 14 = .ok (.iload_n 2, 1) := dk_28 (dk_at dksX7_placeOf_0 14 rfl rfl)
theorem dX7_placeOf_15 : decode cX7_placeOf 15 = .ok (.iload_n 3, 1) := dk_29 (dk_at dksX7_placeOf_0 15 rfl rfl)
theorem dX7_placeOf_16 : decode cX7_placeOf 16 = .ok (.invokevirtual 378, 3) := dk_182 1 122 (dk_at dksX7_placeOf_0 16 rfl rfl)
theorem dX7_placeOf_19 : decode cX7_placeOf 19 = .ok (.ifCond .eq 5, 3) := dk_153 0 5 (dk_at dksX7_placeOf_0 19 rfl rfl)
theorem dX7_placeOf_22 : decode cX7_placeOf 22 = .ok (.iload_n 3, 1) := dk_29 (dk_at dksX7_placeOf_0 22 rfl rfl)
theorem dX7_placeOf_23 : decode cX7_placeOf 23 = .ok (.ireturn, 1) := dk_172 (dk_at dksX7_placeOf_0 23 rfl rfl)
theorem dX7_placeOf_24 : decode cX7_placeOf 24 = .ok (.iinc 3 1, 3) := dk_132 3 1 (dk_at dksX7_placeOf_1 0 rfl rfl)
theorem dX7_placeOf_27 : decode cX7_placeOf 27 = .ok (.goto (-25), 3) := dk_167 255 231 (dk_at dksX7_placeOf_1 3 rfl rfl)
theorem dX7_placeOf_30 : decode cX7_placeOf 30 = .ok (.iconst (-1), 1) := dk_2 (dk_at dksX7_placeOf_1 6 rfl rfl)
theorem dX7_placeOf_31 : decode cX7_placeOf 31 = .ok (.ireturn, 1) := dk_172 (dk_at dksX7_placeOf_1 7 rfl rfl)
abbrev cX7_place : ByteArray := prog_32_method_81_code
abbrev yX7_place : MethodName := { cls := "WornSkinModel", name := "place", desc := "(II)I" }
def dkwX7_place_1 : List UInt8 := [182, 1, 172, 167, 0, 4, 2, 172]
abbrev dktX7_place_1 : List UInt8 := dkwX7_place_1 ++ []
def dkwX7_place_0 : List UInt8 := [42, 3, 181, 0, 144, 42, 27, 182, 1, 131, 153, 0, 20, 42, 28, 182, 1, 97, 153, 0, 12, 42, 27, 28]
abbrev dktX7_place_0 : List UInt8 := dkwX7_place_0 ++ dktX7_place_1
theorem dksX7_place_0 : cX7_place.data.toList.drop 0 = dktX7_place_0 := by decide +kernel
theorem dksX7_place_1 : cX7_place.data.toList.drop 24 = dktX7_place_1 := dk_seg dksX7_place_0 24 rfl rfl
theorem dX7_place_0 : decode cX7_place 0 = .ok (.aload_n 0, 1) := dk_42 (dk_at dksX7_place_0 0 rfl rfl)
theorem dX7_place_1 : decode cX7_place 1 = .ok (.iconst 0, 1) := dk_3 (dk_at dksX7_place_0 1 rfl rfl)
theorem dX7_place_2 : decode cX7_place 2 = .ok (.putfield 144, 3) := dk_181 0 144 (dk_at dksX7_place_0 2 rfl rfl)
theorem dX7_place_5 : decode cX7_place 5 = .ok (.aload_n 0, 1) := dk_42 (dk_at dksX7_place_0 5 rfl rfl)
theorem dX7_place_6 : decode cX7_place 6 = .ok (.iload_n 1, 1) := dk_27 (dk_at dksX7_place_0 6 rfl rfl)
theorem dX7_place_7 : decode cX7_place 7 = .ok (.invokevirtual 387, 3) := dk_182 1 131 (dk_at dksX7_place_0 7 rfl rfl)
theorem dX7_place_10 : decode cX7_place 10 = .ok (.ifCond .eq 20, 3) := dk_153 0 20 (dk_at dksX7_place_0 10 rfl rfl)
theorem dX7_place_13 : decode cX7_place 13 = .ok (.aload_n 0, 1) := dk_42 (dk_at dksX7_place_0 13 rfl rfl)
theorem dX7_place_14 : decode cX7_place 14 = .ok (.iload_n 2, 1) := dk_28 (dk_at dksX7_place_0 14 rfl rfl)
theorem dX7_place_15 : decode cX7_place 15 = .ok (.invokevirtual 353, 3) := dk_182 1 97 (dk_at dksX7_place_0 15 rfl rfl)
theorem dX7_place_18 : decode cX7_place 18 = .ok (.ifCond .eq 12, 3) := dk_153 0 12 (dk_at dksX7_place_0 18 rfl rfl)
theorem dX7_place_21 : decode cX7_place 21 = .ok (.aload_n 0, 1) := dk_42 (dk_at dksX7_place_0 21 rfl rfl)
theorem dX7_place_22 : decode cX7_place 22 = .ok (.iload_n 1, 1) := dk_27 (dk_at dksX7_place_0 22 rfl rfl)
theorem dX7_place_23 : decode cX7_place 23 = .ok (.iload_n 2, 1) := dk_28 (dk_at dksX7_place_0 23 rfl rfl)
theorem dX7_place_24 : decode cX7_place 24 = .ok (.invokevirtual 428, 3) := dk_182 1 172 (dk_at dksX7_place_1 0 rfl rfl)
theorem dX7_place_27 : decode cX7_place 27 = .ok (.goto 4, 3) := dk_167 0 4 (dk_at dksX7_place_1 3 rfl rfl)
theorem dX7_place_30 : decode cX7_place 30 = .ok (.iconst (-1), 1) := dk_2 (dk_at dksX7_place_1 6 rfl rfl)
theorem dX7_place_31 : decode cX7_place 31 = .ok (.ireturn, 1) := dk_172 (dk_at dksX7_place_1 7 rfl rfl)
abbrev cX7_costBy : ByteArray := prog_32_method_82_code
abbrev yX7_costBy : MethodName := { cls := "WornSkinModel", name := "costBy", desc := "(III)I" }
def dkwX7_costBy_3 : List UInt8 := [180, 0, 120, 3, 184, 1, 149, 21, 5, 153, 0, 8, 21, 4, 167, 0, 4, 2, 172]
abbrev dktX7_costBy_3 : List UInt8 := dkwX7_costBy_3 ++ []
def dkwX7_costBy_2 : List UInt8 := [42, 27, 28, 182, 1, 172, 155, 0, 7, 4, 167, 0, 4, 3, 54, 5, 42, 180, 0, 126, 3, 42]
abbrev dktX7_costBy_2 : List UInt8 := dkwX7_costBy_2 ++ dktX7_costBy_3
def dkwX7_costBy_1 : List UInt8 := [161, 0, 5, 2, 172, 42, 180, 0, 120, 3, 42, 180, 0, 126, 3, 184, 1, 149, 42, 28, 29, 182, 1, 160]
abbrev dktX7_costBy_1 : List UInt8 := dkwX7_costBy_1 ++ dktX7_costBy_2
def dkwX7_costBy_0 : List UInt8 := [42, 28, 29, 182, 1, 118, 54, 4, 21, 4, 153, 0, 16, 21, 4, 42, 180, 0, 120, 4, 28, 96, 46]
abbrev dktX7_costBy_0 : List UInt8 := dkwX7_costBy_0 ++ dktX7_costBy_1
theorem dksX7_costBy_0 : cX7_costBy.data.toList.drop 0 = dktX7_costBy_0 := by decide +kernel
theorem dksX7_costBy_1 : cX7_costBy.data.toList.drop 23 = dktX7_costBy_1 := dk_seg dksX7_costBy_0 23 rfl rfl
theorem dksX7_costBy_2 : cX7_costBy.data.toList.drop 47 = dktX7_costBy_2 := dk_seg dksX7_costBy_1 24 rfl rfl
theorem dksX7_costBy_3 : cX7_costBy.data.toList.drop 69 = dktX7_costBy_3 := dk_seg dksX7_costBy_2 22 rfl rfl
theorem dX7_costBy_0 : decode cX7_costBy 0 = .ok (.aload_n 0, 1) := dk_42 (dk_at dksX7_costBy_0 0 rfl rfl)
theorem dX7_costBy_1 : decode cX7_costBy 1 = .ok (.iload_n 2, 1) := dk_28 (dk_at dksX7_costBy_0 1 rfl rfl)
theorem dX7_costBy_2 : decode cX7_costBy 2 = .ok (.iload_n 3, 1) := dk_29 (dk_at dksX7_costBy_0 2 rfl rfl)
theorem dX7_costBy_3 : decode cX7_costBy 3 = .ok (.invokevirtual 374, 3) := dk_182 1 118 (dk_at dksX7_costBy_0 3 rfl rfl)
theorem dX7_costBy_6 : decode cX7_costBy 6 = .ok (.istore 4, 2) := dk_54 4 (dk_at dksX7_costBy_0 6 rfl rfl)
theorem dX7_costBy_8 : decode cX7_costBy 8 = .ok (.iload 4, 2) := dk_21 4 (dk_at dksX7_costBy_0 8 rfl rfl)
theorem dX7_costBy_10 : decode cX7_costBy 10 = .ok (.ifCond .eq 16, 3) := dk_153 0 16 (dk_at dksX7_costBy_0 10 rfl rfl)
theorem dX7_costBy_13 : decode cX7_costBy 13 = .ok (.iload 4, 2) := dk_21 4 (dk_at dksX7_costBy_0 13 rfl rfl)
theorem dX7_costBy_15 : decode cX7_costBy 15 = .ok (.aload_n 0, 1) := dk_42 (dk_at dksX7_costBy_0 15 rfl rfl)
theorem dX7_costBy_16 : decode cX7_costBy 16 = .ok (.getfield 120, 3) := dk_180 0 120 (dk_at dksX7_costBy_0 16 rfl rfl)
theorem dX7_costBy_19 : decode cX7_costBy 19 = .ok (.iconst 1, 1) := dk_4 (dk_at dksX7_costBy_0 19 rfl rfl)
theorem dX7_costBy_20 : decode cX7_costBy 20 = .ok (.iload_n 2, 1) := dk_28 (dk_at dksX7_costBy_0 20 rfl rfl)
theorem dX7_costBy_21 : decode cX7_costBy 21 = .ok (.iadd, 1) := dk_96 (dk_at dksX7_costBy_0 21 rfl rfl)
theorem dX7_costBy_22 : decode cX7_costBy 22 = .ok (.iaload, 1) := dk_46 (dk_at dksX7_costBy_0 22 rfl rfl)
theorem dX7_costBy_23 : decode cX7_costBy 23 = .ok (.if_icmp .lt 5, 3) := dk_161 0 5 (dk_at dksX7_costBy_1 0 rfl rfl)
theorem dX7_costBy_26 : decode cX7_costBy 26 = .ok (.iconst (-1), 1) := dk_2 (dk_at dksX7_costBy_1 3 rfl rfl)
theorem dX7_costBy_27 : decode cX7_costBy 27 = .ok (.ireturn, 1) := dk_172 (dk_at dksX7_costBy_1 4 rfl rfl)
theorem dX7_costBy_28 : decode cX7_costBy 28 = .ok (.aload_n 0, 1) := dk_42 (dk_at dksX7_costBy_1 5 rfl rfl)
theorem dX7_costBy_29 : decode cX7_costBy 29 = .ok (.getfield 120, 3) := dk_180 0 120 (dk_at dksX7_costBy_1 6 rfl rfl)
theorem dX7_costBy_32 : decode cX7_costBy 32 = .ok (.iconst 0, 1) := dk_3 (dk_at dksX7_costBy_1 9 rfl rfl)
theorem dX7_costBy_33 : decode cX7_costBy 33 = .ok (.aload_n 0, 1) := dk_42 (dk_at dksX7_costBy_1 10 rfl rfl)
theorem dX7_costBy_34 : decode cX7_costBy 34 = .ok (.getfield 126, 3) := dk_180 0 126 (dk_at dksX7_costBy_1 11 rfl rfl)
theorem dX7_costBy_37 : decode cX7_costBy 37 = .ok (.iconst 0, 1) := dk_3 (dk_at dksX7_costBy_1 14 rfl rfl)
theorem dX7_costBy_38 : decode cX7_costBy 38 = .ok (.invokestatic 405, 3) := dk_184 1 149 (dk_at dksX7_costBy_1 15 rfl rfl)
theorem dX7_costBy_41 : decode cX7_costBy 41 = .ok (.aload_n 0, 1) := dk_42 (dk_at dksX7_costBy_1 18 rfl rfl)
theorem dX7_costBy_42 : decode cX7_costBy 42 = .ok (.iload_n 2, 1) := dk_28 (dk_at dksX7_costBy_1 19 rfl rfl)
theorem dX7_costBy_43 : decode cX7_costBy 43 = .ok (.iload_n 3, 1) := dk_29 (dk_at dksX7_costBy_1 20 rfl rfl)
theorem dX7_costBy_44 : decode cX7_costBy 44 = .ok (.invokevirtual 416, 3) := dk_182 1 160 (dk_at dksX7_costBy_1 21 rfl rfl)
theorem dX7_costBy_47 : decode cX7_costBy 47 = .ok (.aload_n 0, 1) := dk_42 (dk_at dksX7_costBy_2 0 rfl rfl)
theorem dX7_costBy_48 : decode cX7_costBy 48 = .ok (.iload_n 1, 1) := dk_27 (dk_at dksX7_costBy_2 1 rfl rfl)
theorem dX7_costBy_49 : decode cX7_costBy 49 = .ok (.iload_n 2, 1) := dk_28 (dk_at dksX7_costBy_2 2 rfl rfl)
theorem dX7_costBy_50 : decode cX7_costBy 50 = .ok (.invokevirtual 428, 3) := dk_182 1 172 (dk_at dksX7_costBy_2 3 rfl rfl)
theorem dX7_costBy_53 : decode cX7_costBy 53 = .ok (.ifCond .lt 7, 3) := dk_155 0 7 (dk_at dksX7_costBy_2 6 rfl rfl)
theorem dX7_costBy_56 : decode cX7_costBy 56 = .ok (.iconst 1, 1) := dk_4 (dk_at dksX7_costBy_2 9 rfl rfl)
theorem dX7_costBy_57 : decode cX7_costBy 57 = .ok (.goto 4, 3) := dk_167 0 4 (dk_at dksX7_costBy_2 10 rfl rfl)
theorem dX7_costBy_60 : decode cX7_costBy 60 = .ok (.iconst 0, 1) := dk_3 (dk_at dksX7_costBy_2 13 rfl rfl)
theorem dX7_costBy_61 : decode cX7_costBy 61 = .ok (.istore 5, 2) := dk_54 5 (dk_at dksX7_costBy_2 14 rfl rfl)
theorem dX7_costBy_63 : decode cX7_costBy 63 = .ok (.aload_n 0, 1) := dk_42 (dk_at dksX7_costBy_2 16 rfl rfl)
theorem dX7_costBy_64 : decode cX7_costBy 64 = .ok (.getfield 126, 3) := dk_180 0 126 (dk_at dksX7_costBy_2 17 rfl rfl)
theorem dX7_costBy_67 : decode cX7_costBy 67 = .ok (.iconst 0, 1) := dk_3 (dk_at dksX7_costBy_2 20 rfl rfl)
theorem dX7_costBy_68 : decode cX7_costBy 68 = .ok (.aload_n 0, 1) := dk_42 (dk_at dksX7_costBy_2 21 rfl rfl)
theorem dX7_costBy_69 : decode cX7_costBy 69 = .ok (.getfield 120, 3) := dk_180 0 120 (dk_at dksX7_costBy_3 0 rfl rfl)
theorem dX7_costBy_72 : decode cX7_costBy 72 = .ok (.iconst 0, 1) := dk_3 (dk_at dksX7_costBy_3 3 rfl rfl)
theorem dX7_costBy_73 : decode cX7_costBy 73 = .ok (.invokestatic 405, 3) := dk_184 1 149 (dk_at dksX7_costBy_3 4 rfl rfl)
theorem dX7_costBy_76 : decode cX7_costBy 76 = .ok (.iload 5, 2) := dk_21 5 (dk_at dksX7_costBy_3 7 rfl rfl)
theorem dX7_costBy_78 : decode cX7_costBy 78 = .ok (.ifCond .eq 8, 3) := dk_153 0 8 (dk_at dksX7_costBy_3 9 rfl rfl)
theorem dX7_costBy_81 : decode cX7_costBy 81 = .ok (.iload 4, 2) := dk_21 4 (dk_at dksX7_costBy_3 12 rfl rfl)
theorem dX7_costBy_83 : decode cX7_costBy 83 = .ok (.goto 4, 3) := dk_167 0 4 (dk_at dksX7_costBy_3 14 rfl rfl)
theorem dX7_costBy_86 : decode cX7_costBy 86 = .ok (.iconst (-1), 1) := dk_2 (dk_at dksX7_costBy_3 17 rfl rfl)
theorem dX7_costBy_87 : decode cX7_costBy 87 = .ok (.ireturn, 1) := dk_172 (dk_at dksX7_costBy_3 18 rfl rfl)
abbrev cX7_cost : ByteArray := prog_32_method_83_code
abbrev yX7_cost : MethodName := { cls := "WornSkinModel", name := "cost", desc := "(II)I" }
def dkwX7_cost_3 : List UInt8 := [21, 4, 184, 1, 178, 172]
abbrev dktX7_cost_3 : List UInt8 := dkwX7_cost_3 ++ []
def dkwX7_cost_2 : List UInt8 := [182, 1, 175, 54, 4, 29, 156, 0, 8, 21, 4, 167, 0, 18, 21, 4, 156, 0, 7, 29, 167, 0, 9, 29]
abbrev dktX7_cost_2 : List UInt8 := dkwX7_cost_2 ++ dktX7_cost_3
def dkwX7_cost_1 : List UInt8 := [27, 28, 182, 1, 172, 155, 0, 5, 3, 172, 42, 27, 28, 16, 9, 182, 1, 175, 62, 42, 27, 28, 16, 63]
abbrev dktX7_cost_1 : List UInt8 := dkwX7_cost_1 ++ dktX7_cost_2
def dkwX7_cost_0 : List UInt8 := [42, 3, 181, 0, 144, 42, 27, 182, 1, 131, 153, 0, 11, 42, 28, 182, 1, 97, 154, 0, 5, 2, 172, 42]
abbrev dktX7_cost_0 : List UInt8 := dkwX7_cost_0 ++ dktX7_cost_1
theorem dksX7_cost_0 : cX7_cost.data.toList.drop 0 = dktX7_cost_0 := by decide +kernel
theorem dksX7_cost_1 : cX7_cost.data.toList.drop 24 = dktX7_cost_1 := dk_seg dksX7_cost_0 24 rfl rfl
theorem dksX7_cost_2 : cX7_cost.data.toList.drop 48 = dktX7_cost_2 := dk_seg dksX7_cost_1 24 rfl rfl
theorem dksX7_cost_3 : cX7_cost.data.toList.drop 72 = dktX7_cost_3 := dk_seg dksX7_cost_2 24 rfl rfl
theorem dX7_cost_0 : decode cX7_cost 0 = .ok (.aload_n 0, 1) := dk_42 (dk_at dksX7_cost_0 0 rfl rfl)
theorem dX7_cost_1 : decode cX7_cost 1 = .ok (.iconst 0, 1) := dk_3 (dk_at dksX7_cost_0 1 rfl rfl)
theorem dX7_cost_2 : decode cX7_cost 2 = .ok (.putfield 144, 3) := dk_181 0 144 (dk_at dksX7_cost_0 2 rfl rfl)
theorem dX7_cost_5 : decode cX7_cost 5 = .ok (.aload_n 0, 1) := dk_42 (dk_at dksX7_cost_0 5 rfl rfl)
theorem dX7_cost_6 : decode cX7_cost 6 = .ok (.iload_n 1, 1) := dk_27 (dk_at dksX7_cost_0 6 rfl rfl)
theorem dX7_cost_7 : decode cX7_cost 7 = .ok (.invokevirtual 387, 3) := dk_182 1 131 (dk_at dksX7_cost_0 7 rfl rfl)
theorem dX7_cost_10 : decode cX7_cost 10 = .ok (.ifCond .eq 11, 3) := dk_153 0 11 (dk_at dksX7_cost_0 10 rfl rfl)
theorem dX7_cost_13 : decode cX7_cost 13 = .ok (.aload_n 0, 1) := dk_42 (dk_at dksX7_cost_0 13 rfl rfl)
theorem dX7_cost_14 : decode cX7_cost 14 = .ok (.iload_n 2, 1) := dk_28 (dk_at dksX7_cost_0 14 rfl rfl)
theorem dX7_cost_15 : decode cX7_cost 15 = .ok (.invokevirtual 353, 3) := dk_182 1 97 (dk_at dksX7_cost_0 15 rfl rfl)
theorem dX7_cost_18 : decode cX7_cost 18 = .ok (.ifCond .ne 5, 3) := dk_154 0 5 (dk_at dksX7_cost_0 18 rfl rfl)
theorem dX7_cost_21 : decode cX7_cost 21 = .ok (.iconst (-1), 1) := dk_2 (dk_at dksX7_cost_0 21 rfl rfl)
theorem dX7_cost_22 : decode cX7_cost 22 = .ok (.ireturn, 1) := dk_172 (dk_at dksX7_cost_0 22 rfl rfl)
theorem dX7_cost_23 : decode cX7_cost 23 = .ok (.aload_n 0, 1) := dk_42 (dk_at dksX7_cost_0 23 rfl rfl)
theorem dX7_cost_24 : decode cX7_cost 24 = .ok (.iload_n 1, 1) := dk_27 (dk_at dksX7_cost_1 0 rfl rfl)
theorem dX7_cost_25 : decode cX7_cost 25 = .ok (.iload_n 2, 1) := dk_28 (dk_at dksX7_cost_1 1 rfl rfl)
theorem dX7_cost_26 : decode cX7_cost 26 = .ok (.invokevirtual 428, 3) := dk_182 1 172 (dk_at dksX7_cost_1 2 rfl rfl)
theorem dX7_cost_29 : decode cX7_cost 29 = .ok (.ifCond .lt 5, 3) := dk_155 0 5 (dk_at dksX7_cost_1 5 rfl rfl)
theorem dX7_cost_32 : decode cX7_cost 32 = .ok (.iconst 0, 1) := dk_3 (dk_at dksX7_cost_1 8 rfl rfl)
theorem dX7_cost_33 : decode cX7_cost 33 = .ok (.ireturn, 1) := dk_172 (dk_at dksX7_cost_1 9 rfl rfl)
theorem dX7_cost_34 : decode cX7_cost 34 = .ok (.aload_n 0, 1) := dk_42 (dk_at dksX7_cost_1 10 rfl rfl)
theorem dX7_cost_35 : decode cX7_cost 35 = .ok (.iload_n 1, 1) := dk_27 (dk_at dksX7_cost_1 11 rfl rfl)
theorem dX7_cost_36 : decode cX7_cost 36 = .ok (.iload_n 2, 1) := dk_28 (dk_at dksX7_cost_1 12 rfl rfl)
theorem dX7_cost_37 : decode cX7_cost 37 = .ok (.bipush 9, 2) := dk_16 9 (dk_at dksX7_cost_1 13 rfl rfl)
theorem dX7_cost_39 : decode cX7_cost 39 = .ok (.invokevirtual 431, 3) := dk_182 1 175 (dk_at dksX7_cost_1 15 rfl rfl)
theorem dX7_cost_42 : decode cX7_cost 42 = .ok (.istore_n 3, 1) := dk_62 (dk_at dksX7_cost_1 18 rfl rfl)
theorem dX7_cost_43 : decode cX7_cost 43 = .ok (.aload_n 0, 1) := dk_42 (dk_at dksX7_cost_1 19 rfl rfl)
theorem dX7_cost_44 : decode cX7_cost 44 = .ok (.iload_n 1, 1) := dk_27 (dk_at dksX7_cost_1 20 rfl rfl)
theorem dX7_cost_45 : decode cX7_cost 45 = .ok (.iload_n 2, 1) := dk_28 (dk_at dksX7_cost_1 21 rfl rfl)
theorem dX7_cost_46 : decode cX7_cost 46 = .ok (.bipush 63, 2) := dk_16 63 (dk_at dksX7_cost_1 22 rfl rfl)
theorem dX7_cost_48 : decode cX7_cost 48 = .ok (.invokevirtual 431, 3) := dk_182 1 175 (dk_at dksX7_cost_2 0 rfl rfl)
theorem dX7_cost_51 : decode cX7_cost 51 = .ok (.istore 4, 2) := dk_54 4 (dk_at dksX7_cost_2 3 rfl rfl)
theorem dX7_cost_53 : decode cX7_cost 53 = .ok (.iload_n 3, 1) := dk_29 (dk_at dksX7_cost_2 5 rfl rfl)
theorem dX7_cost_54 : decode cX7_cost 54 = .ok (.ifCond .ge 8, 3) := dk_156 0 8 (dk_at dksX7_cost_2 6 rfl rfl)
theorem dX7_cost_57 : decode cX7_cost 57 = .ok (.iload 4, 2) := dk_21 4 (dk_at dksX7_cost_2 9 rfl rfl)
theorem dX7_cost_59 : decode cX7_cost 59 = .ok (.goto 18, 3) := dk_167 0 18 (dk_at dksX7_cost_2 11 rfl rfl)
theorem dX7_cost_62 : decode cX7_cost 62 = .ok (.iload 4, 2) := dk_21 4 (dk_at dksX7_cost_2 14 rfl rfl)
theorem dX7_cost_64 : decode cX7_cost 64 = .ok (.ifCond .ge 7, 3) := dk_156 0 7 (dk_at dksX7_cost_2 16 rfl rfl)
theorem dX7_cost_67 : decode cX7_cost 67 = .ok (.iload_n 3, 1) := dk_29 (dk_at dksX7_cost_2 19 rfl rfl)
theorem dX7_cost_68 : decode cX7_cost 68 = .ok (.goto 9, 3) := dk_167 0 9 (dk_at dksX7_cost_2 20 rfl rfl)
theorem dX7_cost_71 : decode cX7_cost 71 = .ok (.iload_n 3, 1) := dk_29 (dk_at dksX7_cost_2 23 rfl rfl)
theorem dX7_cost_72 : decode cX7_cost 72 = .ok (.iload 4, 2) := dk_21 4 (dk_at dksX7_cost_3 0 rfl rfl)
theorem dX7_cost_74 : decode cX7_cost 74 = .ok (.invokestatic 434, 3) := dk_184 1 178 (dk_at dksX7_cost_3 2 rfl rfl)
theorem dX7_cost_77 : decode cX7_cost 77 = .ok (.ireturn, 1) := dk_172 (dk_at dksX7_cost_3 5 rfl rfl)
abbrev cX7_unwrites : ByteArray := prog_32_method_85_code
abbrev yX7_unwrites : MethodName := { cls := "WornSkinModel", name := "unwrites", desc := "(III)V" }
def dkwX7_unwrites_2 : List UInt8 := [120, 2, 130, 126, 79, 132, 4, 1, 167, 255, 203, 177]
abbrev dktX7_unwrites_2 : List UInt8 := dkwX7_unwrites_2 ++ []
def dkwX7_unwrites_1 : List UInt8 := [28, 104, 96, 21, 4, 96, 92, 46, 16, 7, 108, 79, 42, 180, 0, 120, 7, 28, 96, 92, 46, 4, 21, 4]
abbrev dktX7_unwrites_1 : List UInt8 := dkwX7_unwrites_1 ++ dktX7_unwrites_2
def dkwX7_unwrites_0 : List UInt8 := [29, 54, 4, 21, 4, 29, 42, 180, 0, 38, 27, 46, 96, 162, 0, 46, 42, 180, 0, 120, 16, 7, 16, 6]
abbrev dktX7_unwrites_0 : List UInt8 := dkwX7_unwrites_0 ++ dktX7_unwrites_1
theorem dksX7_unwrites_0 : cX7_unwrites.data.toList.drop 0 = dktX7_unwrites_0 := by decide +kernel
theorem dksX7_unwrites_1 : cX7_unwrites.data.toList.drop 24 = dktX7_unwrites_1 := dk_seg dksX7_unwrites_0 24 rfl rfl
theorem dksX7_unwrites_2 : cX7_unwrites.data.toList.drop 48 = dktX7_unwrites_2 := dk_seg dksX7_unwrites_1 24 rfl rfl
theorem dX7_unwrites_0 : decode cX7_unwrites 0 = .ok (.iload_n 3, 1) := dk_29 (dk_at dksX7_unwrites_0 0 rfl rfl)
theorem dX7_unwrites_1 : decode cX7_unwrites 1 = .ok (.istore 4, 2) := dk_54 4 (dk_at dksX7_unwrites_0 1 rfl rfl)
theorem dX7_unwrites_3 : decode cX7_unwrites 3 = .ok (.iload 4, 2) := dk_21 4 (dk_at dksX7_unwrites_0 3 rfl rfl)
theorem dX7_unwrites_5 : decode cX7_unwrites 5 = .ok (.iload_n 3, 1) := dk_29 (dk_at dksX7_unwrites_0 5 rfl rfl)
theorem dX7_unwrites_6 : decode cX7_unwrites 6 = .ok (.aload_n 0, 1) := dk_42 (dk_at dksX7_unwrites_0 6 rfl rfl)
theorem dX7_unwrites_7 : decode cX7_unwrites 7 = .ok (.getfield 38, 3) := dk_180 0 38 (dk_at dksX7_unwrites_0 7 rfl rfl)
theorem dX7_unwrites_10 : decode cX7_unwrites 10 = .ok (.iload_n 1, 1) := dk_27 (dk_at dksX7_unwrites_0 10 rfl rfl)
theorem dX7_unwrites_11 : decode cX7_unwrites 11 = .ok (.iaload, 1) := dk_46 (dk_at dksX7_unwrites_0 11 rfl rfl)
theorem dX7_unwrites_12 : decode cX7_unwrites 12 = .ok (.iadd, 1) := dk_96 (dk_at dksX7_unwrites_0 12 rfl rfl)
theorem dX7_unwrites_13 : decode cX7_unwrites 13 = .ok (.if_icmp .ge 46, 3) := dk_162 0 46 (dk_at dksX7_unwrites_0 13 rfl rfl)
theorem dX7_unwrites_16 : decode cX7_unwrites 16 = .ok (.aload_n 0, 1) := dk_42 (dk_at dksX7_unwrites_0 16 rfl rfl)
theorem dX7_unwrites_17 : decode cX7_unwrites 17 = .ok (.getfield 120, 3) := dk_180 0 120 (dk_at dksX7_unwrites_0 17 rfl rfl)
theorem dX7_unwrites_20 : decode cX7_unwrites 20 = .ok (.bipush 7, 2) := dk_16 7 (dk_at dksX7_unwrites_0 20 rfl rfl)
theorem dX7_unwrites_22 : decode cX7_unwrites 22 = .ok (.bipush 6, 2) := dk_16 6 (dk_at dksX7_unwrites_0 22 rfl rfl)
theorem dX7_unwrites_24 : decode cX7_unwrites 24 = .ok (.iload_n 2, 1) := dk_28 (dk_at dksX7_unwrites_1 0 rfl rfl)
theorem dX7_unwrites_25 : decode cX7_unwrites 25 = .ok (.imul, 1) := dk_104 (dk_at dksX7_unwrites_1 1 rfl rfl)
theorem dX7_unwrites_26 : decode cX7_unwrites 26 = .ok (.iadd, 1) := dk_96 (dk_at dksX7_unwrites_1 2 rfl rfl)
theorem dX7_unwrites_27 : decode cX7_unwrites 27 = .ok (.iload 4, 2) := dk_21 4 (dk_at dksX7_unwrites_1 3 rfl rfl)
theorem dX7_unwrites_29 : decode cX7_unwrites 29 = .ok (.iadd, 1) := dk_96 (dk_at dksX7_unwrites_1 5 rfl rfl)
theorem dX7_unwrites_30 : decode cX7_unwrites 30 = .ok (.dup2, 1) := dk_92 (dk_at dksX7_unwrites_1 6 rfl rfl)
theorem dX7_unwrites_31 : decode cX7_unwrites 31 = .ok (.iaload, 1) := dk_46 (dk_at dksX7_unwrites_1 7 rfl rfl)
theorem dX7_unwrites_32 : decode cX7_unwrites 32 = .ok (.bipush 7, 2) := dk_16 7 (dk_at dksX7_unwrites_1 8 rfl rfl)
theorem dX7_unwrites_34 : decode cX7_unwrites 34 = .ok (.idiv, 1) := dk_108 (dk_at dksX7_unwrites_1 10 rfl rfl)
theorem dX7_unwrites_35 : decode cX7_unwrites 35 = .ok (.iastore, 1) := dk_79 (dk_at dksX7_unwrites_1 11 rfl rfl)
theorem dX7_unwrites_36 : decode cX7_unwrites 36 = .ok (.aload_n 0, 1) := dk_42 (dk_at dksX7_unwrites_1 12 rfl rfl)
theorem dX7_unwrites_37 : decode cX7_unwrites 37 = .ok (.getfield 120, 3) := dk_180 0 120 (dk_at dksX7_unwrites_1 13 rfl rfl)
theorem dX7_unwrites_40 : decode cX7_unwrites 40 = .ok (.iconst 4, 1) := dk_7 (dk_at dksX7_unwrites_1 16 rfl rfl)
theorem dX7_unwrites_41 : decode cX7_unwrites 41 = .ok (.iload_n 2, 1) := dk_28 (dk_at dksX7_unwrites_1 17 rfl rfl)
theorem dX7_unwrites_42 : decode cX7_unwrites 42 = .ok (.iadd, 1) := dk_96 (dk_at dksX7_unwrites_1 18 rfl rfl)
theorem dX7_unwrites_43 : decode cX7_unwrites 43 = .ok (.dup2, 1) := dk_92 (dk_at dksX7_unwrites_1 19 rfl rfl)
theorem dX7_unwrites_44 : decode cX7_unwrites 44 = .ok (.iaload, 1) := dk_46 (dk_at dksX7_unwrites_1 20 rfl rfl)
theorem dX7_unwrites_45 : decode cX7_unwrites 45 = .ok (.iconst 1, 1) := dk_4 (dk_at dksX7_unwrites_1 21 rfl rfl)
theorem dX7_unwrites_46 : decode cX7_unwrites 46 = .ok (.iload 4, 2) := dk_21 4 (dk_at dksX7_unwrites_1 22 rfl rfl)
theorem dX7_unwrites_48 : decode cX7_unwrites 48 = .ok (.ishl, 1) := dk_120 (dk_at dksX7_unwrites_2 0 rfl rfl)
theorem dX7_unwrites_49 : decode cX7_unwrites 49 = .ok (.iconst (-1), 1) := dk_2 (dk_at dksX7_unwrites_2 1 rfl rfl)
theorem dX7_unwrites_50 : decode cX7_unwrites 50 = .ok (.ixor, 1) := dk_130 (dk_at dksX7_unwrites_2 2 rfl rfl)
theorem dX7_unwrites_51 : decode cX7_unwrites 51 = .ok (.iand, 1) := dk_126 (dk_at dksX7_unwrites_2 3 rfl rfl)
theorem dX7_unwrites_52 : decode cX7_unwrites 52 = .ok (.iastore, 1) := dk_79 (dk_at dksX7_unwrites_2 4 rfl rfl)
theorem dX7_unwrites_53 : decode cX7_unwrites 53 = .ok (.iinc 4 1, 3) := dk_132 4 1 (dk_at dksX7_unwrites_2 5 rfl rfl)
theorem dX7_unwrites_56 : decode cX7_unwrites 56 = .ok (.goto (-53), 3) := dk_167 255 203 (dk_at dksX7_unwrites_2 8 rfl rfl)
theorem dX7_unwrites_59 : decode cX7_unwrites 59 = .ok (.return_, 1) := dk_177 (dk_at dksX7_unwrites_2 11 rfl rfl)
abbrev cX7_writesAll : ByteArray := prog_32_method_84_code
abbrev yX7_writesAll : MethodName := { cls := "WornSkinModel", name := "writesAll", desc := "(II)V" }
def dkwX7_writesAll_7 : List UInt8 := [4, 96, 28, 182, 1, 186, 177]
abbrev dktX7_writesAll_7 : List UInt8 := dkwX7_writesAll_7 ++ []
def dkwX7_writesAll_6 : List UInt8 := [21, 4, 29, 16, 6, 112, 182, 1, 189, 132, 3, 1, 167, 255, 164, 42, 180, 0, 138, 27, 2, 79, 42, 27]
abbrev dktX7_writesAll_6 : List UInt8 := dkwX7_writesAll_6 ++ dktX7_writesAll_7
def dkwX7_writesAll_5 : List UInt8 := [42, 27, 21, 4, 29, 16, 6, 112, 182, 1, 156, 42, 27, 4, 96, 28, 4, 96, 182, 1, 186, 42, 27]
abbrev dktX7_writesAll_5 : List UInt8 := dkwX7_writesAll_5 ++ dktX7_writesAll_6
def dkwX7_writesAll_4 : List UInt8 := [42, 27, 21, 4, 29, 16, 6, 112, 182, 1, 122, 154, 0, 6, 167, 0, 42, 42, 180, 0, 138, 27, 29, 79]
abbrev dktX7_writesAll_4 : List UInt8 := dkwX7_writesAll_4 ++ dktX7_writesAll_5
def dkwX7_writesAll_3 : List UInt8 := [104, 162, 0, 85, 29, 16, 6, 108, 54, 4, 29, 16, 6, 112, 42, 180, 0, 23, 21, 4, 46, 162, 0, 59]
abbrev dktX7_writesAll_3 : List UInt8 := dkwX7_writesAll_3 ++ dktX7_writesAll_4
def dkwX7_writesAll_2 : List UInt8 := [180, 0, 138, 29, 46, 79, 132, 3, 1, 167, 255, 235, 177, 3, 62, 29, 16, 6, 42, 180, 0, 13, 3, 46]
abbrev dktX7_writesAll_2 : List UInt8 := dkwX7_writesAll_2 ++ dktX7_writesAll_3
def dkwX7_writesAll_1 : List UInt8 := [46, 160, 0, 35, 42, 28, 181, 1, 183, 3, 62, 29, 16, 6, 162, 0, 21, 42, 180, 0, 141, 29, 42]
abbrev dktX7_writesAll_1 : List UInt8 := dkwX7_writesAll_1 ++ dktX7_writesAll_2
def dkwX7_writesAll_0 : List UInt8 := [28, 42, 180, 0, 13, 4, 46, 96, 27, 100, 42, 180, 1, 183, 163, 0, 4, 177, 27, 42, 180, 0, 13, 4]
abbrev dktX7_writesAll_0 : List UInt8 := dkwX7_writesAll_0 ++ dktX7_writesAll_1
theorem dksX7_writesAll_0 : cX7_writesAll.data.toList.drop 0 = dktX7_writesAll_0 := by decide +kernel
theorem dksX7_writesAll_1 : cX7_writesAll.data.toList.drop 24 = dktX7_writesAll_1 := dk_seg dksX7_writesAll_0 24 rfl rfl
theorem dksX7_writesAll_2 : cX7_writesAll.data.toList.drop 47 = dktX7_writesAll_2 := dk_seg dksX7_writesAll_1 23 rfl rfl
theorem dksX7_writesAll_3 : cX7_writesAll.data.toList.drop 71 = dktX7_writesAll_3 := dk_seg dksX7_writesAll_2 24 rfl rfl
theorem dksX7_writesAll_4 : cX7_writesAll.data.toList.drop 95 = dktX7_writesAll_4 := dk_seg dksX7_writesAll_3 24 rfl rfl
theorem dksX7_writesAll_5 : cX7_writesAll.data.toList.drop 119 = dktX7_writesAll_5 := dk_seg dksX7_writesAll_4 24 rfl rfl
theorem dksX7_writesAll_6 : cX7_writesAll.data.toList.drop 142 = dktX7_writesAll_6 := dk_seg dksX7_writesAll_5 23 rfl rfl
theorem dksX7_writesAll_7 : cX7_writesAll.data.toList.drop 166 = dktX7_writesAll_7 := dk_seg dksX7_writesAll_6 24 rfl rfl
theorem dX7_writesAll_0 : decode cX7_writesAll 0 = .ok (.iload_n 2, 1) := dk_28 (dk_at dksX7_writesAll_0 0 rfl rfl)
theorem dX7_writesAll_1 : decode cX7_writesAll 1 = .ok (.aload_n 0, 1) := dk_42 (dk_at dksX7_writesAll_0 1 rfl rfl)
theorem dX7_writesAll_2 : decode cX7_writesAll 2 = .ok (.getfield 13, 3) := dk_180 0 13 (dk_at dksX7_writesAll_0 2 rfl rfl)
theorem dX7_writesAll_5 : decode cX7_writesAll 5 = .ok (.iconst 1, 1) := dk_4 (dk_at dksX7_writesAll_0 5 rfl rfl)
theorem dX7_writesAll_6 : decode cX7_writesAll 6 = .ok (.iaload, 1) := dk_46 (dk_at dksX7_writesAll_0 6 rfl rfl)
theorem dX7_writesAll_7 : decode cX7_writesAll 7 = .ok (.iadd, 1) := dk_96 (dk_at dksX7_writesAll_0 7 rfl rfl)
theorem dX7_writesAll_8 : decode cX7_writesAll 8 = .ok (.iload_n 1, 1) := dk_27 (dk_at dksX7_writesAll_0 8 rfl rfl)
theorem dX7_writesAll_9 : decode cX7_writesAll 9 = .ok (.isub, 1) := dk_100 (dk_at dksX7_writesAll_0 9 rfl rfl)
theorem dX7_writesAll_10 : decode cX7_writesAll 10 = .ok (.aload_n 0, 1) := dk_42 (dk_at dksX7_writesAll_0 10 rfl rfl)
theorem dX7_writesAll_11 : decode cX7_writesAll 11 = .ok (.getfield 439, 3) := dk_180 1 183 (dk_at dksX7_writesAll_0 11 rfl rfl)
theorem dX7_writesAll_14 : decode cX7_writesAll 14 = .ok (.if_icmp .gt 4, 3) := dk_163 0 4 (dk_at dksX7_writesAll_0 14 rfl rfl)
theorem dX7_writesAll_17 : decode cX7_writesAll 17 = .ok (.return_, 1) := dk_177 (dk_at dksX7_writesAll_0 17 rfl rfl)
theorem dX7_writesAll_18 : decode cX7_writesAll 18 = .ok (.iload_n 1, 1) := dk_27 (dk_at dksX7_writesAll_0 18 rfl rfl)
theorem dX7_writesAll_19 : decode cX7_writesAll 19 = .ok (.aload_n 0, 1) := dk_42 (dk_at dksX7_writesAll_0 19 rfl rfl)
theorem dX7_writesAll_20 : decode cX7_writesAll 20 = .ok (.getfield 13, 3) := dk_180 0 13 (dk_at dksX7_writesAll_0 20 rfl rfl)
theorem dX7_writesAll_23 : decode cX7_writesAll 23 = .ok (.iconst 1, 1) := dk_4 (dk_at dksX7_writesAll_0 23 rfl rfl)
theorem dX7_writesAll_24 : decode cX7_writesAll 24 = .ok (.iaload, 1) := dk_46 (dk_at dksX7_writesAll_1 0 rfl rfl)
theorem dX7_writesAll_25 : decode cX7_writesAll 25 = .ok (.if_icmp .ne 35, 3) := dk_160 0 35 (dk_at dksX7_writesAll_1 1 rfl rfl)
theorem dX7_writesAll_28 : decode cX7_writesAll 28 = .ok (.aload_n 0, 1) := dk_42 (dk_at dksX7_writesAll_1 4 rfl rfl)
theorem dX7_writesAll_29 : decode cX7_writesAll 29 = .ok (.iload_n 2, 1) := dk_28 (dk_at dksX7_writesAll_1 5 rfl rfl)
theorem dX7_writesAll_30 : decode cX7_writesAll 30 = .ok (.putfield 439, 3) := dk_181 1 183 (dk_at dksX7_writesAll_1 6 rfl rfl)
theorem dX7_writesAll_33 : decode cX7_writesAll 33 = .ok (.iconst 0, 1) := dk_3 (dk_at dksX7_writesAll_1 9 rfl rfl)
theorem dX7_writesAll_34 : decode cX7_writesAll 34 = .ok (.istore_n 3, 1) := dk_62 (dk_at dksX7_writesAll_1 10 rfl rfl)
theorem dX7_writesAll_35 : decode cX7_writesAll 35 = .ok (.iload_n 3, 1) := dk_29 (dk_at dksX7_writesAll_1 11 rfl rfl)
theorem dX7_writesAll_36 : decode cX7_writesAll 36 = .ok (.bipush 6, 2) := dk_16 6 (dk_at dksX7_writesAll_1 12 rfl rfl)
theorem dX7_writesAll_38 : decode cX7_writesAll 38 = .ok (.if_icmp .ge 21, 3) := dk_162 0 21 (dk_at dksX7_writesAll_1 14 rfl rfl)
theorem dX7_writesAll_41 : decode cX7_writesAll 41 = .ok (.aload_n 0, 1) := dk_42 (dk_at dksX7_writesAll_1 17 rfl rfl)
theorem dX7_writesAll_42 : decode cX7_writesAll 42 = .ok (.getfield 141, 3) := dk_180 0 141 (dk_at dksX7_writesAll_1 18 rfl rfl)
theorem dX7_writesAll_45 : decode cX7_writesAll 45 = .ok (.iload_n 3, 1) := dk_29 (dk_at dksX7_writesAll_1 21 rfl rfl)
theorem dX7_writesAll_46 : decode cX7_writesAll 46 = .ok (.aload_n 0, 1) := dk_42 (dk_at dksX7_writesAll_1 22 rfl rfl)
theorem dX7_writesAll_47 : decode cX7_writesAll 47 = .ok (.getfield 138, 3) := dk_180 0 138 (dk_at dksX7_writesAll_2 0 rfl rfl)
theorem dX7_writesAll_50 : decode cX7_writesAll 50 = .ok (.iload_n 3, 1) := dk_29 (dk_at dksX7_writesAll_2 3 rfl rfl)
theorem dX7_writesAll_51 : decode cX7_writesAll 51 = .ok (.iaload, 1) := dk_46 (dk_at dksX7_writesAll_2 4 rfl rfl)
theorem dX7_writesAll_52 : decode cX7_writesAll 52 = .ok (.iastore, 1) := dk_79 (dk_at dksX7_writesAll_2 5 rfl rfl)
theorem dX7_writesAll_53 : decode cX7_writesAll 53 = .ok (.iinc 3 1, 3) := dk_132 3 1 (dk_at dksX7_writesAll_2 6 rfl rfl)
theorem dX7_writesAll_56 : decode cX7_writesAll 56 = .ok (.goto (-21), 3) := dk_167 255 235 (dk_at dksX7_writesAll_2 9 rfl rfl)
theorem dX7_writesAll_59 : decode cX7_writesAll 59 = .ok (.return_, 1) := dk_177 (dk_at dksX7_writesAll_2 12 rfl rfl)
theorem dX7_writesAll_60 : decode cX7_writesAll 60 = .ok (.iconst 0, 1) := dk_3 (dk_at dksX7_writesAll_2 13 rfl rfl)
theorem dX7_writesAll_61 : decode cX7_writesAll 61 = .ok (.istore_n 3, 1) := dk_62 (dk_at dksX7_writesAll_2 14 rfl rfl)
theorem dX7_writesAll_62 : decode cX7_writesAll 62 = .ok (.iload_n 3, 1) := dk_29 (dk_at dksX7_writesAll_2 15 rfl rfl)
theorem dX7_writesAll_63 : decode cX7_writesAll 63 = .ok (.bipush 6, 2) := dk_16 6 (dk_at dksX7_writesAll_2 16 rfl rfl)
theorem dX7_writesAll_65 : decode cX7_writesAll 65 = .ok (.aload_n 0, 1) := dk_42 (dk_at dksX7_writesAll_2 18 rfl rfl)
theorem dX7_writesAll_66 : decode cX7_writesAll 66 = .ok (.getfield 13, 3) := dk_180 0 13 (dk_at dksX7_writesAll_2 19 rfl rfl)
theorem dX7_writesAll_69 : decode cX7_writesAll 69 = .ok (.iconst 0, 1) := dk_3 (dk_at dksX7_writesAll_2 22 rfl rfl)
theorem dX7_writesAll_70 : decode cX7_writesAll 70 = .ok (.iaload, 1) := dk_46 (dk_at dksX7_writesAll_2 23 rfl rfl)
theorem dX7_writesAll_71 : decode cX7_writesAll 71 = .ok (.imul, 1) := dk_104 (dk_at dksX7_writesAll_3 0 rfl rfl)
theorem dX7_writesAll_72 : decode cX7_writesAll 72 = .ok (.if_icmp .ge 85, 3) := dk_162 0 85 (dk_at dksX7_writesAll_3 1 rfl rfl)
theorem dX7_writesAll_75 : decode cX7_writesAll 75 = .ok (.iload_n 3, 1) := dk_29 (dk_at dksX7_writesAll_3 4 rfl rfl)
theorem dX7_writesAll_76 : decode cX7_writesAll 76 = .ok (.bipush 6, 2) := dk_16 6 (dk_at dksX7_writesAll_3 5 rfl rfl)
theorem dX7_writesAll_78 : decode cX7_writesAll 78 = .ok (.idiv, 1) := dk_108 (dk_at dksX7_writesAll_3 7 rfl rfl)
theorem dX7_writesAll_79 : decode cX7_writesAll 79 = .ok (.istore 4, 2) := dk_54 4 (dk_at dksX7_writesAll_3 8 rfl rfl)
theorem dX7_writesAll_81 : decode cX7_writesAll 81 = .ok (.iload_n 3, 1) := dk_29 (dk_at dksX7_writesAll_3 10 rfl rfl)
theorem dX7_writesAll_82 : decode cX7_writesAll 82 = .ok (.bipush 6, 2) := dk_16 6 (dk_at dksX7_writesAll_3 11 rfl rfl)
theorem dX7_writesAll_84 : decode cX7_writesAll 84 = .ok (.irem, 1) := dk_112 (dk_at dksX7_writesAll_3 13 rfl rfl)
theorem dX7_writesAll_85 : decode cX7_writesAll 85 = .ok (.aload_n 0, 1) := dk_42 (dk_at dksX7_writesAll_3 14 rfl rfl)
theorem dX7_writesAll_86 : decode cX7_writesAll 86 = .ok (.getfield 23, 3) := dk_180 0 23 (dk_at dksX7_writesAll_3 15 rfl rfl)
theorem dX7_writesAll_89 : decode cX7_writesAll 89 = .ok (.iload 4, 2) := dk_21 4 (dk_at dksX7_writesAll_3 18 rfl rfl)
theorem dX7_writesAll_91 : decode cX7_writesAll 91 = .ok (.iaload, 1) := dk_46 (dk_at dksX7_writesAll_3 20 rfl rfl)
theorem dX7_writesAll_92 : decode cX7_writesAll 92 = .ok (.if_icmp .ge 59, 3) := dk_162 0 59 (dk_at dksX7_writesAll_3 21 rfl rfl)
theorem dX7_writesAll_95 : decode cX7_writesAll 95 = .ok (.aload_n 0, 1) := dk_42 (dk_at dksX7_writesAll_4 0 rfl rfl)
theorem dX7_writesAll_96 : decode cX7_writesAll 96 = .ok (.iload_n 1, 1) := dk_27 (dk_at dksX7_writesAll_4 1 rfl rfl)
theorem dX7_writesAll_97 : decode cX7_writesAll 97 = .ok (.iload 4, 2) := dk_21 4 (dk_at dksX7_writesAll_4 2 rfl rfl)
theorem dX7_writesAll_99 : decode cX7_writesAll 99 = .ok (.iload_n 3, 1) := dk_29 (dk_at dksX7_writesAll_4 4 rfl rfl)
theorem dX7_writesAll_100 : decode cX7_writesAll 100 = .ok (.bipush 6, 2) := dk_16 6 (dk_at dksX7_writesAll_4 5 rfl rfl)
theorem dX7_writesAll_102 : decode cX7_writesAll 102 = .ok (.irem, 1) := dk_112 (dk_at dksX7_writesAll_4 7 rfl rfl)
theorem dX7_writesAll_103 : decode cX7_writesAll 103 = .ok (.invokevirtual 378, 3) := dk_182 1 122 (dk_at dksX7_writesAll_4 8 rfl rfl)
theorem dX7_writesAll_106 : decode cX7_writesAll 106 = .ok (.ifCond .ne 6, 3) := dk_154 0 6 (dk_at dksX7_writesAll_4 11 rfl rfl)
theorem dX7_writesAll_109 : decode cX7_writesAll 109 = .ok (.goto 42, 3) := dk_167 0 42 (dk_at dksX7_writesAll_4 14 rfl rfl)
theorem dX7_writesAll_112 : decode cX7_writesAll 112 = .ok (.aload_n 0, 1) := dk_42 (dk_at dksX7_writesAll_4 17 rfl rfl)
theorem dX7_writesAll_113 : decode cX7_writesAll 113 = .ok (.getfield 138, 3) := dk_180 0 138 (dk_at dksX7_writesAll_4 18 rfl rfl)
theorem dX7_writesAll_116 : decode cX7_writesAll 116 = .ok (.iload_n 1, 1) := dk_27 (dk_at dksX7_writesAll_4 21 rfl rfl)
theorem dX7_writesAll_117 : decode cX7_writesAll 117 = .ok (.iload_n 3, 1) := dk_29 (dk_at dksX7_writesAll_4 22 rfl rfl)
theorem dX7_writesAll_118 : decode cX7_writesAll 118 = .ok (.iastore, 1) := dk_79 (dk_at dksX7_writesAll_4 23 rfl rfl)
theorem dX7_writesAll_119 : decode cX7_writesAll 119 = .ok (.aload_n 0, 1) := dk_42 (dk_at dksX7_writesAll_5 0 rfl rfl)
theorem dX7_writesAll_120 : decode cX7_writesAll 120 = .ok (.iload_n 1, 1) := dk_27 (dk_at dksX7_writesAll_5 1 rfl rfl)
theorem dX7_writesAll_121 : decode cX7_writesAll 121 = .ok (.iload 4, 2) := dk_21 4 (dk_at dksX7_writesAll_5 2 rfl rfl)
theorem dX7_writesAll_123 : decode cX7_writesAll 123 = .ok (.iload_n 3, 1) := dk_29 (dk_at dksX7_writesAll_5 4 rfl rfl)
theorem dX7_writesAll_124 : decode cX7_writesAll 124 = .ok (.bipush 6, 2) := dk_16 6 (dk_at dksX7_writesAll_5 5 rfl rfl)
theorem dX7_writesAll_126 : decode cX7_writesAll 126 = .ok (.irem, 1) := dk_112 (dk_at dksX7_writesAll_5 7 rfl rfl)
theorem dX7_writesAll_127 : decode cX7_writesAll 127 = .ok (.invokevirtual 412, 3) := dk_182 1 156 (dk_at dksX7_writesAll_5 8 rfl rfl)
theorem dX7_writesAll_130 : decode cX7_writesAll 130 = .ok (.aload_n 0, 1) := dk_42 (dk_at dksX7_writesAll_5 11 rfl rfl)
theorem dX7_writesAll_131 : decode cX7_writesAll 131 = .ok (.iload_n 1, 1) := dk_27 (dk_at dksX7_writesAll_5 12 rfl rfl)
theorem dX7_writesAll_132 : decode cX7_writesAll 132 = .ok (.iconst 1, 1) := dk_4 (dk_at dksX7_writesAll_5 13 rfl rfl)
theorem dX7_writesAll_133 : decode cX7_writesAll 133 = .ok (.iadd, 1) := dk_96 (dk_at dksX7_writesAll_5 14 rfl rfl)
theorem dX7_writesAll_134 : decode cX7_writesAll 134 = .ok (.iload_n 2, 1) := dk_28 (dk_at dksX7_writesAll_5 15 rfl rfl)
theorem dX7_writesAll_135 : decode cX7_writesAll 135 = .ok (.iconst 1, 1) := dk_4 (dk_at dksX7_writesAll_5 16 rfl rfl)
theorem dX7_writesAll_136 : decode cX7_writesAll 136 = .ok (.iadd, 1) := dk_96 (dk_at dksX7_writesAll_5 17 rfl rfl)
theorem dX7_writesAll_137 : decode cX7_writesAll 137 = .ok (.invokevirtual 442, 3) := dk_182 1 186 (dk_at dksX7_writesAll_5 18 rfl rfl)
theorem dX7_writesAll_140 : decode cX7_writesAll 140 = .ok (.aload_n 0, 1) := dk_42 (dk_at dksX7_writesAll_5 21 rfl rfl)
theorem dX7_writesAll_141 : decode cX7_writesAll 141 = .ok (.iload_n 1, 1) := dk_27 (dk_at dksX7_writesAll_5 22 rfl rfl)
theorem dX7_writesAll_142 : decode cX7_writesAll 142 = .ok (.iload 4, 2) := dk_21 4 (dk_at dksX7_writesAll_6 0 rfl rfl)
theorem dX7_writesAll_144 : decode cX7_writesAll 144 = .ok (.iload_n 3, 1) := dk_29 (dk_at dksX7_writesAll_6 2 rfl rfl)
theorem dX7_writesAll_145 : decode cX7_writesAll 145 = .ok (.bipush 6, 2) := dk_16 6 (dk_at dksX7_writesAll_6 3 rfl rfl)
theorem dX7_writesAll_147 : decode cX7_writesAll 147 = .ok (.irem, 1) := dk_112 (dk_at dksX7_writesAll_6 5 rfl rfl)
theorem dX7_writesAll_148 : decode cX7_writesAll 148 = .ok (.invokevirtual 445, 3) := dk_182 1 189 (dk_at dksX7_writesAll_6 6 rfl rfl)
theorem dX7_writesAll_151 : decode cX7_writesAll 151 = .ok (.iinc 3 1, 3) := dk_132 3 1 (dk_at dksX7_writesAll_6 9 rfl rfl)
theorem dX7_writesAll_154 : decode cX7_writesAll 154 = .ok (.goto (-92), 3) := dk_167 255 164 (dk_at dksX7_writesAll_6 12 rfl rfl)
theorem dX7_writesAll_157 : decode cX7_writesAll 157 = .ok (.aload_n 0, 1) := dk_42 (dk_at dksX7_writesAll_6 15 rfl rfl)
theorem dX7_writesAll_158 : decode cX7_writesAll 158 = .ok (.getfield 138, 3) := dk_180 0 138 (dk_at dksX7_writesAll_6 16 rfl rfl)
theorem dX7_writesAll_161 : decode cX7_writesAll 161 = .ok (.iload_n 1, 1) := dk_27 (dk_at dksX7_writesAll_6 19 rfl rfl)
theorem dX7_writesAll_162 : decode cX7_writesAll 162 = .ok (.iconst (-1), 1) := dk_2 (dk_at dksX7_writesAll_6 20 rfl rfl)
theorem dX7_writesAll_163 : decode cX7_writesAll 163 = .ok (.iastore, 1) := dk_79 (dk_at dksX7_writesAll_6 21 rfl rfl)
theorem dX7_writesAll_164 : decode cX7_writesAll 164 = .ok (.aload_n 0, 1) := dk_42 (dk_at dksX7_writesAll_6 22 rfl rfl)
theorem dX7_writesAll_165 : decode cX7_writesAll 165 = .ok (.iload_n 1, 1) := dk_27 (dk_at dksX7_writesAll_6 23 rfl rfl)
theorem dX7_writesAll_166 : decode cX7_writesAll 166 = .ok (.iconst 1, 1) := dk_4 (dk_at dksX7_writesAll_7 0 rfl rfl)
theorem dX7_writesAll_167 : decode cX7_writesAll 167 = .ok (.iadd, 1) := dk_96 (dk_at dksX7_writesAll_7 1 rfl rfl)
theorem dX7_writesAll_168 : decode cX7_writesAll 168 = .ok (.iload_n 2, 1) := dk_28 (dk_at dksX7_writesAll_7 2 rfl rfl)
theorem dX7_writesAll_169 : decode cX7_writesAll 169 = .ok (.invokevirtual 442, 3) := dk_182 1 186 (dk_at dksX7_writesAll_7 3 rfl rfl)
theorem dX7_writesAll_172 : decode cX7_writesAll 172 = .ok (.return_, 1) := dk_177 (dk_at dksX7_writesAll_7 6 rfl rfl)
abbrev cX7_lay : ByteArray := prog_32_method_86_code
abbrev yX7_lay : MethodName := { cls := "WornSkinModel", name := "lay", desc := "(I)I" }
def dkwX7_lay_2 : List UInt8 := [180, 0, 141, 27, 46, 172]
abbrev dktX7_lay_2 : List UInt8 := dkwX7_lay_2 ++ []
def dkwX7_lay_1 : List UInt8 := [181, 1, 183, 42, 3, 3, 182, 1, 186, 27, 2, 160, 0, 10, 42, 180, 1, 183, 167, 0, 9, 42]
abbrev dktX7_lay_1 : List UInt8 := dkwX7_lay_1 ++ dktX7_lay_2
def dkwX7_lay_0 : List UInt8 := [42, 3, 181, 0, 144, 27, 2, 159, 0, 14, 42, 27, 182, 1, 131, 154, 0, 6, 16, 254, 172, 42, 2]
abbrev dktX7_lay_0 : List UInt8 := dkwX7_lay_0 ++ dktX7_lay_1
theorem dksX7_lay_0 : cX7_lay.data.toList.drop 0 = dktX7_lay_0 := by decide +kernel
theorem dksX7_lay_1 : cX7_lay.data.toList.drop 23 = dktX7_lay_1 := dk_seg dksX7_lay_0 23 rfl rfl
theorem dksX7_lay_2 : cX7_lay.data.toList.drop 45 = dktX7_lay_2 := dk_seg dksX7_lay_1 22 rfl rfl
theorem dX7_lay_0 : decode cX7_lay 0 = .ok (.aload_n 0, 1) := dk_42 (dk_at dksX7_lay_0 0 rfl rfl)
theorem dX7_lay_1 : decode cX7_lay 1 = .ok (.iconst 0, 1) := dk_3 (dk_at dksX7_lay_0 1 rfl rfl)
theorem dX7_lay_2 : decode cX7_lay 2 = .ok (.putfield 144, 3) := dk_181 0 144 (dk_at dksX7_lay_0 2 rfl rfl)
theorem dX7_lay_5 : decode cX7_lay 5 = .ok (.iload_n 1, 1) := dk_27 (dk_at dksX7_lay_0 5 rfl rfl)
theorem dX7_lay_6 : decode cX7_lay 6 = .ok (.iconst (-1), 1) := dk_2 (dk_at dksX7_lay_0 6 rfl rfl)
theorem dX7_lay_7 : decode cX7_lay 7 = .ok (.if_icmp .eq 14, 3) := dk_159 0 14 (dk_at dksX7_lay_0 7 rfl rfl)
theorem dX7_lay_10 : decode cX7_lay 10 = .ok (.aload_n 0, 1) := dk_42 (dk_at dksX7_lay_0 10 rfl rfl)
theorem dX7_lay_11 : decode cX7_lay 11 = .ok (.iload_n 1, 1) := dk_27 (dk_at dksX7_lay_0 11 rfl rfl)
theorem dX7_lay_12 : decode cX7_lay 12 = .ok (.invokevirtual 387, 3) := dk_182 1 131 (dk_at dksX7_lay_0 12 rfl rfl)
theorem dX7_lay_15 : decode cX7_lay 15 = .ok (.ifCond .ne 6, 3) := dk_154 0 6 (dk_at dksX7_lay_0 15 rfl rfl)
theorem dX7_lay_18 : decode cX7_lay 18 = .ok (.bipush (-2), 2) := dk_16 254 (dk_at dksX7_lay_0 18 rfl rfl)
theorem dX7_lay_20 : decode cX7_lay 20 = .ok (.ireturn, 1) := dk_172 (dk_at dksX7_lay_0 20 rfl rfl)
theorem dX7_lay_21 : decode cX7_lay 21 = .ok (.aload_n 0, 1) := dk_42 (dk_at dksX7_lay_0 21 rfl rfl)
theorem dX7_lay_22 : decode cX7_lay 22 = .ok (.iconst (-1), 1) := dk_2 (dk_at dksX7_lay_0 22 rfl rfl)
theorem dX7_lay_23 : decode cX7_lay 23 = .ok (.putfield 439, 3) := dk_181 1 183 (dk_at dksX7_lay_1 0 rfl rfl)
theorem dX7_lay_26 : decode cX7_lay 26 = .ok (.aload_n 0, 1) := dk_42 (dk_at dksX7_lay_1 3 rfl rfl)
theorem dX7_lay_27 : decode cX7_lay 27 = .ok (.iconst 0, 1) := dk_3 (dk_at dksX7_lay_1 4 rfl rfl)
theorem dX7_lay_28 : decode cX7_lay 28 = .ok (.iconst 0, 1) := dk_3 (dk_at dksX7_lay_1 5 rfl rfl)
theorem dX7_lay_29 : decode cX7_lay 29 = .ok (.invokevirtual 442, 3) := dk_182 1 186 (dk_at dksX7_lay_1 6 rfl rfl)
theorem dX7_lay_32 : decode cX7_lay 32 = .ok (.iload_n 1, 1) := dk_27 (dk_at dksX7_lay_1 9 rfl rfl)
theorem dX7_lay_33 : decode cX7_lay 33 = .ok (.iconst (-1), 1) := dk_2 (dk_at dksX7_lay_1 10 rfl rfl)
theorem dX7_lay_34 : decode cX7_lay 34 = .ok (.if_icmp .ne 10, 3) := dk_160 0 10 (dk_at dksX7_lay_1 11 rfl rfl)
theorem dX7_lay_37 : decode cX7_lay 37 = .ok (.aload_n 0, 1) := dk_42 (dk_at dksX7_lay_1 14 rfl rfl)
theorem dX7_lay_38 : decode cX7_lay 38 = .ok (.getfield 439, 3) := dk_180 1 183 (dk_at dksX7_lay_1 15 rfl rfl)
theorem dX7_lay_41 : decode cX7_lay 41 = .ok (.goto 9, 3) := dk_167 0 9 (dk_at dksX7_lay_1 18 rfl rfl)
theorem dX7_lay_44 : decode cX7_lay 44 = .ok (.aload_n 0, 1) := dk_42 (dk_at dksX7_lay_1 21 rfl rfl)
theorem dX7_lay_45 : decode cX7_lay 45 = .ok (.getfield 141, 3) := dk_180 0 141 (dk_at dksX7_lay_2 0 rfl rfl)
theorem dX7_lay_48 : decode cX7_lay 48 = .ok (.iload_n 1, 1) := dk_27 (dk_at dksX7_lay_2 3 rfl rfl)
theorem dX7_lay_49 : decode cX7_lay 49 = .ok (.iaload, 1) := dk_46 (dk_at dksX7_lay_2 4 rfl rfl)
theorem dX7_lay_50 : decode cX7_lay 50 = .ok (.ireturn, 1) := dk_172 (dk_at dksX7_lay_2 5 rfl rfl)
abbrev cX7_bears : ByteArray := prog_32_method_87_code
abbrev yX7_bears : MethodName := { cls := "WornSkinModel", name := "bears", desc := "(II)I" }
def dkwX7_bears_3 : List UInt8 := [182, 1, 172, 54, 4, 167, 255, 225, 42, 180, 0, 126, 3, 42, 180, 0, 120, 3, 184, 1, 149, 29, 172]
abbrev dktX7_bears_3 : List UInt8 := dkwX7_bears_3 ++ []
def dkwX7_bears_2 : List UInt8 := [155, 0, 32, 42, 28, 27, 21, 4, 182, 1, 156, 42, 27, 16, 63, 182, 1, 160, 132, 3, 1, 42, 28, 27]
abbrev dktX7_bears_2 : List UInt8 := dkwX7_bears_2 ++ dktX7_bears_3
def dkwX7_bears_1 : List UInt8 := [180, 0, 120, 3, 42, 180, 0, 126, 3, 184, 1, 149, 3, 62, 42, 28, 27, 182, 1, 172, 54, 4, 21, 4]
abbrev dktX7_bears_1 : List UInt8 := dkwX7_bears_1 ++ dktX7_bears_2
def dkwX7_bears_0 : List UInt8 := [42, 3, 181, 0, 144, 42, 27, 182, 1, 97, 153, 0, 11, 42, 28, 182, 1, 131, 154, 0, 5, 2, 172, 42]
abbrev dktX7_bears_0 : List UInt8 := dkwX7_bears_0 ++ dktX7_bears_1
theorem dksX7_bears_0 : cX7_bears.data.toList.drop 0 = dktX7_bears_0 := by decide +kernel
theorem dksX7_bears_1 : cX7_bears.data.toList.drop 24 = dktX7_bears_1 := dk_seg dksX7_bears_0 24 rfl rfl
theorem dksX7_bears_2 : cX7_bears.data.toList.drop 48 = dktX7_bears_2 := dk_seg dksX7_bears_1 24 rfl rfl
theorem dksX7_bears_3 : cX7_bears.data.toList.drop 72 = dktX7_bears_3 := dk_seg dksX7_bears_2 24 rfl rfl
theorem dX7_bears_0 : decode cX7_bears 0 = .ok (.aload_n 0, 1) := dk_42 (dk_at dksX7_bears_0 0 rfl rfl)
theorem dX7_bears_1 : decode cX7_bears 1 = .ok (.iconst 0, 1) := dk_3 (dk_at dksX7_bears_0 1 rfl rfl)
theorem dX7_bears_2 : decode cX7_bears 2 = .ok (.putfield 144, 3) := dk_181 0 144 (dk_at dksX7_bears_0 2 rfl rfl)
theorem dX7_bears_5 : decode cX7_bears 5 = .ok (.aload_n 0, 1) := dk_42 (dk_at dksX7_bears_0 5 rfl rfl)
theorem dX7_bears_6 : decode cX7_bears 6 = .ok (.iload_n 1, 1) := dk_27 (dk_at dksX7_bears_0 6 rfl rfl)
theorem dX7_bears_7 : decode cX7_bears 7 = .ok (.invokevirtual 353, 3) := dk_182 1 97 (dk_at dksX7_bears_0 7 rfl rfl)
theorem dX7_bears_10 : decode cX7_bears 10 = .ok (.ifCond .eq 11, 3) := dk_153 0 11 (dk_at dksX7_bears_0 10 rfl rfl)
theorem dX7_bears_13 : decode cX7_bears 13 = .ok (.aload_n 0, 1) := dk_42 (dk_at dksX7_bears_0 13 rfl rfl)
theorem dX7_bears_14 : decode cX7_bears 14 = .ok (.iload_n 2, 1) := dk_28 (dk_at dksX7_bears_0 14 rfl rfl)
theorem dX7_bears_15 : decode cX7_bears 15 = .ok (.invokevirtual 387, 3) := dk_182 1 131 (dk_at dksX7_bears_0 15 rfl rfl)
theorem dX7_bears_18 : decode cX7_bears 18 = .ok (.ifCond .ne 5, 3) := dk_154 0 5 (dk_at dksX7_bears_0 18 rfl rfl)
theorem dX7_bears_21 : decode cX7_bears 21 = .ok (.iconst (-1), 1) := dk_2 (dk_at dksX7_bears_0 21 rfl rfl)
theorem dX7_bears_22 : decode cX7_bears 22 = .ok (.ireturn, 1) := dk_172 (dk_at dksX7_bears_0 22 rfl rfl)
theorem dX7_bears_23 : decode cX7_bears 23 = .ok (.aload_n 0, 1) := dk_42 (dk_at dksX7_bears_0 23 rfl rfl)
theorem dX7_bears_24 : decode cX7_bears 24 = .ok (.getfield 120, 3) := dk_180 0 120 (dk_at dksX7_bears_1 0 rfl rfl)
theorem dX7_bears_27 : decode cX7_bears 27 = .ok (.iconst 0, 1) := dk_3 (dk_at dksX7_bears_1 3 rfl rfl)
theorem dX7_bears_28 : decode cX7_bears 28 = .ok (.aload_n 0, 1) := dk_42 (dk_at dksX7_bears_1 4 rfl rfl)
theorem dX7_bears_29 : decode cX7_bears 29 = .ok (.getfield 126, 3) := dk_180 0 126 (dk_at dksX7_bears_1 5 rfl rfl)
theorem dX7_bears_32 : decode cX7_bears 32 = .ok (.iconst 0, 1) := dk_3 (dk_at dksX7_bears_1 8 rfl rfl)
theorem dX7_bears_33 : decode cX7_bears 33 = .ok (.invokestatic 405, 3) := dk_184 1 149 (dk_at dksX7_bears_1 9 rfl rfl)
theorem dX7_bears_36 : decode cX7_bears 36 = .ok (.iconst 0, 1) := dk_3 (dk_at dksX7_bears_1 12 rfl rfl)
theorem dX7_bears_37 : decode cX7_bears 37 = .ok (.istore_n 3, 1) := dk_62 (dk_at dksX7_bears_1 13 rfl rfl)
theorem dX7_bears_38 : decode cX7_bears 38 = .ok (.aload_n 0, 1) := dk_42 (dk_at dksX7_bears_1 14 rfl rfl)
theorem dX7_bears_39 : decode cX7_bears 39 = .ok (.iload_n 2, 1) := dk_28 (dk_at dksX7_bears_1 15 rfl rfl)
theorem dX7_bears_40 : decode cX7_bears 40 = .ok (.iload_n 1, 1) := dk_27 (dk_at dksX7_bears_1 16 rfl rfl)
theorem dX7_bears_41 : decode cX7_bears 41 = .ok (.invokevirtual 428, 3) := dk_182 1 172 (dk_at dksX7_bears_1 17 rfl rfl)
theorem dX7_bears_44 : decode cX7_bears 44 = .ok (.istore 4, 2) := dk_54 4 (dk_at dksX7_bears_1 20 rfl rfl)
theorem dX7_bears_46 : decode cX7_bears 46 = .ok (.iload 4, 2) := dk_21 4 (dk_at dksX7_bears_1 22 rfl rfl)
theorem dX7_bears_48 : decode cX7_bears 48 = .ok (.ifCond .lt 32, 3) := dk_155 0 32 (dk_at dksX7_bears_2 0 rfl rfl)
theorem dX7_bears_51 : decode cX7_bears 51 = .ok (.aload_n 0, 1) := dk_42 (dk_at dksX7_bears_2 3 rfl rfl)
theorem dX7_bears_52 : decode cX7_bears 52 = .ok (.iload_n 2, 1) := dk_28 (dk_at dksX7_bears_2 4 rfl rfl)
theorem dX7_bears_53 : decode cX7_bears 53 = .ok (.iload_n 1, 1) := dk_27 (dk_at dksX7_bears_2 5 rfl rfl)
theorem dX7_bears_54 : decode cX7_bears 54 = .ok (.iload 4, 2) := dk_21 4 (dk_at dksX7_bears_2 6 rfl rfl)
theorem dX7_bears_56 : decode cX7_bears 56 = .ok (.invokevirtual 412, 3) := dk_182 1 156 (dk_at dksX7_bears_2 8 rfl rfl)
theorem dX7_bears_59 : decode cX7_bears 59 = .ok (.aload_n 0, 1) := dk_42 (dk_at dksX7_bears_2 11 rfl rfl)
theorem dX7_bears_60 : decode cX7_bears 60 = .ok (.iload_n 1, 1) := dk_27 (dk_at dksX7_bears_2 12 rfl rfl)
theorem dX7_bears_61 : decode cX7_bears 61 = .ok (.bipush 63, 2) := dk_16 63 (dk_at dksX7_bears_2 13 rfl rfl)
theorem dX7_bears_63 : decode cX7_bears 63 = .ok (.invokevirtual 416, 3) := dk_182 1 160 (dk_at dksX7_bears_2 15 rfl rfl)
theorem dX7_bears_66 : decode cX7_bears 66 = .ok (.iinc 3 1, 3) := dk_132 3 1 (dk_at dksX7_bears_2 18 rfl rfl)
theorem dX7_bears_69 : decode cX7_bears 69 = .ok (.aload_n 0, 1) := dk_42 (dk_at dksX7_bears_2 21 rfl rfl)
theorem dX7_bears_70 : decode cX7_bears 70 = .ok (.iload_n 2, 1) := dk_28 (dk_at dksX7_bears_2 22 rfl rfl)
theorem dX7_bears_71 : decode cX7_bears 71 = .ok (.iload_n 1, 1) := dk_27 (dk_at dksX7_bears_2 23 rfl rfl)
theorem dX7_bears_72 : decode cX7_bears 72 = .ok (.invokevirtual 428, 3) := dk_182 1 172 (dk_at dksX7_bears_3 0 rfl rfl)
theorem dX7_bears_75 : decode cX7_bears 75 = .ok (.istore 4, 2) := dk_54 4 (dk_at dksX7_bears_3 3 rfl rfl)
theorem dX7_bears_77 : decode cX7_bears 77 = .ok (.goto (-31), 3) := dk_167 255 225 (dk_at dksX7_bears_3 5 rfl rfl)
theorem dX7_bears_80 : decode cX7_bears 80 = .ok (.aload_n 0, 1) := dk_42 (dk_at dksX7_bears_3 8 rfl rfl)
theorem dX7_bears_81 : decode cX7_bears 81 = .ok (.getfield 126, 3) := dk_180 0 126 (dk_at dksX7_bears_3 9 rfl rfl)
theorem dX7_bears_84 : decode cX7_bears 84 = .ok (.iconst 0, 1) := dk_3 (dk_at dksX7_bears_3 12 rfl rfl)
theorem dX7_bears_85 : decode cX7_bears 85 = .ok (.aload_n 0, 1) := dk_42 (dk_at dksX7_bears_3 13 rfl rfl)
theorem dX7_bears_86 : decode cX7_bears 86 = .ok (.getfield 120, 3) := dk_180 0 120 (dk_at dksX7_bears_3 14 rfl rfl)
theorem dX7_bears_89 : decode cX7_bears 89 = .ok (.iconst 0, 1) := dk_3 (dk_at dksX7_bears_3 17 rfl rfl)
theorem dX7_bears_90 : decode cX7_bears 90 = .ok (.invokestatic 405, 3) := dk_184 1 149 (dk_at dksX7_bears_3 18 rfl rfl)
theorem dX7_bears_93 : decode cX7_bears 93 = .ok (.iload_n 3, 1) := dk_29 (dk_at dksX7_bears_3 21 rfl rfl)
theorem dX7_bears_94 : decode cX7_bears 94 = .ok (.ireturn, 1) := dk_172 (dk_at dksX7_bears_3 22 rfl rfl)
abbrev cX7_over : ByteArray := prog_32_method_88_code
abbrev yX7_over : MethodName := { cls := "WornSkinModel", name := "over", desc := "(I)I" }
def dkwX7_over_3 : List UInt8 := [120, 128, 54, 4, 21, 5, 16, 7, 108, 54, 5, 167, 255, 214, 132, 3, 1, 167, 255, 188, 28, 172]
abbrev dktX7_over_3 : List UInt8 := dkwX7_over_3 ++ []
def dkwX7_over_2 : List UInt8 := [16, 7, 112, 4, 100, 27, 160, 0, 8, 28, 21, 4, 128, 61, 21, 4, 4, 21, 5, 16, 7, 112, 4, 100]
abbrev dktX7_over_2 : List UInt8 := dkwX7_over_2 ++ dktX7_over_3
def dkwX7_over_1 : List UInt8 := [162, 0, 68, 3, 54, 4, 42, 180, 0, 120, 16, 7, 29, 96, 46, 54, 5, 21, 5, 158, 0, 43, 21, 5]
abbrev dktX7_over_1 : List UInt8 := dkwX7_over_1 ++ dktX7_over_2
def dkwX7_over_0 : List UInt8 := [42, 3, 181, 0, 144, 42, 27, 182, 1, 131, 154, 0, 5, 2, 172, 3, 61, 3, 62, 29, 16, 18]
abbrev dktX7_over_0 : List UInt8 := dkwX7_over_0 ++ dktX7_over_1
theorem dksX7_over_0 : cX7_over.data.toList.drop 0 = dktX7_over_0 := by decide +kernel
theorem dksX7_over_1 : cX7_over.data.toList.drop 22 = dktX7_over_1 := dk_seg dksX7_over_0 22 rfl rfl
theorem dksX7_over_2 : cX7_over.data.toList.drop 46 = dktX7_over_2 := dk_seg dksX7_over_1 24 rfl rfl
theorem dksX7_over_3 : cX7_over.data.toList.drop 70 = dktX7_over_3 := dk_seg dksX7_over_2 24 rfl rfl
theorem dX7_over_0 : decode cX7_over 0 = .ok (.aload_n 0, 1) := dk_42 (dk_at dksX7_over_0 0 rfl rfl)
theorem dX7_over_1 : decode cX7_over 1 = .ok (.iconst 0, 1) := dk_3 (dk_at dksX7_over_0 1 rfl rfl)
theorem dX7_over_2 : decode cX7_over 2 = .ok (.putfield 144, 3) := dk_181 0 144 (dk_at dksX7_over_0 2 rfl rfl)
theorem dX7_over_5 : decode cX7_over 5 = .ok (.aload_n 0, 1) := dk_42 (dk_at dksX7_over_0 5 rfl rfl)
theorem dX7_over_6 : decode cX7_over 6 = .ok (.iload_n 1, 1) := dk_27 (dk_at dksX7_over_0 6 rfl rfl)
theorem dX7_over_7 : decode cX7_over 7 = .ok (.invokevirtual 387, 3) := dk_182 1 131 (dk_at dksX7_over_0 7 rfl rfl)
theorem dX7_over_10 : decode cX7_over 10 = .ok (.ifCond .ne 5, 3) := dk_154 0 5 (dk_at dksX7_over_0 10 rfl rfl)
theorem dX7_over_13 : decode cX7_over 13 = .ok (.iconst (-1), 1) := dk_2 (dk_at dksX7_over_0 13 rfl rfl)
theorem dX7_over_14 : decode cX7_over 14 = .ok (.ireturn, 1) := dk_172 (dk_at dksX7_over_0 14 rfl rfl)
theorem dX7_over_15 : decode cX7_over 15 = .ok (.iconst 0, 1) := dk_3 (dk_at dksX7_over_0 15 rfl rfl)
theorem dX7_over_16 : decode cX7_over 16 = .ok (.istore_n 2, 1) := dk_61 (dk_at dksX7_over_0 16 rfl rfl)
theorem dX7_over_17 : decode cX7_over 17 = .ok (.iconst 0, 1) := dk_3 (dk_at dksX7_over_0 17 rfl rfl)
theorem dX7_over_18 : decode cX7_over 18 = .ok (.istore_n 3, 1) := dk_62 (dk_at dksX7_over_0 18 rfl rfl)
theorem dX7_over_19 : decode cX7_over 19 = .ok (.iload_n 3, 1) := dk_29 (dk_at dksX7_over_0 19 rfl rfl)
theorem dX7_over_20 : decode cX7_over 20 = .ok (.bipush 18, 2) := dk_16 18 (dk_at dksX7_over_0 20 rfl rfl)
theorem dX7_over_22 : decode cX7_over 22 = .ok (.if_icmp .ge 68, 3) := dk_162 0 68 (dk_at dksX7_over_1 0 rfl rfl)
theorem dX7_over_25 : decode cX7_over 25 = .ok (.iconst 0, 1) := dk_3 (dk_at dksX7_over_1 3 rfl rfl)
theorem dX7_over_26 : decode cX7_over 26 = .ok (.istore 4, 2) := dk_54 4 (dk_at dksX7_over_1 4 rfl rfl)
theorem dX7_over_28 : decode cX7_over 28 = .ok (.aload_n 0, 1) := dk_42 (dk_at dksX7_over_1 6 rfl rfl)
theorem dX7_over_29 : decode cX7_over 29 = .ok (.getfield 120, 3) := dk_180 0 120 (dk_at dksX7_over_1 7 rfl rfl)
theorem dX7_over_32 : decode cX7_over 32 = .ok (.bipush 7, 2) := dk_16 7 (dk_at dksX7_over_1 10 rfl rfl)
theorem dX7_over_34 : decode cX7_over 34 = .ok (.iload_n 3, 1) := dk_29 (dk_at dksX7_over_1 12 rfl rfl)
theorem dX7_over_35 : decode cX7_over 35 = .ok (.iadd, 1) := dk_96 (dk_at dksX7_over_1 13 rfl rfl)
theorem dX7_over_36 : decode cX7_over 36 = .ok (.iaload, 1) := dk_46 (dk_at dksX7_over_1 14 rfl rfl)
theorem dX7_over_37 : decode cX7_over 37 = .ok (.istore 5, 2) := dk_54 5 (dk_at dksX7_over_1 15 rfl rfl)
theorem dX7_over_39 : decode cX7_over 39 = .ok (.iload 5, 2) := dk_21 5 (dk_at dksX7_over_1 17 rfl rfl)
theorem dX7_over_41 : decode cX7_over 41 = .ok (.ifCond .le 43, 3) := dk_158 0 43 (dk_at dksX7_over_1 19 rfl rfl)
theorem dX7_over_44 : decode cX7_over 44 = .ok (.iload 5, 2) := dk_21 5 (dk_at dksX7_over_1 22 rfl rfl)
theorem dX7_over_46 : decode cX7_over 46 = .ok (.bipush 7, 2) := dk_16 7 (dk_at dksX7_over_2 0 rfl rfl)
theorem dX7_over_48 : decode cX7_over 48 = .ok (.irem, 1) := dk_112 (dk_at dksX7_over_2 2 rfl rfl)
theorem dX7_over_49 : decode cX7_over 49 = .ok (.iconst 1, 1) := dk_4 (dk_at dksX7_over_2 3 rfl rfl)
theorem dX7_over_50 : decode cX7_over 50 = .ok (.isub, 1) := dk_100 (dk_at dksX7_over_2 4 rfl rfl)
theorem dX7_over_51 : decode cX7_over 51 = .ok (.iload_n 1, 1) := dk_27 (dk_at dksX7_over_2 5 rfl rfl)
theorem dX7_over_52 : decode cX7_over 52 = .ok (.if_icmp .ne 8, 3) := dk_160 0 8 (dk_at dksX7_over_2 6 rfl rfl)
theorem dX7_over_55 : decode cX7_over 55 = .ok (.iload_n 2, 1) := dk_28 (dk_at dksX7_over_2 9 rfl rfl)
theorem dX7_over_56 : decode cX7_over 56 = .ok (.iload 4, 2) := dk_21 4 (dk_at dksX7_over_2 10 rfl rfl)
theorem dX7_over_58 : decode cX7_over 58 = .ok (.ior, 1) := dk_128 (dk_at dksX7_over_2 12 rfl rfl)
theorem dX7_over_59 : decode cX7_over 59 = .ok (.istore_n 2, 1) := dk_61 (dk_at dksX7_over_2 13 rfl rfl)
theorem dX7_over_60 : decode cX7_over 60 = .ok (.iload 4, 2) := dk_21 4 (dk_at dksX7_over_2 14 rfl rfl)
theorem dX7_over_62 : decode cX7_over 62 = .ok (.iconst 1, 1) := dk_4 (dk_at dksX7_over_2 16 rfl rfl)
theorem dX7_over_63 : decode cX7_over 63 = .ok (.iload 5, 2) := dk_21 5 (dk_at dksX7_over_2 17 rfl rfl)
theorem dX7_over_65 : decode cX7_over 65 = .ok (.bipush 7, 2) := dk_16 7 (dk_at dksX7_over_2 19 rfl rfl)
theorem dX7_over_67 : decode cX7_over 67 = .ok (.irem, 1) := dk_112 (dk_at dksX7_over_2 21 rfl rfl)
theorem dX7_over_68 : decode cX7_over 68 = .ok (.iconst 1, 1) := dk_4 (dk_at dksX7_over_2 22 rfl rfl)
theorem dX7_over_69 : decode cX7_over 69 = .ok (.isub, 1) := dk_100 (dk_at dksX7_over_2 23 rfl rfl)
theorem dX7_over_70 : decode cX7_over 70 = .ok (.ishl, 1) := dk_120 (dk_at dksX7_over_3 0 rfl rfl)
theorem dX7_over_71 : decode cX7_over 71 = .ok (.ior, 1) := dk_128 (dk_at dksX7_over_3 1 rfl rfl)
theorem dX7_over_72 : decode cX7_over 72 = .ok (.istore 4, 2) := dk_54 4 (dk_at dksX7_over_3 2 rfl rfl)
theorem dX7_over_74 : decode cX7_over 74 = .ok (.iload 5, 2) := dk_21 5 (dk_at dksX7_over_3 4 rfl rfl)
theorem dX7_over_76 : decode cX7_over 76 = .ok (.bipush 7, 2) := dk_16 7 (dk_at dksX7_over_3 6 rfl rfl)
theorem dX7_over_78 : decode cX7_over 78 = .ok (.idiv, 1) := dk_108 (dk_at dksX7_over_3 8 rfl rfl)
theorem dX7_over_79 : decode cX7_over 79 = .ok (.istore 5, 2) := dk_54 5 (dk_at dksX7_over_3 9 rfl rfl)
theorem dX7_over_81 : decode cX7_over 81 = .ok (.goto (-42), 3) := dk_167 255 214 (dk_at dksX7_over_3 11 rfl rfl)
theorem dX7_over_84 : decode cX7_over 84 = .ok (.iinc 3 1, 3) := dk_132 3 1 (dk_at dksX7_over_3 14 rfl rfl)
theorem dX7_over_87 : decode cX7_over 87 = .ok (.goto (-68), 3) := dk_167 255 188 (dk_at dksX7_over_3 17 rfl rfl)
theorem dX7_over_90 : decode cX7_over 90 = .ok (.iload_n 2, 1) := dk_28 (dk_at dksX7_over_3 20 rfl rfl)
theorem dX7_over_91 : decode cX7_over 91 = .ok (.ireturn, 1) := dk_172 (dk_at dksX7_over_3 21 rfl rfl)
abbrev cX7_deepest : ByteArray := prog_32_method_89_code
abbrev yX7_deepest : MethodName := { cls := "WornSkinModel", name := "deepest", desc := "(I)I" }
def dkwX7_deepest_3 : List UInt8 := [167, 255, 204, 28, 172]
abbrev dktX7_deepest_3 : List UInt8 := dkwX7_deepest_3 ++ []
def dkwX7_deepest_2 : List UInt8 := [180, 0, 120, 16, 7, 16, 6, 27, 104, 96, 28, 96, 46, 184, 1, 143, 164, 0, 5, 29, 61, 132, 3, 1]
abbrev dktX7_deepest_2 : List UInt8 := dkwX7_deepest_2 ++ dktX7_deepest_3
def dkwX7_deepest_1 : List UInt8 := [27, 46, 162, 0, 48, 42, 180, 0, 120, 16, 7, 16, 6, 27, 104, 96, 29, 96, 46, 184, 1, 143, 42]
abbrev dktX7_deepest_1 : List UInt8 := dkwX7_deepest_1 ++ dktX7_deepest_2
def dkwX7_deepest_0 : List UInt8 := [42, 3, 181, 0, 144, 42, 27, 182, 1, 97, 154, 0, 5, 2, 172, 3, 61, 4, 62, 29, 42, 180, 0, 23]
abbrev dktX7_deepest_0 : List UInt8 := dkwX7_deepest_0 ++ dktX7_deepest_1
theorem dksX7_deepest_0 : cX7_deepest.data.toList.drop 0 = dktX7_deepest_0 := by decide +kernel
theorem dksX7_deepest_1 : cX7_deepest.data.toList.drop 24 = dktX7_deepest_1 := dk_seg dksX7_deepest_0 24 rfl rfl
theorem dksX7_deepest_2 : cX7_deepest.data.toList.drop 47 = dktX7_deepest_2 := dk_seg dksX7_deepest_1 23 rfl rfl
theorem dksX7_deepest_3 : cX7_deepest.data.toList.drop 71 = dktX7_deepest_3 := dk_seg dksX7_deepest_2 24 rfl rfl
theorem dX7_deepest_0 : decode cX7_deepest 0 = .ok (.aload_n 0, 1) := dk_42 (dk_at dksX7_deepest_0 0 rfl rfl)
theorem dX7_deepest_1 : decode cX7_deepest 1 = .ok (.iconst 0, 1) := dk_3 (dk_at dksX7_deepest_0 1 rfl rfl)
theorem dX7_deepest_2 : decode cX7_deepest 2 = .ok (.putfield 144, 3) := dk_181 0 144 (dk_at dksX7_deepest_0 2 rfl rfl)
theorem dX7_deepest_5 : decode cX7_deepest 5 = .ok (.aload_n 0, 1) := dk_42 (dk_at dksX7_deepest_0 5 rfl rfl)
theorem dX7_deepest_6 : decode cX7_deepest 6 = .ok (.iload_n 1, 1) := dk_27 (dk_at dksX7_deepest_0 6 rfl rfl)
theorem dX7_deepest_7 : decode cX7_deepest 7 = .ok (.invokevirtual 353, 3) := dk_182 1 97 (dk_at dksX7_deepest_0 7 rfl rfl)
theorem dX7_deepest_10 : decode cX7_deepest 10 = .ok (.ifCond .ne 5, 3) := dk_154 0 5 (dk_at dksX7_deepest_0 10 rfl rfl)
theorem dX7_deepest_13 : decode cX7_deepest 13 = .ok (.iconst (-1), 1) := dk_2 (dk_at dksX7_deepest_0 13 rfl rfl)
theorem dX7_deepest_14 : decode cX7_deepest 14 = .ok (.ireturn, 1) := dk_172 (dk_at dksX7_deepest_0 14 rfl rfl)
theorem dX7_deepest_15 : decode cX7_deepest 15 = .ok (.iconst 0, 1) := dk_3 (dk_at dksX7_deepest_0 15 rfl rfl)
theorem dX7_deepest_16 : decode cX7_deepest 16 = .ok (.istore_n 2, 1) := dk_61 (dk_at dksX7_deepest_0 16 rfl rfl)
theorem dX7_deepest_17 : decode cX7_deepest 17 = .ok (.iconst 1, 1) := dk_4 (dk_at dksX7_deepest_0 17 rfl rfl)
theorem dX7_deepest_18 : decode cX7_deepest 18 = .ok (.istore_n 3, 1) := dk_62 (dk_at dksX7_deepest_0 18 rfl rfl)
theorem dX7_deepest_19 : decode cX7_deepest 19 = .ok (.iload_n 3, 1) := dk_29 (dk_at dksX7_deepest_0 19 rfl rfl)
theorem dX7_deepest_20 : decode cX7_deepest 20 = .ok (.aload_n 0, 1) := dk_42 (dk_at dksX7_deepest_0 20 rfl rfl)
theorem dX7_deepest_21 : decode cX7_deepest 21 = .ok (.getfield 23, 3) := dk_180 0 23 (dk_at dksX7_deepest_0 21 rfl rfl)
theorem dX7_deepest_24 : decode cX7_deepest 24 = .ok (.iload_n 1, 1) := dk_27 (dk_at dksX7_deepest_1 0 rfl rfl)
theorem dX7_deepest_25 : decode cX7_deepest 25 = .ok (.iaload, 1) := dk_46 (dk_at dksX7_deepest_1 1 rfl rfl)
theorem dX7_deepest_26 : decode cX7_deepest 26 = .ok (.if_icmp .ge 48, 3) := dk_162 0 48 (dk_at dksX7_deepest_1 2 rfl rfl)
theorem dX7_deepest_29 : decode cX7_deepest 29 = .ok (.aload_n 0, 1) := dk_42 (dk_at dksX7_deepest_1 5 rfl rfl)
theorem dX7_deepest_30 : decode cX7_deepest 30 = .ok (.getfield 120, 3) := dk_180 0 120 (dk_at dksX7_deepest_1 6 rfl rfl)
theorem dX7_deepest_33 : decode cX7_deepest 33 = .ok (.bipush 7, 2) := dk_16 7 (dk_at dksX7_deepest_1 9 rfl rfl)
theorem dX7_deepest_35 : decode cX7_deepest 35 = .ok (.bipush 6, 2) := dk_16 6 (dk_at dksX7_deepest_1 11 rfl rfl)
theorem dX7_deepest_37 : decode cX7_deepest 37 = .ok (.iload_n 1, 1) := dk_27 (dk_at dksX7_deepest_1 13 rfl rfl)
theorem dX7_deepest_38 : decode cX7_deepest 38 = .ok (.imul, 1) := dk_104 (dk_at dksX7_deepest_1 14 rfl rfl)
theorem dX7_deepest_39 : decode cX7_deepest 39 = .ok (.iadd, 1) := dk_96 (dk_at dksX7_deepest_1 15 rfl rfl)
theorem dX7_deepest_40 : decode cX7_deepest 40 = .ok (.iload_n 3, 1) := dk_29 (dk_at dksX7_deepest_1 16 rfl rfl)
theorem dX7_deepest_41 : decode cX7_deepest 41 = .ok (.iadd, 1) := dk_96 (dk_at dksX7_deepest_1 17 rfl rfl)
theorem dX7_deepest_42 : decode cX7_deepest 42 = .ok (.iaload, 1) := dk_46 (dk_at dksX7_deepest_1 18 rfl rfl)
theorem dX7_deepest_43 : decode cX7_deepest 43 = .ok (.invokestatic 399, 3) := dk_184 1 143 (dk_at dksX7_deepest_1 19 rfl rfl)
theorem dX7_deepest_46 : decode cX7_deepest 46 = .ok (.aload_n 0, 1) := dk_42 (dk_at dksX7_deepest_1 22 rfl rfl)
theorem dX7_deepest_47 : decode cX7_deepest 47 = .ok (.getfield 120, 3) := dk_180 0 120 (dk_at dksX7_deepest_2 0 rfl rfl)
theorem dX7_deepest_50 : decode cX7_deepest 50 = .ok (.bipush 7, 2) := dk_16 7 (dk_at dksX7_deepest_2 3 rfl rfl)
theorem dX7_deepest_52 : decode cX7_deepest 52 = .ok (.bipush 6, 2) := dk_16 6 (dk_at dksX7_deepest_2 5 rfl rfl)
theorem dX7_deepest_54 : decode cX7_deepest 54 = .ok (.iload_n 1, 1) := dk_27 (dk_at dksX7_deepest_2 7 rfl rfl)
theorem dX7_deepest_55 : decode cX7_deepest 55 = .ok (.imul, 1) := dk_104 (dk_at dksX7_deepest_2 8 rfl rfl)
theorem dX7_deepest_56 : decode cX7_deepest 56 = .ok (.iadd, 1) := dk_96 (dk_at dksX7_deepest_2 9 rfl rfl)
theorem dX7_deepest_57 : decode cX7_deepest 57 = .ok (.iload_n 2, 1) := dk_28 (dk_at dksX7_deepest_2 10 rfl rfl)
theorem dX7_deepest_58 : decode cX7_deepest 58 = .ok (.iadd, 1) := dk_96 (dk_at dksX7_deepest_2 11 rfl rfl)
theorem dX7_deepest_59 : decode cX7_deepest 59 = .ok (.iaload, 1) := dk_46 (dk_at dksX7_deepest_2 12 rfl rfl)
theorem dX7_deepest_60 : decode cX7_deepest 60 = .ok (.invokestatic 399, 3) := dk_184 1 143 (dk_at dksX7_deepest_2 13 rfl rfl)
theorem dX7_deepest_63 : decode cX7_deepest 63 = .ok (.if_icmp .le 5, 3) := dk_164 0 5 (dk_at dksX7_deepest_2 16 rfl rfl)
theorem dX7_deepest_66 : decode cX7_deepest 66 = .ok (.iload_n 3, 1) := dk_29 (dk_at dksX7_deepest_2 19 rfl rfl)
theorem dX7_deepest_67 : decode cX7_deepest 67 = .ok (.istore_n 2, 1) := dk_61 (dk_at dksX7_deepest_2 20 rfl rfl)
theorem dX7_deepest_68 : decode cX7_deepest 68 = .ok (.iinc 3 1, 3) := dk_132 3 1 (dk_at dksX7_deepest_2 21 rfl rfl)
theorem dX7_deepest_71 : decode cX7_deepest 71 = .ok (.goto (-52), 3) := dk_167 255 204 (dk_at dksX7_deepest_3 0 rfl rfl)
theorem dX7_deepest_74 : decode cX7_deepest 74 = .ok (.iload_n 2, 1) := dk_28 (dk_at dksX7_deepest_3 3 rfl rfl)
theorem dX7_deepest_75 : decode cX7_deepest 75 = .ok (.ireturn, 1) := dk_172 (dk_at dksX7_deepest_3 4 rfl rfl)
abbrev cX7_bare : ByteArray := prog_32_method_90_code
abbrev yX7_bare : MethodName := { cls := "WornSkinModel", name := "bare", desc := "(I)I" }
def dkwX7_bare_3 : List UInt8 := [172]
abbrev dktX7_bare_3 : List UInt8 := dkwX7_bare_3 ++ []
def dkwX7_bare_2 : List UInt8 := [29, 120, 167, 0, 4, 3, 128, 61, 132, 3, 1, 167, 255, 216, 28, 42, 180, 0, 29, 27, 46, 2, 130, 126]
abbrev dktX7_bare_2 : List UInt8 := dkwX7_bare_2 ++ dktX7_bare_3
def dkwX7_bare_1 : List UInt8 := [27, 46, 162, 0, 36, 28, 42, 180, 0, 120, 16, 7, 16, 6, 27, 104, 96, 29, 96, 46, 154, 0, 9, 4]
abbrev dktX7_bare_1 : List UInt8 := dkwX7_bare_1 ++ dktX7_bare_2
def dkwX7_bare_0 : List UInt8 := [42, 3, 181, 0, 144, 42, 27, 182, 1, 97, 154, 0, 5, 2, 172, 3, 61, 3, 62, 29, 42, 180, 0, 23]
abbrev dktX7_bare_0 : List UInt8 := dkwX7_bare_0 ++ dktX7_bare_1
theorem dksX7_bare_0 : cX7_bare.data.toList.drop 0 = dktX7_bare_0 := by decide +kernel
theorem dksX7_bare_1 : cX7_bare.data.toList.drop 24 = dktX7_bare_1 := dk_seg dksX7_bare_0 24 rfl rfl
theorem dksX7_bare_2 : cX7_bare.data.toList.drop 48 = dktX7_bare_2 := dk_seg dksX7_bare_1 24 rfl rfl
theorem dksX7_bare_3 : cX7_bare.data.toList.drop 72 = dktX7_bare_3 := dk_seg dksX7_bare_2 24 rfl rfl
theorem dX7_bare_0 : decode cX7_bare 0 = .ok (.aload_n 0, 1) := dk_42 (dk_at dksX7_bare_0 0 rfl rfl)
theorem dX7_bare_1 : decode cX7_bare 1 = .ok (.iconst 0, 1) := dk_3 (dk_at dksX7_bare_0 1 rfl rfl)
theorem dX7_bare_2 : decode cX7_bare 2 = .ok (.putfield 144, 3) := dk_181 0 144 (dk_at dksX7_bare_0 2 rfl rfl)
theorem dX7_bare_5 : decode cX7_bare 5 = .ok (.aload_n 0, 1) := dk_42 (dk_at dksX7_bare_0 5 rfl rfl)
theorem dX7_bare_6 : decode cX7_bare 6 = .ok (.iload_n 1, 1) := dk_27 (dk_at dksX7_bare_0 6 rfl rfl)
theorem dX7_bare_7 : decode cX7_bare 7 = .ok (.invokevirtual 353, 3) := dk_182 1 97 (dk_at dksX7_bare_0 7 rfl rfl)
theorem dX7_bare_10 : decode cX7_bare 10 = .ok (.ifCond .ne 5, 3) := dk_154 0 5 (dk_at dksX7_bare_0 10 rfl rfl)
theorem dX7_bare_13 : decode cX7_bare 13 = .ok (.iconst (-1), 1) := dk_2 (dk_at dksX7_bare_0 13 rfl rfl)
theorem dX7_bare_14 : decode cX7_bare 14 = .ok (.ireturn, 1) := dk_172 (dk_at dksX7_bare_0 14 rfl rfl)
theorem dX7_bare_15 : decode cX7_bare 15 = .ok (.iconst 0, 1) := dk_3 (dk_at dksX7_bare_0 15 rfl rfl)
theorem dX7_bare_16 : decode cX7_bare 16 = .ok (.istore_n 2, 1) := dk_61 (dk_at dksX7_bare_0 16 rfl rfl)
theorem dX7_bare_17 : decode cX7_bare 17 = .ok (.iconst 0, 1) := dk_3 (dk_at dksX7_bare_0 17 rfl rfl)
theorem dX7_bare_18 : decode cX7_bare 18 = .ok (.istore_n 3, 1) := dk_62 (dk_at dksX7_bare_0 18 rfl rfl)
theorem dX7_bare_19 : decode cX7_bare 19 = .ok (.iload_n 3, 1) := dk_29 (dk_at dksX7_bare_0 19 rfl rfl)
theorem dX7_bare_20 : decode cX7_bare 20 = .ok (.aload_n 0, 1) := dk_42 (dk_at dksX7_bare_0 20 rfl rfl)
theorem dX7_bare_21 : decode cX7_bare 21 = .ok (.getfield 23, 3) := dk_180 0 23 (dk_at dksX7_bare_0 21 rfl rfl)
theorem dX7_bare_24 : decode cX7_bare 24 = .ok (.iload_n 1, 1) := dk_27 (dk_at dksX7_bare_1 0 rfl rfl)
theorem dX7_bare_25 : decode cX7_bare 25 = .ok (.iaload, 1) := dk_46 (dk_at dksX7_bare_1 1 rfl rfl)
theorem dX7_bare_26 : decode cX7_bare 26 = .ok (.if_icmp .ge 36, 3) := dk_162 0 36 (dk_at dksX7_bare_1 2 rfl rfl)
theorem dX7_bare_29 : decode cX7_bare 29 = .ok (.iload_n 2, 1) := dk_28 (dk_at dksX7_bare_1 5 rfl rfl)
theorem dX7_bare_30 : decode cX7_bare 30 = .ok (.aload_n 0, 1) := dk_42 (dk_at dksX7_bare_1 6 rfl rfl)
theorem dX7_bare_31 : decode cX7_bare 31 = .ok (.getfield 120, 3) := dk_180 0 120 (dk_at dksX7_bare_1 7 rfl rfl)
theorem dX7_bare_34 : decode cX7_bare 34 = .ok (.bipush 7, 2) := dk_16 7 (dk_at dksX7_bare_1 10 rfl rfl)
theorem dX7_bare_36 : decode cX7_bare 36 = .ok (.bipush 6, 2) := dk_16 6 (dk_at dksX7_bare_1 12 rfl rfl)
theorem dX7_bare_38 : decode cX7_bare 38 = .ok (.iload_n 1, 1) := dk_27 (dk_at dksX7_bare_1 14 rfl rfl)
theorem dX7_bare_39 : decode cX7_bare 39 = .ok (.imul, 1) := dk_104 (dk_at dksX7_bare_1 15 rfl rfl)
theorem dX7_bare_40 : decode cX7_bare 40 = .ok (.iadd, 1) := dk_96 (dk_at dksX7_bare_1 16 rfl rfl)
theorem dX7_bare_41 : decode cX7_bare 41 = .ok (.iload_n 3, 1) := dk_29 (dk_at dksX7_bare_1 17 rfl rfl)
theorem dX7_bare_42 : decode cX7_bare 42 = .ok (.iadd, 1) := dk_96 (dk_at dksX7_bare_1 18 rfl rfl)
theorem dX7_bare_43 : decode cX7_bare 43 = .ok (.iaload, 1) := dk_46 (dk_at dksX7_bare_1 19 rfl rfl)
theorem dX7_bare_44 : decode cX7_bare 44 = .ok (.ifCond .ne 9, 3) := dk_154 0 9 (dk_at dksX7_bare_1 20 rfl rfl)
theorem dX7_bare_47 : decode cX7_bare 47 = .ok (.iconst 1, 1) := dk_4 (dk_at dksX7_bare_1 23 rfl rfl)
theorem dX7_bare_48 : decode cX7_bare 48 = .ok (.iload_n 3, 1) := dk_29 (dk_at dksX7_bare_2 0 rfl rfl)
theorem dX7_bare_49 : decode cX7_bare 49 = .ok (.ishl, 1) := dk_120 (dk_at dksX7_bare_2 1 rfl rfl)
theorem dX7_bare_50 : decode cX7_bare 50 = .ok (.goto 4, 3) := dk_167 0 4 (dk_at dksX7_bare_2 2 rfl rfl)
theorem dX7_bare_53 : decode cX7_bare 53 = .ok (.iconst 0, 1) := dk_3 (dk_at dksX7_bare_2 5 rfl rfl)
theorem dX7_bare_54 : decode cX7_bare 54 = .ok (.ior, 1) := dk_128 (dk_at dksX7_bare_2 6 rfl rfl)
theorem dX7_bare_55 : decode cX7_bare 55 = .ok (.istore_n 2, 1) := dk_61 (dk_at dksX7_bare_2 7 rfl rfl)
theorem dX7_bare_56 : decode cX7_bare 56 = .ok (.iinc 3 1, 3) := dk_132 3 1 (dk_at dksX7_bare_2 8 rfl rfl)
theorem dX7_bare_59 : decode cX7_bare 59 = .ok (.goto (-40), 3) := dk_167 255 216 (dk_at dksX7_bare_2 11 rfl rfl)
theorem dX7_bare_62 : decode cX7_bare 62 = .ok (.iload_n 2, 1) := dk_28 (dk_at dksX7_bare_2 14 rfl rfl)
theorem dX7_bare_63 : decode cX7_bare 63 = .ok (.aload_n 0, 1) := dk_42 (dk_at dksX7_bare_2 15 rfl rfl)
theorem dX7_bare_64 : decode cX7_bare 64 = .ok (.getfield 29, 3) := dk_180 0 29 (dk_at dksX7_bare_2 16 rfl rfl)
theorem dX7_bare_67 : decode cX7_bare 67 = .ok (.iload_n 1, 1) := dk_27 (dk_at dksX7_bare_2 19 rfl rfl)
theorem dX7_bare_68 : decode cX7_bare 68 = .ok (.iaload, 1) := dk_46 (dk_at dksX7_bare_2 20 rfl rfl)
theorem dX7_bare_69 : decode cX7_bare 69 = .ok (.iconst (-1), 1) := dk_2 (dk_at dksX7_bare_2 21 rfl rfl)
theorem dX7_bare_70 : decode cX7_bare 70 = .ok (.ixor, 1) := dk_130 (dk_at dksX7_bare_2 22 rfl rfl)
theorem dX7_bare_71 : decode cX7_bare 71 = .ok (.iand, 1) := dk_126 (dk_at dksX7_bare_2 23 rfl rfl)
theorem dX7_bare_72 : decode cX7_bare 72 = .ok (.ireturn, 1) := dk_172 (dk_at dksX7_bare_3 0 rfl rfl)
abbrev cX7_same : ByteArray := prog_32_method_91_code
abbrev yX7_same : MethodName := { cls := "WornSkinModel", name := "same", desc := "()I" }
def dkwX7_same_3 : List UInt8 := [167, 255, 193, 27, 172]
abbrev dktX7_same_3 : List UInt8 := dkwX7_same_3 ++ []
def dkwX7_same_2 : List UInt8 := [16, 7, 29, 96, 46, 160, 0, 7, 4, 167, 0, 4, 3, 96, 60, 132, 3, 1, 167, 255, 207, 132, 2, 1]
abbrev dktX7_same_2 : List UInt8 := dkwX7_same_2 ++ dktX7_same_3
def dkwX7_same_1 : List UInt8 := [180, 0, 120, 16, 7, 28, 96, 46, 158, 0, 28, 42, 180, 0, 120, 16, 7, 28, 96, 46, 42, 180, 0, 120]
abbrev dktX7_same_1 : List UInt8 := dkwX7_same_1 ++ dktX7_same_2
def dkwX7_same_0 : List UInt8 := [42, 3, 181, 0, 144, 3, 60, 3, 61, 28, 16, 18, 162, 0, 63, 3, 62, 29, 28, 162, 0, 50, 27, 42]
abbrev dktX7_same_0 : List UInt8 := dkwX7_same_0 ++ dktX7_same_1
theorem dksX7_same_0 : cX7_same.data.toList.drop 0 = dktX7_same_0 := by decide +kernel
theorem dksX7_same_1 : cX7_same.data.toList.drop 24 = dktX7_same_1 := dk_seg dksX7_same_0 24 rfl rfl
theorem dksX7_same_2 : cX7_same.data.toList.drop 48 = dktX7_same_2 := dk_seg dksX7_same_1 24 rfl rfl
theorem dksX7_same_3 : cX7_same.data.toList.drop 72 = dktX7_same_3 := dk_seg dksX7_same_2 24 rfl rfl
theorem dX7_same_0 : decode cX7_same 0 = .ok (.aload_n 0, 1) := dk_42 (dk_at dksX7_same_0 0 rfl rfl)
theorem dX7_same_1 : decode cX7_same 1 = .ok (.iconst 0, 1) := dk_3 (dk_at dksX7_same_0 1 rfl rfl)
theorem dX7_same_2 : decode cX7_same 2 = .ok (.putfield 144, 3) := dk_181 0 144 (dk_at dksX7_same_0 2 rfl rfl)
theorem dX7_same_5 : decode cX7_same 5 = .ok (.iconst 0, 1) := dk_3 (dk_at dksX7_same_0 5 rfl rfl)
theorem dX7_same_6 : decode cX7_same 6 = .ok (.istore_n 1, 1) := dk_60 (dk_at dksX7_same_0 6 rfl rfl)
theorem dX7_same_7 : decode cX7_same 7 = .ok (.iconst 0, 1) := dk_3 (dk_at dksX7_same_0 7 rfl rfl)
theorem dX7_same_8 : decode cX7_same 8 = .ok (.istore_n 2, 1) := dk_61 (dk_at dksX7_same_0 8 rfl rfl)
theorem dX7_same_9 : decode cX7_same 9 = .ok (.iload_n 2, 1) := dk_28 (dk_at dksX7_same_0 9 rfl rfl)
theorem dX7_same_10 : decode cX7_same 10 = .ok (.bipush 18, 2) := dk_16 18 (dk_at dksX7_same_0 10 rfl rfl)
theorem dX7_same_12 : decode cX7_same 12 = .ok (.if_icmp .ge 63, 3) := dk_162 0 63 (dk_at dksX7_same_0 12 rfl rfl)
theorem dX7_same_15 : decode cX7_same 15 = .ok (.iconst 0, 1) := dk_3 (dk_at dksX7_same_0 15 rfl rfl)
theorem dX7_same_16 : decode cX7_same 16 = .ok (.istore_n 3, 1) := dk_62 (dk_at dksX7_same_0 16 rfl rfl)
theorem dX7_same_17 : decode cX7_same 17 = .ok (.iload_n 3, 1) := dk_29 (dk_at dksX7_same_0 17 rfl rfl)
theorem dX7_same_18 : decode cX7_same 18 = .ok (.iload_n 2, 1) := dk_28 (dk_at dksX7_same_0 18 rfl rfl)
theorem dX7_same_19 : decode cX7_same 19 = .ok (.if_icmp .ge 50, 3) := dk_162 0 50 (dk_at dksX7_same_0 19 rfl rfl)
theorem dX7_same_22 : decode cX7_same 22 = .ok (.iload_n 1, 1) := dk_27 (dk_at dksX7_same_0 22 rfl rfl)
theorem dX7_same_23 : decode cX7_same 23 = .ok (.aload_n 0, 1) := dk_42 (dk_at dksX7_same_0 23 rfl rfl)
theorem dX7_same_24 : decode cX7_same 24 = .ok (.getfield 120, 3) := dk_180 0 120 (dk_at dksX7_same_1 0 rfl rfl)
theorem dX7_same_27 : decode cX7_same 27 = .ok (.bipush 7, 2) := dk_16 7 (dk_at dksX7_same_1 3 rfl rfl)
theorem dX7_same_29 : decode cX7_same 29 = .ok (.iload_n 2, 1) := dk_28 (dk_at dksX7_same_1 5 rfl rfl)
theorem dX7_same_30 : decode cX7_same 30 = .ok (.iadd, 1) := dk_96 (dk_at dksX7_same_1 6 rfl rfl)
theorem dX7_same_31 : decode cX7_same 31 = .ok (.iaload, 1) := dk_46 (dk_at dksX7_same_1 7 rfl rfl)
theorem dX7_same_32 : decode cX7_same 32 = .ok (.ifCond .le 28, 3) := dk_158 0 28 (dk_at dksX7_same_1 8 rfl rfl)
theorem dX7_same_35 : decode cX7_same 35 = .ok (.aload_n 0, 1) := dk_42 (dk_at dksX7_same_1 11 rfl rfl)
theorem dX7_same_36 : decode cX7_same 36 = .ok (.getfield 120, 3) := dk_180 0 120 (dk_at dksX7_same_1 12 rfl rfl)
theorem dX7_same_39 : decode cX7_same 39 = .ok (.bipush 7, 2) := dk_16 7 (dk_at dksX7_same_1 15 rfl rfl)
theorem dX7_same_41 : decode cX7_same 41 = .ok (.iload_n 2, 1) := dk_28 (dk_at dksX7_same_1 17 rfl rfl)
theorem dX7_same_42 : decode cX7_same 42 = .ok (.iadd, 1) := dk_96 (dk_at dksX7_same_1 18 rfl rfl)
theorem dX7_same_43 : decode cX7_same 43 = .ok (.iaload, 1) := dk_46 (dk_at dksX7_same_1 19 rfl rfl)
theorem dX7_same_44 : decode cX7_same 44 = .ok (.aload_n 0, 1) := dk_42 (dk_at dksX7_same_1 20 rfl rfl)
theorem dX7_same_45 : decode cX7_same 45 = .ok (.getfield 120, 3) := dk_180 0 120 (dk_at dksX7_same_1 21 rfl rfl)
theorem dX7_same_48 : decode cX7_same 48 = .ok (.bipush 7, 2) := dk_16 7 (dk_at dksX7_same_2 0 rfl rfl)
theorem dX7_same_50 : decode cX7_same 50 = .ok (.iload_n 3, 1) := dk_29 (dk_at dksX7_same_2 2 rfl rfl)
theorem dX7_same_51 : decode cX7_same 51 = .ok (.iadd, 1) := dk_96 (dk_at dksX7_same_2 3 rfl rfl)
theorem dX7_same_52 : decode cX7_same 52 = .ok (.iaload, 1) := dk_46 (dk_at dksX7_same_2 4 rfl rfl)
theorem dX7_same_53 : decode cX7_same 53 = .ok (.if_icmp .ne 7, 3) := dk_160 0 7 (dk_at dksX7_same_2 5 rfl rfl)
theorem dX7_same_56 : decode cX7_same 56 = .ok (.iconst 1, 1) := dk_4 (dk_at dksX7_same_2 8 rfl rfl)
theorem dX7_same_57 : decode cX7_same 57 = .ok (.goto 4, 3) := dk_167 0 4 (dk_at dksX7_same_2 9 rfl rfl)
theorem dX7_same_60 : decode cX7_same 60 = .ok (.iconst 0, 1) := dk_3 (dk_at dksX7_same_2 12 rfl rfl)
theorem dX7_same_61 : decode cX7_same 61 = .ok (.iadd, 1) := dk_96 (dk_at dksX7_same_2 13 rfl rfl)
theorem dX7_same_62 : decode cX7_same 62 = .ok (.istore_n 1, 1) := dk_60 (dk_at dksX7_same_2 14 rfl rfl)
theorem dX7_same_63 : decode cX7_same 63 = .ok (.iinc 3 1, 3) := dk_132 3 1 (dk_at dksX7_same_2 15 rfl rfl)
theorem dX7_same_66 : decode cX7_same 66 = .ok (.goto (-49), 3) := dk_167 255 207 (dk_at dksX7_same_2 18 rfl rfl)
theorem dX7_same_69 : decode cX7_same 69 = .ok (.iinc 2 1, 3) := dk_132 2 1 (dk_at dksX7_same_2 21 rfl rfl)
theorem dX7_same_72 : decode cX7_same 72 = .ok (.goto (-63), 3) := dk_167 255 193 (dk_at dksX7_same_3 0 rfl rfl)
theorem dX7_same_75 : decode cX7_same 75 = .ok (.iload_n 1, 1) := dk_27 (dk_at dksX7_same_3 3 rfl rfl)
theorem dX7_same_76 : decode cX7_same 76 = .ok (.ireturn, 1) := dk_172 (dk_at dksX7_same_3 4 rfl rfl)
abbrev cX7_giveup : ByteArray := prog_32_method_92_code
abbrev yX7_giveup : MethodName := { cls := "WornSkinModel", name := "giveup", desc := "()I" }
def dkwX7_giveup_4 : List UInt8 := [167, 0, 9, 21, 4, 60, 21, 5, 61, 132, 4, 1, 167, 255, 166, 27, 172]
abbrev dktX7_giveup_4 : List UInt8 := dkwX7_giveup_4 ++ []
def dkwX7_giveup_3 : List UInt8 := [184, 1, 128, 54, 5, 42, 180, 0, 126, 3, 42, 180, 0, 120, 3, 184, 1, 149, 21, 5, 28, 161, 0, 6]
abbrev dktX7_giveup_3 : List UInt8 := dkwX7_giveup_3 ++ dktX7_giveup_4
def dkwX7_giveup_2 : List UInt8 := [42, 180, 0, 126, 3, 184, 1, 149, 42, 21, 4, 16, 63, 182, 1, 160, 29, 42, 182, 1, 134, 2, 130, 126]
abbrev dktX7_giveup_2 : List UInt8 := dkwX7_giveup_2 ++ dktX7_giveup_3
def dkwX7_giveup_1 : List UInt8 := [3, 46, 162, 0, 85, 42, 21, 4, 16, 63, 182, 1, 118, 154, 0, 6, 167, 0, 65, 42, 180, 0, 120, 3]
abbrev dktX7_giveup_1 : List UInt8 := dkwX7_giveup_1 ++ dktX7_giveup_2
def dkwX7_giveup_0 : List UInt8 := [42, 3, 181, 0, 144, 2, 60, 16, 7, 61, 42, 182, 1, 134, 62, 3, 54, 4, 21, 4, 42, 180, 0, 13]
abbrev dktX7_giveup_0 : List UInt8 := dkwX7_giveup_0 ++ dktX7_giveup_1
theorem dksX7_giveup_0 : cX7_giveup.data.toList.drop 0 = dktX7_giveup_0 := by decide +kernel
theorem dksX7_giveup_1 : cX7_giveup.data.toList.drop 24 = dktX7_giveup_1 := dk_seg dksX7_giveup_0 24 rfl rfl
theorem dksX7_giveup_2 : cX7_giveup.data.toList.drop 48 = dktX7_giveup_2 := dk_seg dksX7_giveup_1 24 rfl rfl
theorem dksX7_giveup_3 : cX7_giveup.data.toList.drop 72 = dktX7_giveup_3 := dk_seg dksX7_giveup_2 24 rfl rfl
theorem dksX7_giveup_4 : cX7_giveup.data.toList.drop 96 = dktX7_giveup_4 := dk_seg dksX7_giveup_3 24 rfl rfl
theorem dX7_giveup_0 : decode cX7_giveup 0 = .ok (.aload_n 0, 1) := dk_42 (dk_at dksX7_giveup_0 0 rfl rfl)
theorem dX7_giveup_1 : decode cX7_giveup 1 = .ok (.iconst 0, 1) := dk_3 (dk_at dksX7_giveup_0 1 rfl rfl)
theorem dX7_giveup_2 : decode cX7_giveup 2 = .ok (.putfield 144, 3) := dk_181 0 144 (dk_at dksX7_giveup_0 2 rfl rfl)
theorem dX7_giveup_5 : decode cX7_giveup 5 = .ok (.iconst (-1), 1) := dk_2 (dk_at dksX7_giveup_0 5 rfl rfl)
theorem dX7_giveup_6 : decode cX7_giveup 6 = .ok (.istore_n 1, 1) := dk_60 (dk_at dksX7_giveup_0 6 rfl rfl)
theorem dX7_giveup_7 : decode cX7_giveup 7 = .ok (.bipush 7, 2) := dk_16 7 (dk_at dksX7_giveup_0 7 rfl rfl)
theorem dX7_giveup_9 : decode cX7_giveup 9 = .ok (.istore_n 2, 1) := dk_61 (dk_at dksX7_giveup_0 9 rfl rfl)
theorem dX7_giveup_10 : decode cX7_giveup 10 = .ok (.aload_n 0, 1) := dk_42 (dk_at dksX7_giveup_0 10 rfl rfl)
theorem dX7_giveup_11 : decode cX7_giveup 11 = .ok (.invokevirtual 390, 3) := dk_182 1 134 (dk_at dksX7_giveup_0 11 rfl rfl)
theorem dX7_giveup_14 : decode cX7_giveup 14 = .ok (.istore_n 3, 1) := dk_62 (dk_at dksX7_giveup_0 14 rfl rfl)
theorem dX7_giveup_15 : decode cX7_giveup 15 = .ok (.iconst 0, 1) := dk_3 (dk_at dksX7_giveup_0 15 rfl rfl)
theorem dX7_giveup_16 : decode cX7_giveup 16 = .ok (.istore 4, 2) := dk_54 4 (dk_at dksX7_giveup_0 16 rfl rfl)
theorem dX7_giveup_18 : decode cX7_giveup 18 = .ok (.iload 4, 2) := dk_21 4 (dk_at dksX7_giveup_0 18 rfl rfl)
theorem dX7_giveup_20 : decode cX7_giveup 20 = .ok (.aload_n 0, 1) := dk_42 (dk_at dksX7_giveup_0 20 rfl rfl)
theorem dX7_giveup_21 : decode cX7_giveup 21 = .ok (.getfield 13, 3) := dk_180 0 13 (dk_at dksX7_giveup_0 21 rfl rfl)
theorem dX7_giveup_24 : decode cX7_giveup 24 = .ok (.iconst 0, 1) := dk_3 (dk_at dksX7_giveup_1 0 rfl rfl)
theorem dX7_giveup_25 : decode cX7_giveup 25 = .ok (.iaload, 1) := dk_46 (dk_at dksX7_giveup_1 1 rfl rfl)
theorem dX7_giveup_26 : decode cX7_giveup 26 = .ok (.if_icmp .ge 85, 3) := dk_162 0 85 (dk_at dksX7_giveup_1 2 rfl rfl)
theorem dX7_giveup_29 : decode cX7_giveup 29 = .ok (.aload_n 0, 1) := dk_42 (dk_at dksX7_giveup_1 5 rfl rfl)
theorem dX7_giveup_30 : decode cX7_giveup 30 = .ok (.iload 4, 2) := dk_21 4 (dk_at dksX7_giveup_1 6 rfl rfl)
theorem dX7_giveup_32 : decode cX7_giveup 32 = .ok (.bipush 63, 2) := dk_16 63 (dk_at dksX7_giveup_1 8 rfl rfl)
theorem dX7_giveup_34 : decode cX7_giveup 34 = .ok (.invokevirtual 374, 3) := dk_182 1 118 (dk_at dksX7_giveup_1 10 rfl rfl)
theorem dX7_giveup_37 : decode cX7_giveup 37 = .ok (.ifCond .ne 6, 3) := dk_154 0 6 (dk_at dksX7_giveup_1 13 rfl rfl)
theorem dX7_giveup_40 : decode cX7_giveup 40 = .ok (.goto 65, 3) := dk_167 0 65 (dk_at dksX7_giveup_1 16 rfl rfl)
theorem dX7_giveup_43 : decode cX7_giveup 43 = .ok (.aload_n 0, 1) := dk_42 (dk_at dksX7_giveup_1 19 rfl rfl)
theorem dX7_giveup_44 : decode cX7_giveup 44 = .ok (.getfield 120, 3) := dk_180 0 120 (dk_at dksX7_giveup_1 20 rfl rfl)
theorem dX7_giveup_47 : decode cX7_giveup 47 = .ok (.iconst 0, 1) := dk_3 (dk_at dksX7_giveup_1 23 rfl rfl)
theorem dX7_giveup_48 : decode cX7_giveup 48 = .ok (.aload_n 0, 1) := dk_42 (dk_at dksX7_giveup_2 0 rfl rfl)
theorem dX7_giveup_49 : decode cX7_giveup 49 = .ok (.getfield 126, 3) := dk_180 0 126 (dk_at dksX7_giveup_2 1 rfl rfl)
theorem dX7_giveup_52 : decode cX7_giveup 52 = .ok (.iconst 0, 1) := dk_3 (dk_at dksX7_giveup_2 4 rfl rfl)
theorem dX7_giveup_53 : decode cX7_giveup 53 = .ok (.invokestatic 405, 3) := dk_184 1 149 (dk_at dksX7_giveup_2 5 rfl rfl)
theorem dX7_giveup_56 : decode cX7_giveup 56 = .ok (.aload_n 0, 1) := dk_42 (dk_at dksX7_giveup_2 8 rfl rfl)
theorem dX7_giveup_57 : decode cX7_giveup 57 = .ok (.iload 4, 2) := dk_21 4 (dk_at dksX7_giveup_2 9 rfl rfl)
theorem dX7_giveup_59 : decode cX7_giveup 59 = .ok (.bipush 63, 2) := dk_16 63 (dk_at dksX7_giveup_2 11 rfl rfl)
theorem dX7_giveup_61 : decode cX7_giveup 61 = .ok (.invokevirtual 416, 3) := dk_182 1 160 (dk_at dksX7_giveup_2 13 rfl rfl)
theorem dX7_giveup_64 : decode cX7_giveup 64 = .ok (.iload_n 3, 1) := dk_29 (dk_at dksX7_giveup_2 16 rfl rfl)
theorem dX7_giveup_65 : decode cX7_giveup 65 = .ok (.aload_n 0, 1) := dk_42 (dk_at dksX7_giveup_2 17 rfl rfl)
theorem dX7_giveup_66 : decode cX7_giveup 66 = .ok (.invokevirtual 390, 3) := dk_182 1 134 (dk_at dksX7_giveup_2 18 rfl rfl)
theorem dX7_giveup_69 : decode cX7_giveup 69 = .ok (.iconst (-1), 1) := dk_2 (dk_at dksX7_giveup_2 21 rfl rfl)
theorem dX7_giveup_70 : decode cX7_giveup 70 = .ok (.ixor, 1) := dk_130 (dk_at dksX7_giveup_2 22 rfl rfl)
theorem dX7_giveup_71 : decode cX7_giveup 71 = .ok (.iand, 1) := dk_126 (dk_at dksX7_giveup_2 23 rfl rfl)
theorem dX7_giveup_72 : decode cX7_giveup 72 = .ok (.invokestatic 384, 3) := dk_184 1 128 (dk_at dksX7_giveup_3 0 rfl rfl)
theorem dX7_giveup_75 : decode cX7_giveup 75 = .ok (.istore 5, 2) := dk_54 5 (dk_at dksX7_giveup_3 3 rfl rfl)
theorem dX7_giveup_77 : decode cX7_giveup 77 = .ok (.aload_n 0, 1) := dk_42 (dk_at dksX7_giveup_3 5 rfl rfl)
theorem dX7_giveup_78 : decode cX7_giveup 78 = .ok (.getfield 126, 3) := dk_180 0 126 (dk_at dksX7_giveup_3 6 rfl rfl)
theorem dX7_giveup_81 : decode cX7_giveup 81 = .ok (.iconst 0, 1) := dk_3 (dk_at dksX7_giveup_3 9 rfl rfl)
theorem dX7_giveup_82 : decode cX7_giveup 82 = .ok (.aload_n 0, 1) := dk_42 (dk_at dksX7_giveup_3 10 rfl rfl)
theorem dX7_giveup_83 : decode cX7_giveup 83 = .ok (.getfield 120, 3) := dk_180 0 120 (dk_at dksX7_giveup_3 11 rfl rfl)
theorem dX7_giveup_86 : decode cX7_giveup 86 = .ok (.iconst 0, 1) := dk_3 (dk_at dksX7_giveup_3 14 rfl rfl)
theorem dX7_giveup_87 : decode cX7_giveup 87 = .ok (.invokestatic 405, 3) := dk_184 1 149 (dk_at dksX7_giveup_3 15 rfl rfl)
theorem dX7_giveup_90 : decode cX7_giveup 90 = .ok (.iload 5, 2) := dk_21 5 (dk_at dksX7_giveup_3 18 rfl rfl)
theorem dX7_giveup_92 : decode cX7_giveup 92 = .ok (.iload_n 2, 1) := dk_28 (dk_at dksX7_giveup_3 20 rfl rfl)
theorem dX7_giveup_93 : decode cX7_giveup 93 = .ok (.if_icmp .lt 6, 3) := dk_161 0 6 (dk_at dksX7_giveup_3 21 rfl rfl)
theorem dX7_giveup_96 : decode cX7_giveup 96 = .ok (.goto 9, 3) := dk_167 0 9 (dk_at dksX7_giveup_4 0 rfl rfl)
theorem dX7_giveup_99 : decode cX7_giveup 99 = .ok (.iload 4, 2) := dk_21 4 (dk_at dksX7_giveup_4 3 rfl rfl)
theorem dX7_giveup_101 : decode cX7_giveup 101 = .ok (.istore_n 1, 1) := dk_60 (dk_at dksX7_giveup_4 5 rfl rfl)
theorem dX7_giveup_102 : decode cX7_giveup 102 = .ok (.iload 5, 2) := dk_21 5 (dk_at dksX7_giveup_4 6 rfl rfl)
theorem dX7_giveup_104 : decode cX7_giveup 104 = .ok (.istore_n 2, 1) := dk_61 (dk_at dksX7_giveup_4 8 rfl rfl)
theorem dX7_giveup_105 : decode cX7_giveup 105 = .ok (.iinc 4 1, 3) := dk_132 4 1 (dk_at dksX7_giveup_4 9 rfl rfl)
theorem dX7_giveup_108 : decode cX7_giveup 108 = .ok (.goto (-90), 3) := dk_167 255 166 (dk_at dksX7_giveup_4 12 rfl rfl)
theorem dX7_giveup_111 : decode cX7_giveup 111 = .ok (.iload_n 1, 1) := dk_27 (dk_at dksX7_giveup_4 15 rfl rfl)
theorem dX7_giveup_112 : decode cX7_giveup 112 = .ok (.ireturn, 1) := dk_172 (dk_at dksX7_giveup_4 16 rfl rfl)
abbrev cX7_see : ByteArray := prog_32_method_93_code
abbrev yX7_see : MethodName := { cls := "WornSkinModel", name := "see", desc := "(IIIZ)Z" }
def dkwX7_see_4 : List UInt8 := [42, 180, 0, 105, 3, 92, 46, 4, 96, 79, 4, 172]
abbrev dktX7_see_4 : List UInt8 := dkwX7_see_4 ++ []
def dkwX7_see_3 : List UInt8 := [180, 0, 114, 42, 180, 0, 105, 3, 46, 29, 79, 42, 180, 0, 117, 42, 180, 0, 105, 3, 46, 21, 4, 84]
abbrev dktX7_see_3 : List UInt8 := dkwX7_see_3 ++ dktX7_see_4
def dkwX7_see_2 : List UInt8 := [180, 0, 108, 42, 180, 0, 105, 3, 46, 27, 79, 42, 180, 0, 111, 42, 180, 0, 105, 3, 46, 28, 79, 42]
abbrev dktX7_see_2 : List UInt8 := dkwX7_see_2 ++ dktX7_see_3
def dkwX7_see_1 : List UInt8 := [3, 16, 9, 184, 1, 9, 153, 0, 14, 42, 180, 0, 105, 3, 46, 16, 8, 160, 0, 5, 3, 172, 42]
abbrev dktX7_see_1 : List UInt8 := dkwX7_see_1 ++ dktX7_see_2
def dkwX7_see_0 : List UInt8 := [42, 3, 181, 0, 144, 42, 27, 182, 1, 97, 153, 0, 34, 28, 4, 16, 9, 184, 1, 9, 153, 0, 24, 29]
abbrev dktX7_see_0 : List UInt8 := dkwX7_see_0 ++ dktX7_see_1
theorem dksX7_see_0 : cX7_see.data.toList.drop 0 = dktX7_see_0 := by decide +kernel
theorem dksX7_see_1 : cX7_see.data.toList.drop 24 = dktX7_see_1 := dk_seg dksX7_see_0 24 rfl rfl
theorem dksX7_see_2 : cX7_see.data.toList.drop 47 = dktX7_see_2 := dk_seg dksX7_see_1 23 rfl rfl
theorem dksX7_see_3 : cX7_see.data.toList.drop 71 = dktX7_see_3 := dk_seg dksX7_see_2 24 rfl rfl
theorem dksX7_see_4 : cX7_see.data.toList.drop 95 = dktX7_see_4 := dk_seg dksX7_see_3 24 rfl rfl
theorem dX7_see_0 : decode cX7_see 0 = .ok (.aload_n 0, 1) := dk_42 (dk_at dksX7_see_0 0 rfl rfl)
theorem dX7_see_1 : decode cX7_see 1 = .ok (.iconst 0, 1) := dk_3 (dk_at dksX7_see_0 1 rfl rfl)
theorem dX7_see_2 : decode cX7_see 2 = .ok (.putfield 144, 3) := dk_181 0 144 (dk_at dksX7_see_0 2 rfl rfl)
theorem dX7_see_5 : decode cX7_see 5 = .ok (.aload_n 0, 1) := dk_42 (dk_at dksX7_see_0 5 rfl rfl)
theorem dX7_see_6 : decode cX7_see 6 = .ok (.iload_n 1, 1) := dk_27 (dk_at dksX7_see_0 6 rfl rfl)
theorem dX7_see_7 : decode cX7_see 7 = .ok (.invokevirtual 353, 3) := dk_182 1 97 (dk_at dksX7_see_0 7 rfl rfl)
theorem dX7_see_10 : decode cX7_see 10 = .ok (.ifCond .eq 34, 3) := dk_153 0 34 (dk_at dksX7_see_0 10 rfl rfl)
theorem dX7_see_13 : decode cX7_see 13 = .ok (.iload_n 2, 1) := dk_28 (dk_at dksX7_see_0 13 rfl rfl)
theorem dX7_see_14 : decode cX7_see 14 = .ok (.iconst 1, 1) := dk_4 (dk_at dksX7_see_0 14 rfl rfl)
theorem dX7_see_15 : decode cX7_see 15 = .ok (.bipush 9, 2) := dk_16 9 (dk_at dksX7_see_0 15 rfl rfl)
theorem dX7_see_17 : decode cX7_see 17 = .ok (.invokestatic 265, 3) := dk_184 1 9 (dk_at dksX7_see_0 17 rfl rfl)
theorem dX7_see_20 : decode cX7_see 20 = .ok (.ifCond .eq 24, 3) := dk_153 0 24 (dk_at dksX7_see_0 20 rfl rfl)
theorem dX7_see_23 : decode cX7_see 23 = .ok (.iload_n 3, 1) := dk_29 (dk_at dksX7_see_0 23 rfl rfl)
theorem dX7_see_24 : decode cX7_see 24 = .ok (.iconst 0, 1) := dk_3 (dk_at dksX7_see_1 0 rfl rfl)
theorem dX7_see_25 : decode cX7_see 25 = .ok (.bipush 9, 2) := dk_16 9 (dk_at dksX7_see_1 1 rfl rfl)
theorem dX7_see_27 : decode cX7_see 27 = .ok (.invokestatic 265, 3) := dk_184 1 9 (dk_at dksX7_see_1 3 rfl rfl)
theorem dX7_see_30 : decode cX7_see 30 = .ok (.ifCond .eq 14, 3) := dk_153 0 14 (dk_at dksX7_see_1 6 rfl rfl)
theorem dX7_see_33 : decode cX7_see 33 = .ok (.aload_n 0, 1) := dk_42 (dk_at dksX7_see_1 9 rfl rfl)
theorem dX7_see_34 : decode cX7_see 34 = .ok (.getfield 105, 3) := dk_180 0 105 (dk_at dksX7_see_1 10 rfl rfl)
theorem dX7_see_37 : decode cX7_see 37 = .ok (.iconst 0, 1) := dk_3 (dk_at dksX7_see_1 13 rfl rfl)
theorem dX7_see_38 : decode cX7_see 38 = .ok (.iaload, 1) := dk_46 (dk_at dksX7_see_1 14 rfl rfl)
theorem dX7_see_39 : decode cX7_see 39 = .ok (.bipush 8, 2) := dk_16 8 (dk_at dksX7_see_1 15 rfl rfl)
theorem dX7_see_41 : decode cX7_see 41 = .ok (.if_icmp .ne 5, 3) := dk_160 0 5 (dk_at dksX7_see_1 17 rfl rfl)
theorem dX7_see_44 : decode cX7_see 44 = .ok (.iconst 0, 1) := dk_3 (dk_at dksX7_see_1 20 rfl rfl)
theorem dX7_see_45 : decode cX7_see 45 = .ok (.ireturn, 1) := dk_172 (dk_at dksX7_see_1 21 rfl rfl)
theorem dX7_see_46 : decode cX7_see 46 = .ok (.aload_n 0, 1) := dk_42 (dk_at dksX7_see_1 22 rfl rfl)
theorem dX7_see_47 : decode cX7_see 47 = .ok (.getfield 108, 3) := dk_180 0 108 (dk_at dksX7_see_2 0 rfl rfl)
theorem dX7_see_50 : decode cX7_see 50 = .ok (.aload_n 0, 1) := dk_42 (dk_at dksX7_see_2 3 rfl rfl)
theorem dX7_see_51 : decode cX7_see 51 = .ok (.getfield 105, 3) := dk_180 0 105 (dk_at dksX7_see_2 4 rfl rfl)
theorem dX7_see_54 : decode cX7_see 54 = .ok (.iconst 0, 1) := dk_3 (dk_at dksX7_see_2 7 rfl rfl)
theorem dX7_see_55 : decode cX7_see 55 = .ok (.iaload, 1) := dk_46 (dk_at dksX7_see_2 8 rfl rfl)
theorem dX7_see_56 : decode cX7_see 56 = .ok (.iload_n 1, 1) := dk_27 (dk_at dksX7_see_2 9 rfl rfl)
theorem dX7_see_57 : decode cX7_see 57 = .ok (.iastore, 1) := dk_79 (dk_at dksX7_see_2 10 rfl rfl)
theorem dX7_see_58 : decode cX7_see 58 = .ok (.aload_n 0, 1) := dk_42 (dk_at dksX7_see_2 11 rfl rfl)
theorem dX7_see_59 : decode cX7_see 59 = .ok (.getfield 111, 3) := dk_180 0 111 (dk_at dksX7_see_2 12 rfl rfl)
theorem dX7_see_62 : decode cX7_see 62 = .ok (.aload_n 0, 1) := dk_42 (dk_at dksX7_see_2 15 rfl rfl)
theorem dX7_see_63 : decode cX7_see 63 = .ok (.getfield 105, 3) := dk_180 0 105 (dk_at dksX7_see_2 16 rfl rfl)
theorem dX7_see_66 : decode cX7_see 66 = .ok (.iconst 0, 1) := dk_3 (dk_at dksX7_see_2 19 rfl rfl)
theorem dX7_see_67 : decode cX7_see 67 = .ok (.iaload, 1) := dk_46 (dk_at dksX7_see_2 20 rfl rfl)
theorem dX7_see_68 : decode cX7_see 68 = .ok (.iload_n 2, 1) := dk_28 (dk_at dksX7_see_2 21 rfl rfl)
theorem dX7_see_69 : decode cX7_see 69 = .ok (.iastore, 1) := dk_79 (dk_at dksX7_see_2 22 rfl rfl)
theorem dX7_see_70 : decode cX7_see 70 = .ok (.aload_n 0, 1) := dk_42 (dk_at dksX7_see_2 23 rfl rfl)
theorem dX7_see_71 : decode cX7_see 71 = .ok (.getfield 114, 3) := dk_180 0 114 (dk_at dksX7_see_3 0 rfl rfl)
theorem dX7_see_74 : decode cX7_see 74 = .ok (.aload_n 0, 1) := dk_42 (dk_at dksX7_see_3 3 rfl rfl)
theorem dX7_see_75 : decode cX7_see 75 = .ok (.getfield 105, 3) := dk_180 0 105 (dk_at dksX7_see_3 4 rfl rfl)
theorem dX7_see_78 : decode cX7_see 78 = .ok (.iconst 0, 1) := dk_3 (dk_at dksX7_see_3 7 rfl rfl)
theorem dX7_see_79 : decode cX7_see 79 = .ok (.iaload, 1) := dk_46 (dk_at dksX7_see_3 8 rfl rfl)
theorem dX7_see_80 : decode cX7_see 80 = .ok (.iload_n 3, 1) := dk_29 (dk_at dksX7_see_3 9 rfl rfl)
theorem dX7_see_81 : decode cX7_see 81 = .ok (.iastore, 1) := dk_79 (dk_at dksX7_see_3 10 rfl rfl)
theorem dX7_see_82 : decode cX7_see 82 = .ok (.aload_n 0, 1) := dk_42 (dk_at dksX7_see_3 11 rfl rfl)
theorem dX7_see_83 : decode cX7_see 83 = .ok (.getfield 117, 3) := dk_180 0 117 (dk_at dksX7_see_3 12 rfl rfl)
theorem dX7_see_86 : decode cX7_see 86 = .ok (.aload_n 0, 1) := dk_42 (dk_at dksX7_see_3 15 rfl rfl)
theorem dX7_see_87 : decode cX7_see 87 = .ok (.getfield 105, 3) := dk_180 0 105 (dk_at dksX7_see_3 16 rfl rfl)
theorem dX7_see_90 : decode cX7_see 90 = .ok (.iconst 0, 1) := dk_3 (dk_at dksX7_see_3 19 rfl rfl)
theorem dX7_see_91 : decode cX7_see 91 = .ok (.iaload, 1) := dk_46 (dk_at dksX7_see_3 20 rfl rfl)
theorem dX7_see_92 : decode cX7_see 92 = .ok (.iload 4, 2) := dk_21 4 (dk_at dksX7_see_3 21 rfl rfl)
theorem dX7_see_94 : decode cX7_see 94 = .ok (.bastore, 1) := dk_84 (dk_at dksX7_see_3 23 rfl rfl)
theorem dX7_see_95 : decode cX7_see 95 = .ok (.aload_n 0, 1) := dk_42 (dk_at dksX7_see_4 0 rfl rfl)
theorem dX7_see_96 : decode cX7_see 96 = .ok (.getfield 105, 3) := dk_180 0 105 (dk_at dksX7_see_4 1 rfl rfl)
theorem dX7_see_99 : decode cX7_see 99 = .ok (.iconst 0, 1) := dk_3 (dk_at dksX7_see_4 4 rfl rfl)
theorem dX7_see_100 : decode cX7_see 100 = .ok (.dup2, 1) := dk_92 (dk_at dksX7_see_4 5 rfl rfl)
theorem dX7_see_101 : decode cX7_see 101 = .ok (.iaload, 1) := dk_46 (dk_at dksX7_see_4 6 rfl rfl)
theorem dX7_see_102 : decode cX7_see 102 = .ok (.iconst 1, 1) := dk_4 (dk_at dksX7_see_4 7 rfl rfl)
theorem dX7_see_103 : decode cX7_see 103 = .ok (.iadd, 1) := dk_96 (dk_at dksX7_see_4 8 rfl rfl)
theorem dX7_see_104 : decode cX7_see 104 = .ok (.iastore, 1) := dk_79 (dk_at dksX7_see_4 9 rfl rfl)
theorem dX7_see_105 : decode cX7_see 105 = .ok (.iconst 1, 1) := dk_4 (dk_at dksX7_see_4 10 rfl rfl)
theorem dX7_see_106 : decode cX7_see 106 = .ok (.ireturn, 1) := dk_172 (dk_at dksX7_see_4 11 rfl rfl)
abbrev cX7_who : ByteArray := prog_32_method_94_code
abbrev yX7_who : MethodName := { cls := "WornSkinModel", name := "who", desc := "()I" }
def dkwX7_who_4 : List UInt8 := [153, 0, 9, 4, 28, 120, 167, 0, 4, 3, 128, 60, 132, 2, 1, 167, 255, 154, 27, 172]
abbrev dktX7_who_4 : List UInt8 := dkwX7_who_4 ++ []
def dkwX7_who_3 : List UInt8 := [42, 180, 0, 117, 21, 4, 51, 160, 0, 7, 4, 167, 0, 4, 3, 62, 132, 4, 1, 167, 255, 189, 27, 29]
abbrev dktX7_who_3 : List UInt8 := dkwX7_who_3 ++ dktX7_who_4
def dkwX7_who_2 : List UInt8 := [42, 180, 0, 120, 4, 42, 180, 0, 108, 21, 4, 46, 96, 46, 42, 180, 0, 114, 21, 4, 46, 182, 1, 103]
abbrev dktX7_who_2 : List UInt8 := dkwX7_who_2 ++ dktX7_who_3
def dkwX7_who_1 : List UInt8 := [21, 4, 42, 180, 0, 105, 3, 46, 162, 0, 62, 29, 153, 0, 50, 42, 28, 42, 180, 0, 111, 21, 4, 46]
abbrev dktX7_who_1 : List UInt8 := dkwX7_who_1 ++ dktX7_who_2
def dkwX7_who_0 : List UInt8 := [42, 3, 181, 0, 144, 3, 60, 3, 61, 28, 42, 180, 0, 13, 4, 46, 162, 0, 98, 4, 62, 3, 54, 4]
abbrev dktX7_who_0 : List UInt8 := dkwX7_who_0 ++ dktX7_who_1
theorem dksX7_who_0 : cX7_who.data.toList.drop 0 = dktX7_who_0 := by decide +kernel
theorem dksX7_who_1 : cX7_who.data.toList.drop 24 = dktX7_who_1 := dk_seg dksX7_who_0 24 rfl rfl
theorem dksX7_who_2 : cX7_who.data.toList.drop 48 = dktX7_who_2 := dk_seg dksX7_who_1 24 rfl rfl
theorem dksX7_who_3 : cX7_who.data.toList.drop 72 = dktX7_who_3 := dk_seg dksX7_who_2 24 rfl rfl
theorem dksX7_who_4 : cX7_who.data.toList.drop 96 = dktX7_who_4 := dk_seg dksX7_who_3 24 rfl rfl
theorem dX7_who_0 : decode cX7_who 0 = .ok (.aload_n 0, 1) := dk_42 (dk_at dksX7_who_0 0 rfl rfl)
theorem dX7_who_1 : decode cX7_who 1 = .ok (.iconst 0, 1) := dk_3 (dk_at dksX7_who_0 1 rfl rfl)
theorem dX7_who_2 : decode cX7_who 2 = .ok (.putfield 144, 3) := dk_181 0 144 (dk_at dksX7_who_0 2 rfl rfl)
theorem dX7_who_5 : decode cX7_who 5 = .ok (.iconst 0, 1) := dk_3 (dk_at dksX7_who_0 5 rfl rfl)
theorem dX7_who_6 : decode cX7_who 6 = .ok (.istore_n 1, 1) := dk_60 (dk_at dksX7_who_0 6 rfl rfl)
theorem dX7_who_7 : decode cX7_who 7 = .ok (.iconst 0, 1) := dk_3 (dk_at dksX7_who_0 7 rfl rfl)
theorem dX7_who_8 : decode cX7_who 8 = .ok (.istore_n 2, 1) := dk_61 (dk_at dksX7_who_0 8 rfl rfl)
theorem dX7_who_9 : decode cX7_who 9 = .ok (.iload_n 2, 1) := dk_28 (dk_at dksX7_who_0 9 rfl rfl)
theorem dX7_who_10 : decode cX7_who 10 = .ok (.aload_n 0, 1) := dk_42 (dk_at dksX7_who_0 10 rfl rfl)
theorem dX7_who_11 : decode cX7_who 11 = .ok (.getfield 13, 3) := dk_180 0 13 (dk_at dksX7_who_0 11 rfl rfl)
theorem dX7_who_14 : decode cX7_who 14 = .ok (.iconst 1, 1) := dk_4 (dk_at dksX7_who_0 14 rfl rfl)
theorem dX7_who_15 : decode cX7_who 15 = .ok (.iaload, 1) := dk_46 (dk_at dksX7_who_0 15 rfl rfl)
theorem dX7_who_16 : decode cX7_who 16 = .ok (.if_icmp .ge 98, 3) := dk_162 0 98 (dk_at dksX7_who_0 16 rfl rfl)
theorem dX7_who_19 : decode cX7_who 19 = .ok (.iconst 1, 1) := dk_4 (dk_at dksX7_who_0 19 rfl rfl)
theorem dX7_who_20 : decode cX7_who 20 = .ok (.istore_n 3, 1) := dk_62 (dk_at dksX7_who_0 20 rfl rfl)
theorem dX7_who_21 : decode cX7_who 21 = .ok (.iconst 0, 1) := dk_3 (dk_at dksX7_who_0 21 rfl rfl)
theorem dX7_who_22 : decode cX7_who 22 = .ok (.istore 4, 2) := dk_54 4 (dk_at dksX7_who_0 22 rfl rfl)
theorem dX7_who_24 : decode cX7_who 24 = .ok (.iload 4, 2) := dk_21 4 (dk_at dksX7_who_1 0 rfl rfl)
theorem dX7_who_26 : decode cX7_who 26 = .ok (.aload_n 0, 1) := dk_42 (dk_at dksX7_who_1 2 rfl rfl)
theorem dX7_who_27 : decode cX7_who 27 = .ok (.getfield 105, 3) := dk_180 0 105 (dk_at dksX7_who_1 3 rfl rfl)
theorem dX7_who_30 : decode cX7_who 30 = .ok (.iconst 0, 1) := dk_3 (dk_at dksX7_who_1 6 rfl rfl)
theorem dX7_who_31 : decode cX7_who 31 = .ok (.iaload, 1) := dk_46 (dk_at dksX7_who_1 7 rfl rfl)
theorem dX7_who_32 : decode cX7_who 32 = .ok (.if_icmp .ge 62, 3) := dk_162 0 62 (dk_at dksX7_who_1 8 rfl rfl)
theorem dX7_who_35 : decode cX7_who 35 = .ok (.iload_n 3, 1) := dk_29 (dk_at dksX7_who_1 11 rfl rfl)
theorem dX7_who_36 : decode cX7_who 36 = .ok (.ifCond .eq 50, 3) := dk_153 0 50 (dk_at dksX7_who_1 12 rfl rfl)
theorem dX7_who_39 : decode cX7_who 39 = .ok (.aload_n 0, 1) := dk_42 (dk_at dksX7_who_1 15 rfl rfl)
theorem dX7_who_40 : decode cX7_who 40 = .ok (.iload_n 2, 1) := dk_28 (dk_at dksX7_who_1 16 rfl rfl)
theorem dX7_who_41 : decode cX7_who 41 = .ok (.aload_n 0, 1) := dk_42 (dk_at dksX7_who_1 17 rfl rfl)
theorem dX7_who_42 : decode cX7_who 42 = .ok (.getfield 111, 3) := dk_180 0 111 (dk_at dksX7_who_1 18 rfl rfl)
theorem dX7_who_45 : decode cX7_who 45 = .ok (.iload 4, 2) := dk_21 4 (dk_at dksX7_who_1 21 rfl rfl)
theorem dX7_who_47 : decode cX7_who 47 = .ok (.iaload, 1) := dk_46 (dk_at dksX7_who_1 23 rfl rfl)
theorem dX7_who_48 : decode cX7_who 48 = .ok (.aload_n 0, 1) := dk_42 (dk_at dksX7_who_2 0 rfl rfl)
theorem dX7_who_49 : decode cX7_who 49 = .ok (.getfield 120, 3) := dk_180 0 120 (dk_at dksX7_who_2 1 rfl rfl)
theorem dX7_who_52 : decode cX7_who 52 = .ok (.iconst 1, 1) := dk_4 (dk_at dksX7_who_2 4 rfl rfl)
theorem dX7_who_53 : decode cX7_who 53 = .ok (.aload_n 0, 1) := dk_42 (dk_at dksX7_who_2 5 rfl rfl)
theorem dX7_who_54 : decode cX7_who 54 = .ok (.getfield 108, 3) := dk_180 0 108 (dk_at dksX7_who_2 6 rfl rfl)
theorem dX7_who_57 : decode cX7_who 57 = .ok (.iload 4, 2) := dk_21 4 (dk_at dksX7_who_2 9 rfl rfl)
theorem dX7_who_59 : decode cX7_who 59 = .ok (.iaload, 1) := dk_46 (dk_at dksX7_who_2 11 rfl rfl)
theorem dX7_who_60 : decode cX7_who 60 = .ok (.iadd, 1) := dk_96 (dk_at dksX7_who_2 12 rfl rfl)
theorem dX7_who_61 : decode cX7_who 61 = .ok (.iaload, 1) := dk_46 (dk_at dksX7_who_2 13 rfl rfl)
theorem dX7_who_62 : decode cX7_who 62 = .ok (.aload_n 0, 1) := dk_42 (dk_at dksX7_who_2 14 rfl rfl)
theorem dX7_who_63 : decode cX7_who 63 = .ok (.getfield 114, 3) := dk_180 0 114 (dk_at dksX7_who_2 15 rfl rfl)
theorem dX7_who_66 : decode cX7_who 66 = .ok (.iload 4, 2) := dk_21 4 (dk_at dksX7_who_2 18 rfl rfl)
theorem dX7_who_68 : decode cX7_who 68 = .ok (.iaload, 1) := dk_46 (dk_at dksX7_who_2 20 rfl rfl)
theorem dX7_who_69 : decode cX7_who 69 = .ok (.invokevirtual 359, 3) := dk_182 1 103 (dk_at dksX7_who_2 21 rfl rfl)
theorem dX7_who_72 : decode cX7_who 72 = .ok (.aload_n 0, 1) := dk_42 (dk_at dksX7_who_3 0 rfl rfl)
theorem dX7_who_73 : decode cX7_who 73 = .ok (.getfield 117, 3) := dk_180 0 117 (dk_at dksX7_who_3 1 rfl rfl)
theorem dX7_who_76 : decode cX7_who 76 = .ok (.iload 4, 2) := dk_21 4 (dk_at dksX7_who_3 4 rfl rfl)
theorem dX7_who_78 : decode cX7_who 78 = .ok (.baload, 1) := dk_51 (dk_at dksX7_who_3 6 rfl rfl)
theorem dX7_who_79 : decode cX7_who 79 = .ok (.if_icmp .ne 7, 3) := dk_160 0 7 (dk_at dksX7_who_3 7 rfl rfl)
theorem dX7_who_82 : decode cX7_who 82 = .ok (.iconst 1, 1) := dk_4 (dk_at dksX7_who_3 10 rfl rfl)
theorem dX7_who_83 : decode cX7_who 83 = .ok (.goto 4, 3) := dk_167 0 4 (dk_at dksX7_who_3 11 rfl rfl)
theorem dX7_who_86 : decode cX7_who 86 = .ok (.iconst 0, 1) := dk_3 (dk_at dksX7_who_3 14 rfl rfl)
theorem dX7_who_87 : decode cX7_who 87 = .ok (.istore_n 3, 1) := dk_62 (dk_at dksX7_who_3 15 rfl rfl)
theorem dX7_who_88 : decode cX7_who 88 = .ok (.iinc 4 1, 3) := dk_132 4 1 (dk_at dksX7_who_3 16 rfl rfl)
theorem dX7_who_91 : decode cX7_who 91 = .ok (.goto (-67), 3) := dk_167 255 189 (dk_at dksX7_who_3 19 rfl rfl)
theorem dX7_who_94 : decode cX7_who 94 = .ok (.iload_n 1, 1) := dk_27 (dk_at dksX7_who_3 22 rfl rfl)
theorem dX7_who_95 : decode cX7_who 95 = .ok (.iload_n 3, 1) := dk_29 (dk_at dksX7_who_3 23 rfl rfl)
theorem dX7_who_96 : decode cX7_who 96 = .ok (.ifCond .eq 9, 3) := dk_153 0 9 (dk_at dksX7_who_4 0 rfl rfl)
theorem dX7_who_99 : decode cX7_who 99 = .ok (.iconst 1, 1) := dk_4 (dk_at dksX7_who_4 3 rfl rfl)
theorem dX7_who_100 : decode cX7_who 100 = .ok (.iload_n 2, 1) := dk_28 (dk_at dksX7_who_4 4 rfl rfl)
theorem dX7_who_101 : decode cX7_who 101 = .ok (.ishl, 1) := dk_120 (dk_at dksX7_who_4 5 rfl rfl)
theorem dX7_who_102 : decode cX7_who 102 = .ok (.goto 4, 3) := dk_167 0 4 (dk_at dksX7_who_4 6 rfl rfl)
theorem dX7_who_105 : decode cX7_who 105 = .ok (.iconst 0, 1) := dk_3 (dk_at dksX7_who_4 9 rfl rfl)
theorem dX7_who_106 : decode cX7_who 106 = .ok (.ior, 1) := dk_128 (dk_at dksX7_who_4 10 rfl rfl)
theorem dX7_who_107 : decode cX7_who 107 = .ok (.istore_n 1, 1) := dk_60 (dk_at dksX7_who_4 11 rfl rfl)
theorem dX7_who_108 : decode cX7_who 108 = .ok (.iinc 2 1, 3) := dk_132 2 1 (dk_at dksX7_who_4 12 rfl rfl)
theorem dX7_who_111 : decode cX7_who 111 = .ok (.goto (-102), 3) := dk_167 255 154 (dk_at dksX7_who_4 15 rfl rfl)
theorem dX7_who_114 : decode cX7_who 114 = .ok (.iload_n 1, 1) := dk_27 (dk_at dksX7_who_4 18 rfl rfl)
theorem dX7_who_115 : decode cX7_who 115 = .ok (.ireturn, 1) := dk_172 (dk_at dksX7_who_4 19 rfl rfl)
abbrev cX7_ask : ByteArray := prog_32_method_95_code
abbrev yX7_ask : MethodName := { cls := "WornSkinModel", name := "ask", desc := "(I)I" }
def dkwX7_ask_6 : List UInt8 := [167, 255, 146, 21, 4, 172]
abbrev dktX7_ask_6 : List UInt8 := dkwX7_ask_6 ++ []
def dkwX7_ask_5 : List UInt8 := [184, 1, 195, 54, 6, 21, 6, 29, 161, 0, 6, 167, 0, 10, 21, 6, 62, 21, 5, 54, 4, 132, 5, 1]
abbrev dktX7_ask_5 : List UInt8 := dkwX7_ask_5 ++ dktX7_ask_6
def dkwX7_ask_4 : List UInt8 := [4, 167, 0, 4, 3, 96, 54, 6, 132, 7, 1, 167, 255, 195, 21, 6, 28, 184, 1, 128, 21, 6, 100]
abbrev dktX7_ask_4 : List UInt8 := dkwX7_ask_4 ++ dktX7_ask_5
def dkwX7_ask_3 : List UInt8 := [21, 5, 16, 10, 108, 42, 180, 0, 120, 4, 27, 96, 46, 21, 5, 16, 10, 112, 182, 1, 103, 153, 0, 7]
abbrev dktX7_ask_3 : List UInt8 := dkwX7_ask_3 ++ dktX7_ask_4
def dkwX7_ask_2 : List UInt8 := [180, 0, 13, 4, 46, 162, 0, 56, 21, 6, 28, 21, 7, 122, 4, 126, 4, 160, 0, 34, 42, 21, 7]
abbrev dktX7_ask_2 : List UInt8 := dkwX7_ask_2 ++ dktX7_ask_3
def dkwX7_ask_1 : List UInt8 := [62, 2, 54, 4, 16, 10, 54, 5, 21, 5, 16, 100, 162, 0, 109, 3, 54, 6, 3, 54, 7, 21, 7, 42]
abbrev dktX7_ask_1 : List UInt8 := dkwX7_ask_1 ++ dktX7_ask_2
def dkwX7_ask_0 : List UInt8 := [42, 3, 181, 0, 144, 42, 27, 182, 1, 97, 154, 0, 5, 2, 172, 42, 182, 1, 192, 61, 28, 184, 1, 128]
abbrev dktX7_ask_0 : List UInt8 := dkwX7_ask_0 ++ dktX7_ask_1
theorem dksX7_ask_0 : cX7_ask.data.toList.drop 0 = dktX7_ask_0 := by decide +kernel
theorem dksX7_ask_1 : cX7_ask.data.toList.drop 24 = dktX7_ask_1 := dk_seg dksX7_ask_0 24 rfl rfl
theorem dksX7_ask_2 : cX7_ask.data.toList.drop 48 = dktX7_ask_2 := dk_seg dksX7_ask_1 24 rfl rfl
theorem dksX7_ask_3 : cX7_ask.data.toList.drop 71 = dktX7_ask_3 := dk_seg dksX7_ask_2 23 rfl rfl
theorem dksX7_ask_4 : cX7_ask.data.toList.drop 95 = dktX7_ask_4 := dk_seg dksX7_ask_3 24 rfl rfl
theorem dksX7_ask_5 : cX7_ask.data.toList.drop 118 = dktX7_ask_5 := dk_seg dksX7_ask_4 23 rfl rfl
theorem dksX7_ask_6 : cX7_ask.data.toList.drop 142 = dktX7_ask_6 := dk_seg dksX7_ask_5 24 rfl rfl
theorem dX7_ask_0 : decode cX7_ask 0 = .ok (.aload_n 0, 1) := dk_42 (dk_at dksX7_ask_0 0 rfl rfl)
theorem dX7_ask_1 : decode cX7_ask 1 = .ok (.iconst 0, 1) := dk_3 (dk_at dksX7_ask_0 1 rfl rfl)
theorem dX7_ask_2 : decode cX7_ask 2 = .ok (.putfield 144, 3) := dk_181 0 144 (dk_at dksX7_ask_0 2 rfl rfl)
theorem dX7_ask_5 : decode cX7_ask 5 = .ok (.aload_n 0, 1) := dk_42 (dk_at dksX7_ask_0 5 rfl rfl)
theorem dX7_ask_6 : decode cX7_ask 6 = .ok (.iload_n 1, 1) := dk_27 (dk_at dksX7_ask_0 6 rfl rfl)
theorem dX7_ask_7 : decode cX7_ask 7 = .ok (.invokevirtual 353, 3) := dk_182 1 97 (dk_at dksX7_ask_0 7 rfl rfl)
theorem dX7_ask_10 : decode cX7_ask 10 = .ok (.ifCond .ne 5, 3) := dk_154 0 5 (dk_at dksX7_ask_0 10 rfl rfl)
theorem dX7_ask_13 : decode cX7_ask 13 = .ok (.iconst (-1), 1) := dk_2 (dk_at dksX7_ask_0 13 rfl rfl)
theorem dX7_ask_14 : decode cX7_ask 14 = .ok (.ireturn, 1) := dk_172 (dk_at dksX7_ask_0 14 rfl rfl)
theorem dX7_ask_15 : decode cX7_ask 15 = .ok (.aload_n 0, 1) := dk_42 (dk_at dksX7_ask_0 15 rfl rfl)
theorem dX7_ask_16 : decode cX7_ask 16 = .ok (.invokevirtual 448, 3) := dk_182 1 192 (dk_at dksX7_ask_0 16 rfl rfl)
theorem dX7_ask_19 : decode cX7_ask 19 = .ok (.istore_n 2, 1) := dk_61 (dk_at dksX7_ask_0 19 rfl rfl)
theorem dX7_ask_20 : decode cX7_ask 20 = .ok (.iload_n 2, 1) := dk_28 (dk_at dksX7_ask_0 20 rfl rfl)
theorem dX7_ask_21 : decode cX7_ask 21 = .ok (.invokestatic 384, 3) := dk_184 1 128 (dk_at dksX7_ask_0 21 rfl rfl)
theorem dX7_ask_24 : decode cX7_ask 24 = .ok (.istore_n 3, 1) := dk_62 (dk_at dksX7_ask_1 0 rfl rfl)
theorem dX7_ask_25 : decode cX7_ask 25 = .ok (.iconst (-1), 1) := dk_2 (dk_at dksX7_ask_1 1 rfl rfl)
theorem dX7_ask_26 : decode cX7_ask 26 = .ok (.istore 4, 2) := dk_54 4 (dk_at dksX7_ask_1 2 rfl rfl)
theorem dX7_ask_28 : decode cX7_ask 28 = .ok (.bipush 10, 2) := dk_16 10 (dk_at dksX7_ask_1 4 rfl rfl)
theorem dX7_ask_30 : decode cX7_ask 30 = .ok (.istore 5, 2) := dk_54 5 (dk_at dksX7_ask_1 6 rfl rfl)
theorem dX7_ask_32 : decode cX7_ask 32 = .ok (.iload 5, 2) := dk_21 5 (dk_at dksX7_ask_1 8 rfl rfl)
theorem dX7_ask_34 : decode cX7_ask 34 = .ok (.bipush 100, 2) := dk_16 100 (dk_at dksX7_ask_1 10 rfl rfl)
theorem dX7_ask_36 : decode cX7_ask 36 = .ok (.if_icmp .ge 109, 3) := dk_162 0 109 (dk_at dksX7_ask_1 12 rfl rfl)
theorem dX7_ask_39 : decode cX7_ask 39 = .ok (.iconst 0, 1) := dk_3 (dk_at dksX7_ask_1 15 rfl rfl)
theorem dX7_ask_40 : decode cX7_ask 40 = .ok (.istore 6, 2) := dk_54 6 (dk_at dksX7_ask_1 16 rfl rfl)
theorem dX7_ask_42 : decode cX7_ask 42 = .ok (.iconst 0, 1) := dk_3 (dk_at dksX7_ask_1 18 rfl rfl)
theorem dX7_ask_43 : decode cX7_ask 43 = .ok (.istore 7, 2) := dk_54 7 (dk_at dksX7_ask_1 19 rfl rfl)
theorem dX7_ask_45 : decode cX7_ask 45 = .ok (.iload 7, 2) := dk_21 7 (dk_at dksX7_ask_1 21 rfl rfl)
theorem dX7_ask_47 : decode cX7_ask 47 = .ok (.aload_n 0, 1) := dk_42 (dk_at dksX7_ask_1 23 rfl rfl)
theorem dX7_ask_48 : decode cX7_ask 48 = .ok (.getfield 13, 3) := dk_180 0 13 (dk_at dksX7_ask_2 0 rfl rfl)
theorem dX7_ask_51 : decode cX7_ask 51 = .ok (.iconst 1, 1) := dk_4 (dk_at dksX7_ask_2 3 rfl rfl)
theorem dX7_ask_52 : decode cX7_ask 52 = .ok (.iaload, 1) := dk_46 (dk_at dksX7_ask_2 4 rfl rfl)
theorem dX7_ask_53 : decode cX7_ask 53 = .ok (.if_icmp .ge 56, 3) := dk_162 0 56 (dk_at dksX7_ask_2 5 rfl rfl)
theorem dX7_ask_56 : decode cX7_ask 56 = .ok (.iload 6, 2) := dk_21 6 (dk_at dksX7_ask_2 8 rfl rfl)
theorem dX7_ask_58 : decode cX7_ask 58 = .ok (.iload_n 2, 1) := dk_28 (dk_at dksX7_ask_2 10 rfl rfl)
theorem dX7_ask_59 : decode cX7_ask 59 = .ok (.iload 7, 2) := dk_21 7 (dk_at dksX7_ask_2 11 rfl rfl)
theorem dX7_ask_61 : decode cX7_ask 61 = .ok (.ishr, 1) := dk_122 (dk_at dksX7_ask_2 13 rfl rfl)
theorem dX7_ask_62 : decode cX7_ask 62 = .ok (.iconst 1, 1) := dk_4 (dk_at dksX7_ask_2 14 rfl rfl)
theorem dX7_ask_63 : decode cX7_ask 63 = .ok (.iand, 1) := dk_126 (dk_at dksX7_ask_2 15 rfl rfl)
theorem dX7_ask_64 : decode cX7_ask 64 = .ok (.iconst 1, 1) := dk_4 (dk_at dksX7_ask_2 16 rfl rfl)
theorem dX7_ask_65 : decode cX7_ask 65 = .ok (.if_icmp .ne 34, 3) := dk_160 0 34 (dk_at dksX7_ask_2 17 rfl rfl)
theorem dX7_ask_68 : decode cX7_ask 68 = .ok (.aload_n 0, 1) := dk_42 (dk_at dksX7_ask_2 20 rfl rfl)
theorem dX7_ask_69 : decode cX7_ask 69 = .ok (.iload 7, 2) := dk_21 7 (dk_at dksX7_ask_2 21 rfl rfl)
theorem dX7_ask_71 : decode cX7_ask 71 = .ok (.iload 5, 2) := dk_21 5 (dk_at dksX7_ask_3 0 rfl rfl)
theorem dX7_ask_73 : decode cX7_ask 73 = .ok (.bipush 10, 2) := dk_16 10 (dk_at dksX7_ask_3 2 rfl rfl)
theorem dX7_ask_75 : decode cX7_ask 75 = .ok (.idiv, 1) := dk_108 (dk_at dksX7_ask_3 4 rfl rfl)
theorem dX7_ask_76 : decode cX7_ask 76 = .ok (.aload_n 0, 1) := dk_42 (dk_at dksX7_ask_3 5 rfl rfl)
theorem dX7_ask_77 : decode cX7_ask 77 = .ok (.getfield 120, 3) := dk_180 0 120 (dk_at dksX7_ask_3 6 rfl rfl)
theorem dX7_ask_80 : decode cX7_ask 80 = .ok (.iconst 1, 1) := dk_4 (dk_at dksX7_ask_3 9 rfl rfl)
theorem dX7_ask_81 : decode cX7_ask 81 = .ok (.iload_n 1, 1) := dk_27 (dk_at dksX7_ask_3 10 rfl rfl)
theorem dX7_ask_82 : decode cX7_ask 82 = .ok (.iadd, 1) := dk_96 (dk_at dksX7_ask_3 11 rfl rfl)
theorem dX7_ask_83 : decode cX7_ask 83 = .ok (.iaload, 1) := dk_46 (dk_at dksX7_ask_3 12 rfl rfl)
theorem dX7_ask_84 : decode cX7_ask 84 = .ok (.iload 5, 2) := dk_21 5 (dk_at dksX7_ask_3 13 rfl rfl)
theorem dX7_ask_86 : decode cX7_ask 86 = .ok (.bipush 10, 2) := dk_16 10 (dk_at dksX7_ask_3 15 rfl rfl)
theorem dX7_ask_88 : decode cX7_ask 88 = .ok (.irem, 1) := dk_112 (dk_at dksX7_ask_3 17 rfl rfl)
theorem dX7_ask_89 : decode cX7_ask 89 = .ok (.invokevirtual 359, 3) := dk_182 1 103 (dk_at dksX7_ask_3 18 rfl rfl)
theorem dX7_ask_92 : decode cX7_ask 92 = .ok (.ifCond .eq 7, 3) := dk_153 0 7 (dk_at dksX7_ask_3 21 rfl rfl)
theorem dX7_ask_95 : decode cX7_ask 95 = .ok (.iconst 1, 1) := dk_4 (dk_at dksX7_ask_4 0 rfl rfl)
theorem dX7_ask_96 : decode cX7_ask 96 = .ok (.goto 4, 3) := dk_167 0 4 (dk_at dksX7_ask_4 1 rfl rfl)
theorem dX7_ask_99 : decode cX7_ask 99 = .ok (.iconst 0, 1) := dk_3 (dk_at dksX7_ask_4 4 rfl rfl)
theorem dX7_ask_100 : decode cX7_ask 100 = .ok (.iadd, 1) := dk_96 (dk_at dksX7_ask_4 5 rfl rfl)
theorem dX7_ask_101 : decode cX7_ask 101 = .ok (.istore 6, 2) := dk_54 6 (dk_at dksX7_ask_4 6 rfl rfl)
theorem dX7_ask_103 : decode cX7_ask 103 = .ok (.iinc 7 1, 3) := dk_132 7 1 (dk_at dksX7_ask_4 8 rfl rfl)
theorem dX7_ask_106 : decode cX7_ask 106 = .ok (.goto (-61), 3) := dk_167 255 195 (dk_at dksX7_ask_4 11 rfl rfl)
theorem dX7_ask_109 : decode cX7_ask 109 = .ok (.iload 6, 2) := dk_21 6 (dk_at dksX7_ask_4 14 rfl rfl)
theorem dX7_ask_111 : decode cX7_ask 111 = .ok (.iload_n 2, 1) := dk_28 (dk_at dksX7_ask_4 16 rfl rfl)
theorem dX7_ask_112 : decode cX7_ask 112 = .ok (.invokestatic 384, 3) := dk_184 1 128 (dk_at dksX7_ask_4 17 rfl rfl)
theorem dX7_ask_115 : decode cX7_ask 115 = .ok (.iload 6, 2) := dk_21 6 (dk_at dksX7_ask_4 20 rfl rfl)
theorem dX7_ask_117 : decode cX7_ask 117 = .ok (.isub, 1) := dk_100 (dk_at dksX7_ask_4 22 rfl rfl)
theorem dX7_ask_118 : decode cX7_ask 118 = .ok (.invokestatic 451, 3) := dk_184 1 195 (dk_at dksX7_ask_5 0 rfl rfl)
theorem dX7_ask_121 : decode cX7_ask 121 = .ok (.istore 6, 2) := dk_54 6 (dk_at dksX7_ask_5 3 rfl rfl)
theorem dX7_ask_123 : decode cX7_ask 123 = .ok (.iload 6, 2) := dk_21 6 (dk_at dksX7_ask_5 5 rfl rfl)
theorem dX7_ask_125 : decode cX7_ask 125 = .ok (.iload_n 3, 1) := dk_29 (dk_at dksX7_ask_5 7 rfl rfl)
theorem dX7_ask_126 : decode cX7_ask 126 = .ok (.if_icmp .lt 6, 3) := dk_161 0 6 (dk_at dksX7_ask_5 8 rfl rfl)
theorem dX7_ask_129 : decode cX7_ask 129 = .ok (.goto 10, 3) := dk_167 0 10 (dk_at dksX7_ask_5 11 rfl rfl)
theorem dX7_ask_132 : decode cX7_ask 132 = .ok (.iload 6, 2) := dk_21 6 (dk_at dksX7_ask_5 14 rfl rfl)
theorem dX7_ask_134 : decode cX7_ask 134 = .ok (.istore_n 3, 1) := dk_62 (dk_at dksX7_ask_5 16 rfl rfl)
theorem dX7_ask_135 : decode cX7_ask 135 = .ok (.iload 5, 2) := dk_21 5 (dk_at dksX7_ask_5 17 rfl rfl)
theorem dX7_ask_137 : decode cX7_ask 137 = .ok (.istore 4, 2) := dk_54 4 (dk_at dksX7_ask_5 19 rfl rfl)
theorem dX7_ask_139 : decode cX7_ask 139 = .ok (.iinc 5 1, 3) := dk_132 5 1 (dk_at dksX7_ask_5 21 rfl rfl)
theorem dX7_ask_142 : decode cX7_ask 142 = .ok (.goto (-110), 3) := dk_167 255 146 (dk_at dksX7_ask_6 0 rfl rfl)
theorem dX7_ask_145 : decode cX7_ask 145 = .ok (.iload 4, 2) := dk_21 4 (dk_at dksX7_ask_6 3 rfl rfl)
theorem dX7_ask_147 : decode cX7_ask 147 = .ok (.ireturn, 1) := dk_172 (dk_at dksX7_ask_6 5 rfl rfl)
abbrev cX7_chance : ByteArray := prog_32_method_96_code
abbrev yX7_chance : MethodName := { cls := "WornSkinModel", name := "chance", desc := "(III)I" }
def dkwX7_chance_5 : List UInt8 := [22, 8, 22, 6, 101, 20, 1, 200, 105, 22, 8, 109, 136, 172]
abbrev dktX7_chance_5 : List UInt8 := dkwX7_chance_5 ++ []
def dkwX7_chance_4 : List UInt8 := [162, 0, 24, 22, 6, 22, 4, 105, 55, 6, 22, 8, 20, 1, 198, 105, 55, 8, 132, 10, 1, 167, 255, 232]
abbrev dktX7_chance_4 : List UInt8 := dkwX7_chance_4 ++ dktX7_chance_5
def dkwX7_chance_3 : List UInt8 := [167, 0, 7, 16, 10, 29, 100, 96, 133, 55, 4, 10, 55, 6, 10, 55, 8, 3, 54, 10, 21, 10, 28]
abbrev dktX7_chance_3 : List UInt8 := dkwX7_chance_3 ++ dktX7_chance_4
def dkwX7_chance_2 : List UInt8 := [160, 0, 7, 3, 167, 0, 4, 29, 42, 3, 182, 1, 114, 27, 122, 4, 126, 4, 160, 0, 7, 3]
abbrev dktX7_chance_2 : List UInt8 := dkwX7_chance_2 ++ dktX7_chance_3
def dkwX7_chance_1 : List UInt8 := [3, 16, 10, 184, 1, 9, 154, 0, 5, 2, 172, 42, 16, 9, 182, 1, 114, 27, 122, 4, 126, 4]
abbrev dktX7_chance_1 : List UInt8 := dkwX7_chance_1 ++ dktX7_chance_2
def dkwX7_chance_0 : List UInt8 := [42, 3, 181, 0, 144, 42, 27, 182, 1, 131, 153, 0, 23, 28, 4, 16, 6, 184, 1, 9, 153, 0, 13, 29]
abbrev dktX7_chance_0 : List UInt8 := dkwX7_chance_0 ++ dktX7_chance_1
theorem dksX7_chance_0 : cX7_chance.data.toList.drop 0 = dktX7_chance_0 := by decide +kernel
theorem dksX7_chance_1 : cX7_chance.data.toList.drop 24 = dktX7_chance_1 := dk_seg dksX7_chance_0 24 rfl rfl
theorem dksX7_chance_2 : cX7_chance.data.toList.drop 46 = dktX7_chance_2 := dk_seg dksX7_chance_1 22 rfl rfl
theorem dksX7_chance_3 : cX7_chance.data.toList.drop 68 = dktX7_chance_3 := dk_seg dksX7_chance_2 22 rfl rfl
theorem dksX7_chance_4 : cX7_chance.data.toList.drop 91 = dktX7_chance_4 := dk_seg dksX7_chance_3 23 rfl rfl
theorem dksX7_chance_5 : cX7_chance.data.toList.drop 115 = dktX7_chance_5 := dk_seg dksX7_chance_4 24 rfl rfl
theorem dX7_chance_0 : decode cX7_chance 0 = .ok (.aload_n 0, 1) := dk_42 (dk_at dksX7_chance_0 0 rfl rfl)
theorem dX7_chance_1 : decode cX7_chance 1 = .ok (.iconst 0, 1) := dk_3 (dk_at dksX7_chance_0 1 rfl rfl)
theorem dX7_chance_2 : decode cX7_chance 2 = .ok (.putfield 144, 3) := dk_181 0 144 (dk_at dksX7_chance_0 2 rfl rfl)
theorem dX7_chance_5 : decode cX7_chance 5 = .ok (.aload_n 0, 1) := dk_42 (dk_at dksX7_chance_0 5 rfl rfl)
theorem dX7_chance_6 : decode cX7_chance 6 = .ok (.iload_n 1, 1) := dk_27 (dk_at dksX7_chance_0 6 rfl rfl)
theorem dX7_chance_7 : decode cX7_chance 7 = .ok (.invokevirtual 387, 3) := dk_182 1 131 (dk_at dksX7_chance_0 7 rfl rfl)
theorem dX7_chance_10 : decode cX7_chance 10 = .ok (.ifCond .eq 23, 3) := dk_153 0 23 (dk_at dksX7_chance_0 10 rfl rfl)
theorem dX7_chance_13 : decode cX7_chance 13 = .ok (.iload_n 2, 1) := dk_28 (dk_at dksX7_chance_0 13 rfl rfl)
theorem dX7_chance_14 : decode cX7_chance 14 = .ok (.iconst 1, 1) := dk_4 (dk_at dksX7_chance_0 14 rfl rfl)
theorem dX7_chance_15 : decode cX7_chance 15 = .ok (.bipush 6, 2) := dk_16 6 (dk_at dksX7_chance_0 15 rfl rfl)
theorem dX7_chance_17 : decode cX7_chance 17 = .ok (.invokestatic 265, 3) := dk_184 1 9 (dk_at dksX7_chance_0 17 rfl rfl)
theorem dX7_chance_20 : decode cX7_chance 20 = .ok (.ifCond .eq 13, 3) := dk_153 0 13 (dk_at dksX7_chance_0 20 rfl rfl)
theorem dX7_chance_23 : decode cX7_chance 23 = .ok (.iload_n 3, 1) := dk_29 (dk_at dksX7_chance_0 23 rfl rfl)
theorem dX7_chance_24 : decode cX7_chance 24 = .ok (.iconst 0, 1) := dk_3 (dk_at dksX7_chance_1 0 rfl rfl)
theorem dX7_chance_25 : decode cX7_chance 25 = .ok (.bipush 10, 2) := dk_16 10 (dk_at dksX7_chance_1 1 rfl rfl)
theorem dX7_chance_27 : decode cX7_chance 27 = .ok (.invokestatic 265, 3) := dk_184 1 9 (dk_at dksX7_chance_1 3 rfl rfl)
theorem dX7_chance_30 : decode cX7_chance 30 = .ok (.ifCond .ne 5, 3) := dk_154 0 5 (dk_at dksX7_chance_1 6 rfl rfl)
theorem dX7_chance_33 : decode cX7_chance 33 = .ok (.iconst (-1), 1) := dk_2 (dk_at dksX7_chance_1 9 rfl rfl)
theorem dX7_chance_34 : decode cX7_chance 34 = .ok (.ireturn, 1) := dk_172 (dk_at dksX7_chance_1 10 rfl rfl)
theorem dX7_chance_35 : decode cX7_chance 35 = .ok (.aload_n 0, 1) := dk_42 (dk_at dksX7_chance_1 11 rfl rfl)
theorem dX7_chance_36 : decode cX7_chance 36 = .ok (.bipush 9, 2) := dk_16 9 (dk_at dksX7_chance_1 12 rfl rfl)
theorem dX7_chance_38 : decode cX7_chance 38 = .ok (.invokevirtual 370, 3) := dk_182 1 114 (dk_at dksX7_chance_1 14 rfl rfl)
theorem dX7_chance_41 : decode cX7_chance 41 = .ok (.iload_n 1, 1) := dk_27 (dk_at dksX7_chance_1 17 rfl rfl)
theorem dX7_chance_42 : decode cX7_chance 42 = .ok (.ishr, 1) := dk_122 (dk_at dksX7_chance_1 18 rfl rfl)
theorem dX7_chance_43 : decode cX7_chance 43 = .ok (.iconst 1, 1) := dk_4 (dk_at dksX7_chance_1 19 rfl rfl)
theorem dX7_chance_44 : decode cX7_chance 44 = .ok (.iand, 1) := dk_126 (dk_at dksX7_chance_1 20 rfl rfl)
theorem dX7_chance_45 : decode cX7_chance 45 = .ok (.iconst 1, 1) := dk_4 (dk_at dksX7_chance_1 21 rfl rfl)
theorem dX7_chance_46 : decode cX7_chance 46 = .ok (.if_icmp .ne 7, 3) := dk_160 0 7 (dk_at dksX7_chance_2 0 rfl rfl)
theorem dX7_chance_49 : decode cX7_chance 49 = .ok (.iconst 0, 1) := dk_3 (dk_at dksX7_chance_2 3 rfl rfl)
theorem dX7_chance_50 : decode cX7_chance 50 = .ok (.goto 4, 3) := dk_167 0 4 (dk_at dksX7_chance_2 4 rfl rfl)
theorem dX7_chance_53 : decode cX7_chance 53 = .ok (.iload_n 3, 1) := dk_29 (dk_at dksX7_chance_2 7 rfl rfl)
theorem dX7_chance_54 : decode cX7_chance 54 = .ok (.aload_n 0, 1) := dk_42 (dk_at dksX7_chance_2 8 rfl rfl)
theorem dX7_chance_55 : decode cX7_chance 55 = .ok (.iconst 0, 1) := dk_3 (dk_at dksX7_chance_2 9 rfl rfl)
theorem dX7_chance_56 : decode cX7_chance 56 = .ok (.invokevirtual 370, 3) := dk_182 1 114 (dk_at dksX7_chance_2 10 rfl rfl)
theorem dX7_chance_59 : decode cX7_chance 59 = .ok (.iload_n 1, 1) := dk_27 (dk_at dksX7_chance_2 13 rfl rfl)
theorem dX7_chance_60 : decode cX7_chance 60 = .ok (.ishr, 1) := dk_122 (dk_at dksX7_chance_2 14 rfl rfl)
theorem dX7_chance_61 : decode cX7_chance 61 = .ok (.iconst 1, 1) := dk_4 (dk_at dksX7_chance_2 15 rfl rfl)
theorem dX7_chance_62 : decode cX7_chance 62 = .ok (.iand, 1) := dk_126 (dk_at dksX7_chance_2 16 rfl rfl)
theorem dX7_chance_63 : decode cX7_chance 63 = .ok (.iconst 1, 1) := dk_4 (dk_at dksX7_chance_2 17 rfl rfl)
theorem dX7_chance_64 : decode cX7_chance 64 = .ok (.if_icmp .ne 7, 3) := dk_160 0 7 (dk_at dksX7_chance_2 18 rfl rfl)
theorem dX7_chance_67 : decode cX7_chance 67 = .ok (.iconst 0, 1) := dk_3 (dk_at dksX7_chance_2 21 rfl rfl)
theorem dX7_chance_68 : decode cX7_chance 68 = .ok (.goto 7, 3) := dk_167 0 7 (dk_at dksX7_chance_3 0 rfl rfl)
theorem dX7_chance_71 : decode cX7_chance 71 = .ok (.bipush 10, 2) := dk_16 10 (dk_at dksX7_chance_3 3 rfl rfl)
theorem dX7_chance_73 : decode cX7_chance 73 = .ok (.iload_n 3, 1) := dk_29 (dk_at dksX7_chance_3 5 rfl rfl)
theorem dX7_chance_74 : decode cX7_chance 74 = .ok (.isub, 1) := dk_100 (dk_at dksX7_chance_3 6 rfl rfl)
theorem dX7_chance_75 : decode cX7_chance 75 = .ok (.iadd, 1) := dk_96 (dk_at dksX7_chance_3 7 rfl rfl)
theorem dX7_chance_76 : decode cX7_chance 76 = .ok (.i2l, 1) := dk_133 (dk_at dksX7_chance_3 8 rfl rfl)
theorem dX7_chance_77 : decode cX7_chance 77 = .ok (.lstore 4, 2) := dk_55 4 (dk_at dksX7_chance_3 9 rfl rfl)
theorem dX7_chance_79 : decode cX7_chance 79 = .ok (.lconst 1, 1) := dk_10 (dk_at dksX7_chance_3 11 rfl rfl)
theorem dX7_chance_80 : decode cX7_chance 80 = .ok (.lstore 6, 2) := dk_55 6 (dk_at dksX7_chance_3 12 rfl rfl)
theorem dX7_chance_82 : decode cX7_chance 82 = .ok (.lconst 1, 1) := dk_10 (dk_at dksX7_chance_3 14 rfl rfl)
theorem dX7_chance_83 : decode cX7_chance 83 = .ok (.lstore 8, 2) := dk_55 8 (dk_at dksX7_chance_3 15 rfl rfl)
theorem dX7_chance_85 : decode cX7_chance 85 = .ok (.iconst 0, 1) := dk_3 (dk_at dksX7_chance_3 17 rfl rfl)
theorem dX7_chance_86 : decode cX7_chance 86 = .ok (.istore 10, 2) := dk_54 10 (dk_at dksX7_chance_3 18 rfl rfl)
theorem dX7_chance_88 : decode cX7_chance 88 = .ok (.iload 10, 2) := dk_21 10 (dk_at dksX7_chance_3 20 rfl rfl)
theorem dX7_chance_90 : decode cX7_chance 90 = .ok (.iload_n 2, 1) := dk_28 (dk_at dksX7_chance_3 22 rfl rfl)
theorem dX7_chance_91 : decode cX7_chance 91 = .ok (.if_icmp .ge 24, 3) := dk_162 0 24 (dk_at dksX7_chance_4 0 rfl rfl)
theorem dX7_chance_94 : decode cX7_chance 94 = .ok (.lload 6, 2) := dk_22 6 (dk_at dksX7_chance_4 3 rfl rfl)
theorem dX7_chance_96 : decode cX7_chance 96 = .ok (.lload 4, 2) := dk_22 4 (dk_at dksX7_chance_4 5 rfl rfl)
theorem dX7_chance_98 : decode cX7_chance 98 = .ok (.lmul, 1) := dk_105 (dk_at dksX7_chance_4 7 rfl rfl)
theorem dX7_chance_99 : decode cX7_chance 99 = .ok (.lstore 6, 2) := dk_55 6 (dk_at dksX7_chance_4 8 rfl rfl)
theorem dX7_chance_101 : decode cX7_chance 101 = .ok (.lload 8, 2) := dk_22 8 (dk_at dksX7_chance_4 10 rfl rfl)
theorem dX7_chance_103 : decode cX7_chance 103 = .ok (.ldc2_w 454, 3) := dk_20 1 198 (dk_at dksX7_chance_4 12 rfl rfl)
theorem dX7_chance_106 : decode cX7_chance 106 = .ok (.lmul, 1) := dk_105 (dk_at dksX7_chance_4 15 rfl rfl)
theorem dX7_chance_107 : decode cX7_chance 107 = .ok (.lstore 8, 2) := dk_55 8 (dk_at dksX7_chance_4 16 rfl rfl)
theorem dX7_chance_109 : decode cX7_chance 109 = .ok (.iinc 10 1, 3) := dk_132 10 1 (dk_at dksX7_chance_4 18 rfl rfl)
theorem dX7_chance_112 : decode cX7_chance 112 = .ok (.goto (-24), 3) := dk_167 255 232 (dk_at dksX7_chance_4 21 rfl rfl)
theorem dX7_chance_115 : decode cX7_chance 115 = .ok (.lload 8, 2) := dk_22 8 (dk_at dksX7_chance_5 0 rfl rfl)
theorem dX7_chance_117 : decode cX7_chance 117 = .ok (.lload 6, 2) := dk_22 6 (dk_at dksX7_chance_5 2 rfl rfl)
theorem dX7_chance_119 : decode cX7_chance 119 = .ok (.lsub, 1) := dk_101 (dk_at dksX7_chance_5 4 rfl rfl)
theorem dX7_chance_120 : decode cX7_chance 120 = .ok (.ldc2_w 456, 3) := dk_20 1 200 (dk_at dksX7_chance_5 5 rfl rfl)
theorem dX7_chance_123 : decode cX7_chance 123 = .ok (.lmul, 1) := dk_105 (dk_at dksX7_chance_5 8 rfl rfl)
theorem dX7_chance_124 : decode cX7_chance 124 = .ok (.lload 8, 2) := dk_22 8 (dk_at dksX7_chance_5 9 rfl rfl)
theorem dX7_chance_126 : decode cX7_chance 126 = .ok (.ldiv, 1) := dk_109 (dk_at dksX7_chance_5 11 rfl rfl)
theorem dX7_chance_127 : decode cX7_chance 127 = .ok (.l2i, 1) := dk_136 (dk_at dksX7_chance_5 12 rfl rfl)
theorem dX7_chance_128 : decode cX7_chance 128 = .ok (.ireturn, 1) := dk_172 (dk_at dksX7_chance_5 13 rfl rfl)
abbrev cX7_getsBy : ByteArray := prog_32_method_97_code
abbrev yX7_getsBy : MethodName := { cls := "WornSkinModel", name := "getsBy", desc := "(IIIII)I" }
def dkwX7_getsBy_1 : List UInt8 := [160, 0, 7, 28, 167, 0, 4, 3, 172]
abbrev dktX7_getsBy_1 : List UInt8 := dkwX7_getsBy_1 ++ []
def dkwX7_getsBy_0 : List UInt8 := [29, 4, 160, 0, 18, 21, 4, 4, 160, 0, 8, 26, 116, 167, 0, 18, 27, 167, 0, 14, 21, 4, 4]
abbrev dktX7_getsBy_0 : List UInt8 := dkwX7_getsBy_0 ++ dktX7_getsBy_1
theorem dksX7_getsBy_0 : cX7_getsBy.data.toList.drop 0 = dktX7_getsBy_0 := by decide +kernel
theorem dksX7_getsBy_1 : cX7_getsBy.data.toList.drop 23 = dktX7_getsBy_1 := dk_seg dksX7_getsBy_0 23 rfl rfl
theorem dX7_getsBy_0 : decode cX7_getsBy 0 = .ok (.iload_n 3, 1) := dk_29 (dk_at dksX7_getsBy_0 0 rfl rfl)
theorem dX7_getsBy_1 : decode cX7_getsBy 1 = .ok (.iconst 1, 1) := dk_4 (dk_at dksX7_getsBy_0 1 rfl rfl)
theorem dX7_getsBy_2 : decode cX7_getsBy 2 = .ok (.if_icmp .ne 18, 3) := dk_160 0 18 (dk_at dksX7_getsBy_0 2 rfl rfl)
theorem dX7_getsBy_5 : decode cX7_getsBy 5 = .ok (.iload 4, 2) := dk_21 4 (dk_at dksX7_getsBy_0 5 rfl rfl)
theorem dX7_getsBy_7 : decode cX7_getsBy 7 = .ok (.iconst 1, 1) := dk_4 (dk_at dksX7_getsBy_0 7 rfl rfl)
theorem dX7_getsBy_8 : decode cX7_getsBy 8 = .ok (.if_icmp .ne 8, 3) := dk_160 0 8 (dk_at dksX7_getsBy_0 8 rfl rfl)
theorem dX7_getsBy_11 : decode cX7_getsBy 11 = .ok (.iload_n 0, 1) := dk_26 (dk_at dksX7_getsBy_0 11 rfl rfl)
theorem dX7_getsBy_12 : decode cX7_getsBy 12 = .ok (.ineg, 1) := dk_116 (dk_at dksX7_getsBy_0 12 rfl rfl)
theorem dX7_getsBy_13 : decode cX7_getsBy 13 = .ok (.goto 18, 3) := dk_167 0 18 (dk_at dksX7_getsBy_0 13 rfl rfl)
theorem dX7_getsBy_16 : decode cX7_getsBy 16 = .ok (.iload_n 1, 1) := dk_27 (dk_at dksX7_getsBy_0 16 rfl rfl)
theorem dX7_getsBy_17 : decode cX7_getsBy 17 = .ok (.goto 14, 3) := dk_167 0 14 (dk_at dksX7_getsBy_0 17 rfl rfl)
theorem dX7_getsBy_20 : decode cX7_getsBy 20 = .ok (.iload 4, 2) := dk_21 4 (dk_at dksX7_getsBy_0 20 rfl rfl)
theorem dX7_getsBy_22 : decode cX7_getsBy 22 = .ok (.iconst 1, 1) := dk_4 (dk_at dksX7_getsBy_0 22 rfl rfl)
theorem dX7_getsBy_23 : decode cX7_getsBy 23 = .ok (.if_icmp .ne 7, 3) := dk_160 0 7 (dk_at dksX7_getsBy_1 0 rfl rfl)
theorem dX7_getsBy_26 : decode cX7_getsBy 26 = .ok (.iload_n 2, 1) := dk_28 (dk_at dksX7_getsBy_1 3 rfl rfl)
theorem dX7_getsBy_27 : decode cX7_getsBy 27 = .ok (.goto 4, 3) := dk_167 0 4 (dk_at dksX7_getsBy_1 4 rfl rfl)
theorem dX7_getsBy_30 : decode cX7_getsBy 30 = .ok (.iconst 0, 1) := dk_3 (dk_at dksX7_getsBy_1 7 rfl rfl)
theorem dX7_getsBy_31 : decode cX7_getsBy 31 = .ok (.ireturn, 1) := dk_172 (dk_at dksX7_getsBy_1 8 rfl rfl)
abbrev cX7_rests : ByteArray := prog_32_method_98_code
abbrev yX7_rests : MethodName := { cls := "WornSkinModel", name := "rests", desc := "(IIII)I" }
def dkwX7_rests_7 : List UInt8 := [21, 4, 2, 160, 0, 8, 21, 5, 167, 0, 4, 3, 172]
abbrev dktX7_rests_7 : List UInt8 := dkwX7_rests_7 ++ []
def dkwX7_rests_6 : List UInt8 := [132, 5, 1, 132, 6, 1, 167, 255, 169, 42, 21, 4, 2, 160, 0, 7, 3, 167, 0, 4, 4, 181, 0, 144]
abbrev dktX7_rests_6 : List UInt8 := dkwX7_rests_6 ++ dktX7_rests_7
def dkwX7_rests_5 : List UInt8 := [29, 21, 8, 21, 7, 184, 1, 202, 164, 0, 6, 167, 0, 16, 21, 5, 21, 4, 160, 0, 6, 21, 6, 172]
abbrev dktX7_rests_5 : List UInt8 := dkwX7_rests_5 ++ dktX7_rests_6
def dkwX7_rests_4 : List UInt8 := [21, 7, 21, 8, 184, 1, 202, 163, 0, 44, 27, 28, 29, 4, 21, 8, 100, 21, 7, 184, 1, 202, 27, 28]
abbrev dktX7_rests_4 : List UInt8 := dkwX7_rests_4 ++ dktX7_rests_5
def dkwX7_rests_3 : List UInt8 := [108, 54, 7, 21, 6, 5, 112, 54, 8, 27, 28, 29, 4, 21, 7, 100, 21, 8, 184, 1, 202, 27, 28, 29]
abbrev dktX7_rests_3 : List UInt8 := dkwX7_rests_3 ++ dktX7_rests_4
def dkwX7_rests_2 : List UInt8 := [180, 0, 144, 4, 160, 0, 5, 3, 172, 3, 54, 5, 3, 54, 6, 21, 6, 7, 162, 0, 87, 21, 6, 5]
abbrev dktX7_rests_2 : List UInt8 := dkwX7_rests_2 ++ dktX7_rests_3
def dkwX7_rests_1 : List UInt8 := [16, 9, 184, 1, 9, 153, 0, 13, 21, 4, 2, 161, 0, 7, 3, 167, 0, 4, 4, 181, 0, 144, 42]
abbrev dktX7_rests_1 : List UInt8 := dkwX7_rests_1 ++ dktX7_rests_2
def dkwX7_rests_0 : List UInt8 := [42, 27, 3, 16, 9, 184, 1, 9, 153, 0, 33, 28, 3, 16, 9, 184, 1, 9, 153, 0, 23, 29, 3]
abbrev dktX7_rests_0 : List UInt8 := dkwX7_rests_0 ++ dktX7_rests_1
theorem dksX7_rests_0 : cX7_rests.data.toList.drop 0 = dktX7_rests_0 := by decide +kernel
theorem dksX7_rests_1 : cX7_rests.data.toList.drop 23 = dktX7_rests_1 := dk_seg dksX7_rests_0 23 rfl rfl
theorem dksX7_rests_2 : cX7_rests.data.toList.drop 46 = dktX7_rests_2 := dk_seg dksX7_rests_1 23 rfl rfl
theorem dksX7_rests_3 : cX7_rests.data.toList.drop 70 = dktX7_rests_3 := dk_seg dksX7_rests_2 24 rfl rfl
theorem dksX7_rests_4 : cX7_rests.data.toList.drop 94 = dktX7_rests_4 := dk_seg dksX7_rests_3 24 rfl rfl
theorem dksX7_rests_5 : cX7_rests.data.toList.drop 118 = dktX7_rests_5 := dk_seg dksX7_rests_4 24 rfl rfl
theorem dksX7_rests_6 : cX7_rests.data.toList.drop 142 = dktX7_rests_6 := dk_seg dksX7_rests_5 24 rfl rfl
theorem dksX7_rests_7 : cX7_rests.data.toList.drop 166 = dktX7_rests_7 := dk_seg dksX7_rests_6 24 rfl rfl
theorem dX7_rests_0 : decode cX7_rests 0 = .ok (.aload_n 0, 1) := dk_42 (dk_at dksX7_rests_0 0 rfl rfl)
theorem dX7_rests_1 : decode cX7_rests 1 = .ok (.iload_n 1, 1) := dk_27 (dk_at dksX7_rests_0 1 rfl rfl)
theorem dX7_rests_2 : decode cX7_rests 2 = .ok (.iconst 0, 1) := dk_3 (dk_at dksX7_rests_0 2 rfl rfl)
theorem dX7_rests_3 : decode cX7_rests 3 = .ok (.bipush 9, 2) := dk_16 9 (dk_at dksX7_rests_0 3 rfl rfl)
theorem dX7_rests_5 : decode cX7_rests 5 = .ok (.invokestatic 265, 3) := dk_184 1 9 (dk_at dksX7_rests_0 5 rfl rfl)
theorem dX7_rests_8 : decode cX7_rests 8 = .ok (.ifCond .eq 33, 3) := dk_153 0 33 (dk_at dksX7_rests_0 8 rfl rfl)
theorem dX7_rests_11 : decode cX7_rests 11 = .ok (.iload_n 2, 1) := dk_28 (dk_at dksX7_rests_0 11 rfl rfl)
theorem dX7_rests_12 : decode cX7_rests 12 = .ok (.iconst 0, 1) := dk_3 (dk_at dksX7_rests_0 12 rfl rfl)
theorem dX7_rests_13 : decode cX7_rests 13 = .ok (.bipush 9, 2) := dk_16 9 (dk_at dksX7_rests_0 13 rfl rfl)
theorem dX7_rests_15 : decode cX7_rests 15 = .ok (.invokestatic 265, 3) := dk_184 1 9 (dk_at dksX7_rests_0 15 rfl rfl)
theorem dX7_rests_18 : decode cX7_rests 18 = .ok (.ifCond .eq 23, 3) := dk_153 0 23 (dk_at dksX7_rests_0 18 rfl rfl)
theorem dX7_rests_21 : decode cX7_rests 21 = .ok (.iload_n 3, 1) := dk_29 (dk_at dksX7_rests_0 21 rfl rfl)
theorem dX7_rests_22 : decode cX7_rests 22 = .ok (.iconst 0, 1) := dk_3 (dk_at dksX7_rests_0 22 rfl rfl)
theorem dX7_rests_23 : decode cX7_rests 23 = .ok (.bipush 9, 2) := dk_16 9 (dk_at dksX7_rests_1 0 rfl rfl)
theorem dX7_rests_25 : decode cX7_rests 25 = .ok (.invokestatic 265, 3) := dk_184 1 9 (dk_at dksX7_rests_1 2 rfl rfl)
theorem dX7_rests_28 : decode cX7_rests 28 = .ok (.ifCond .eq 13, 3) := dk_153 0 13 (dk_at dksX7_rests_1 5 rfl rfl)
theorem dX7_rests_31 : decode cX7_rests 31 = .ok (.iload 4, 2) := dk_21 4 (dk_at dksX7_rests_1 8 rfl rfl)
theorem dX7_rests_33 : decode cX7_rests 33 = .ok (.iconst (-1), 1) := dk_2 (dk_at dksX7_rests_1 10 rfl rfl)
theorem dX7_rests_34 : decode cX7_rests 34 = .ok (.if_icmp .lt 7, 3) := dk_161 0 7 (dk_at dksX7_rests_1 11 rfl rfl)
theorem dX7_rests_37 : decode cX7_rests 37 = .ok (.iconst 0, 1) := dk_3 (dk_at dksX7_rests_1 14 rfl rfl)
theorem dX7_rests_38 : decode cX7_rests 38 = .ok (.goto 4, 3) := dk_167 0 4 (dk_at dksX7_rests_1 15 rfl rfl)
theorem dX7_rests_41 : decode cX7_rests 41 = .ok (.iconst 1, 1) := dk_4 (dk_at dksX7_rests_1 18 rfl rfl)
theorem dX7_rests_42 : decode cX7_rests 42 = .ok (.putfield 144, 3) := dk_181 0 144 (dk_at dksX7_rests_1 19 rfl rfl)
theorem dX7_rests_45 : decode cX7_rests 45 = .ok (.aload_n 0, 1) := dk_42 (dk_at dksX7_rests_1 22 rfl rfl)
theorem dX7_rests_46 : decode cX7_rests 46 = .ok (.getfield 144, 3) := dk_180 0 144 (dk_at dksX7_rests_2 0 rfl rfl)
theorem dX7_rests_49 : decode cX7_rests 49 = .ok (.iconst 1, 1) := dk_4 (dk_at dksX7_rests_2 3 rfl rfl)
theorem dX7_rests_50 : decode cX7_rests 50 = .ok (.if_icmp .ne 5, 3) := dk_160 0 5 (dk_at dksX7_rests_2 4 rfl rfl)
theorem dX7_rests_53 : decode cX7_rests 53 = .ok (.iconst 0, 1) := dk_3 (dk_at dksX7_rests_2 7 rfl rfl)
theorem dX7_rests_54 : decode cX7_rests 54 = .ok (.ireturn, 1) := dk_172 (dk_at dksX7_rests_2 8 rfl rfl)
theorem dX7_rests_55 : decode cX7_rests 55 = .ok (.iconst 0, 1) := dk_3 (dk_at dksX7_rests_2 9 rfl rfl)
theorem dX7_rests_56 : decode cX7_rests 56 = .ok (.istore 5, 2) := dk_54 5 (dk_at dksX7_rests_2 10 rfl rfl)
theorem dX7_rests_58 : decode cX7_rests 58 = .ok (.iconst 0, 1) := dk_3 (dk_at dksX7_rests_2 12 rfl rfl)
theorem dX7_rests_59 : decode cX7_rests 59 = .ok (.istore 6, 2) := dk_54 6 (dk_at dksX7_rests_2 13 rfl rfl)
theorem dX7_rests_61 : decode cX7_rests 61 = .ok (.iload 6, 2) := dk_21 6 (dk_at dksX7_rests_2 15 rfl rfl)
theorem dX7_rests_63 : decode cX7_rests 63 = .ok (.iconst 4, 1) := dk_7 (dk_at dksX7_rests_2 17 rfl rfl)
theorem dX7_rests_64 : decode cX7_rests 64 = .ok (.if_icmp .ge 87, 3) := dk_162 0 87 (dk_at dksX7_rests_2 18 rfl rfl)
theorem dX7_rests_67 : decode cX7_rests 67 = .ok (.iload 6, 2) := dk_21 6 (dk_at dksX7_rests_2 21 rfl rfl)
theorem dX7_rests_69 : decode cX7_rests 69 = .ok (.iconst 2, 1) := dk_5 (dk_at dksX7_rests_2 23 rfl rfl)
theorem dX7_rests_70 : decode cX7_rests 70 = .ok (.idiv, 1) := dk_108 (dk_at dksX7_rests_3 0 rfl rfl)
theorem dX7_rests_71 : decode cX7_rests 71 = .ok (.istore 7, 2) := dk_54 7 (dk_at dksX7_rests_3 1 rfl rfl)
theorem dX7_rests_73 : decode cX7_rests 73 = .ok (.iload 6, 2) := dk_21 6 (dk_at dksX7_rests_3 3 rfl rfl)
theorem dX7_rests_75 : decode cX7_rests 75 = .ok (.iconst 2, 1) := dk_5 (dk_at dksX7_rests_3 5 rfl rfl)
theorem dX7_rests_76 : decode cX7_rests 76 = .ok (.irem, 1) := dk_112 (dk_at dksX7_rests_3 6 rfl rfl)
theorem dX7_rests_77 : decode cX7_rests 77 = .ok (.istore 8, 2) := dk_54 8 (dk_at dksX7_rests_3 7 rfl rfl)
theorem dX7_rests_79 : decode cX7_rests 79 = .ok (.iload_n 1, 1) := dk_27 (dk_at dksX7_rests_3 9 rfl rfl)
theorem dX7_rests_80 : decode cX7_rests 80 = .ok (.iload_n 2, 1) := dk_28 (dk_at dksX7_rests_3 10 rfl rfl)
theorem dX7_rests_81 : decode cX7_rests 81 = .ok (.iload_n 3, 1) := dk_29 (dk_at dksX7_rests_3 11 rfl rfl)
theorem dX7_rests_82 : decode cX7_rests 82 = .ok (.iconst 1, 1) := dk_4 (dk_at dksX7_rests_3 12 rfl rfl)
theorem dX7_rests_83 : decode cX7_rests 83 = .ok (.iload 7, 2) := dk_21 7 (dk_at dksX7_rests_3 13 rfl rfl)
theorem dX7_rests_85 : decode cX7_rests 85 = .ok (.isub, 1) := dk_100 (dk_at dksX7_rests_3 15 rfl rfl)
theorem dX7_rests_86 : decode cX7_rests 86 = .ok (.iload 8, 2) := dk_21 8 (dk_at dksX7_rests_3 16 rfl rfl)
theorem dX7_rests_88 : decode cX7_rests 88 = .ok (.invokestatic 458, 3) := dk_184 1 202 (dk_at dksX7_rests_3 18 rfl rfl)
theorem dX7_rests_91 : decode cX7_rests 91 = .ok (.iload_n 1, 1) := dk_27 (dk_at dksX7_rests_3 21 rfl rfl)
theorem dX7_rests_92 : decode cX7_rests 92 = .ok (.iload_n 2, 1) := dk_28 (dk_at dksX7_rests_3 22 rfl rfl)
theorem dX7_rests_93 : decode cX7_rests 93 = .ok (.iload_n 3, 1) := dk_29 (dk_at dksX7_rests_3 23 rfl rfl)
theorem dX7_rests_94 : decode cX7_rests 94 = .ok (.iload 7, 2) := dk_21 7 (dk_at dksX7_rests_4 0 rfl rfl)
theorem dX7_rests_96 : decode cX7_rests 96 = .ok (.iload 8, 2) := dk_21 8 (dk_at dksX7_rests_4 2 rfl rfl)
theorem dX7_rests_98 : decode cX7_rests 98 = .ok (.invokestatic 458, 3) := dk_184 1 202 (dk_at dksX7_rests_4 4 rfl rfl)
theorem dX7_rests_101 : decode cX7_rests 101 = .ok (.if_icmp .gt 44, 3) := dk_163 0 44 (dk_at dksX7_rests_4 7 rfl rfl)
theorem dX7_rests_104 : decode cX7_rests 104 = .ok (.iload_n 1, 1) := dk_27 (dk_at dksX7_rests_4 10 rfl rfl)
theorem dX7_rests_105 : decode cX7_rests 105 = .ok (.iload_n 2, 1) := dk_28 (dk_at dksX7_rests_4 11 rfl rfl)
theorem dX7_rests_106 : decode cX7_rests 106 = .ok (.iload_n 3, 1) := dk_29 (dk_at dksX7_rests_4 12 rfl rfl)
theorem dX7_rests_107 : decode cX7_rests 107 = .ok (.iconst 1, 1) := dk_4 (dk_at dksX7_rests_4 13 rfl rfl)
theorem dX7_rests_108 : decode cX7_rests 108 = .ok (.iload 8, 2) := dk_21 8 (dk_at dksX7_rests_4 14 rfl rfl)
theorem dX7_rests_110 : decode cX7_rests 110 = .ok (.isub, 1) := dk_100 (dk_at dksX7_rests_4 16 rfl rfl)
theorem dX7_rests_111 : decode cX7_rests 111 = .ok (.iload 7, 2) := dk_21 7 (dk_at dksX7_rests_4 17 rfl rfl)
theorem dX7_rests_113 : decode cX7_rests 113 = .ok (.invokestatic 458, 3) := dk_184 1 202 (dk_at dksX7_rests_4 19 rfl rfl)
theorem dX7_rests_116 : decode cX7_rests 116 = .ok (.iload_n 1, 1) := dk_27 (dk_at dksX7_rests_4 22 rfl rfl)
theorem dX7_rests_117 : decode cX7_rests 117 = .ok (.iload_n 2, 1) := dk_28 (dk_at dksX7_rests_4 23 rfl rfl)
theorem dX7_rests_118 : decode cX7_rests 118 = .ok (.iload_n 3, 1) := dk_29 (dk_at dksX7_rests_5 0 rfl rfl)
theorem dX7_rests_119 : decode cX7_rests 119 = .ok (.iload 8, 2) := dk_21 8 (dk_at dksX7_rests_5 1 rfl rfl)
theorem dX7_rests_121 : decode cX7_rests 121 = .ok (.iload 7, 2) := dk_21 7 (dk_at dksX7_rests_5 3 rfl rfl)
theorem dX7_rests_123 : decode cX7_rests 123 = .ok (.invokestatic 458, 3) := dk_184 1 202 (dk_at dksX7_rests_5 5 rfl rfl)
theorem dX7_rests_126 : decode cX7_rests 126 = .ok (.if_icmp .le 6, 3) := dk_164 0 6 (dk_at dksX7_rests_5 8 rfl rfl)
theorem dX7_rests_129 : decode cX7_rests 129 = .ok (.goto 16, 3) := dk_167 0 16 (dk_at dksX7_rests_5 11 rfl rfl)
theorem dX7_rests_132 : decode cX7_rests 132 = .ok (.iload 5, 2) := dk_21 5 (dk_at dksX7_rests_5 14 rfl rfl)
theorem dX7_rests_134 : decode cX7_rests 134 = .ok (.iload 4, 2) := dk_21 4 (dk_at dksX7_rests_5 16 rfl rfl)
theorem dX7_rests_136 : decode cX7_rests 136 = .ok (.if_icmp .ne 6, 3) := dk_160 0 6 (dk_at dksX7_rests_5 18 rfl rfl)
theorem dX7_rests_139 : decode cX7_rests 139 = .ok (.iload 6, 2) := dk_21 6 (dk_at dksX7_rests_5 21 rfl rfl)
theorem dX7_rests_141 : decode cX7_rests 141 = .ok (.ireturn, 1) := dk_172 (dk_at dksX7_rests_5 23 rfl rfl)
theorem dX7_rests_142 : decode cX7_rests 142 = .ok (.iinc 5 1, 3) := dk_132 5 1 (dk_at dksX7_rests_6 0 rfl rfl)
theorem dX7_rests_145 : decode cX7_rests 145 = .ok (.iinc 6 1, 3) := dk_132 6 1 (dk_at dksX7_rests_6 3 rfl rfl)
theorem dX7_rests_148 : decode cX7_rests 148 = .ok (.goto (-87), 3) := dk_167 255 169 (dk_at dksX7_rests_6 6 rfl rfl)
theorem dX7_rests_151 : decode cX7_rests 151 = .ok (.aload_n 0, 1) := dk_42 (dk_at dksX7_rests_6 9 rfl rfl)
theorem dX7_rests_152 : decode cX7_rests 152 = .ok (.iload 4, 2) := dk_21 4 (dk_at dksX7_rests_6 10 rfl rfl)
theorem dX7_rests_154 : decode cX7_rests 154 = .ok (.iconst (-1), 1) := dk_2 (dk_at dksX7_rests_6 12 rfl rfl)
theorem dX7_rests_155 : decode cX7_rests 155 = .ok (.if_icmp .ne 7, 3) := dk_160 0 7 (dk_at dksX7_rests_6 13 rfl rfl)
theorem dX7_rests_158 : decode cX7_rests 158 = .ok (.iconst 0, 1) := dk_3 (dk_at dksX7_rests_6 16 rfl rfl)
theorem dX7_rests_159 : decode cX7_rests 159 = .ok (.goto 4, 3) := dk_167 0 4 (dk_at dksX7_rests_6 17 rfl rfl)
theorem dX7_rests_162 : decode cX7_rests 162 = .ok (.iconst 1, 1) := dk_4 (dk_at dksX7_rests_6 20 rfl rfl)
theorem dX7_rests_163 : decode cX7_rests 163 = .ok (.putfield 144, 3) := dk_181 0 144 (dk_at dksX7_rests_6 21 rfl rfl)
theorem dX7_rests_166 : decode cX7_rests 166 = .ok (.iload 4, 2) := dk_21 4 (dk_at dksX7_rests_7 0 rfl rfl)
theorem dX7_rests_168 : decode cX7_rests 168 = .ok (.iconst (-1), 1) := dk_2 (dk_at dksX7_rests_7 2 rfl rfl)
theorem dX7_rests_169 : decode cX7_rests 169 = .ok (.if_icmp .ne 8, 3) := dk_160 0 8 (dk_at dksX7_rests_7 3 rfl rfl)
theorem dX7_rests_172 : decode cX7_rests 172 = .ok (.iload 5, 2) := dk_21 5 (dk_at dksX7_rests_7 6 rfl rfl)
theorem dX7_rests_174 : decode cX7_rests 174 = .ok (.goto 4, 3) := dk_167 0 4 (dk_at dksX7_rests_7 8 rfl rfl)
theorem dX7_rests_177 : decode cX7_rests 177 = .ok (.iconst 0, 1) := dk_3 (dk_at dksX7_rests_7 11 rfl rfl)
theorem dX7_rests_178 : decode cX7_rests 178 = .ok (.ireturn, 1) := dk_172 (dk_at dksX7_rests_7 12 rfl rfl)
abbrev cX7_draws : ByteArray := prog_32_method_99_code
abbrev yX7_draws : MethodName := { cls := "WornSkinModel", name := "draws", desc := "(I)I" }
def dkwX7_draws_1 : List UInt8 := [20, 1, 215, 109, 27, 133, 113, 136, 172]
abbrev dktX7_draws_1 : List UInt8 := dkwX7_draws_1 ++ []
def dkwX7_draws_0 : List UInt8 := [42, 42, 180, 1, 206, 20, 1, 209, 105, 20, 1, 211, 97, 20, 1, 213, 113, 181, 1, 206, 42, 180, 1, 206]
abbrev dktX7_draws_0 : List UInt8 := dkwX7_draws_0 ++ dktX7_draws_1
theorem dksX7_draws_0 : cX7_draws.data.toList.drop 0 = dktX7_draws_0 := by decide +kernel
theorem dksX7_draws_1 : cX7_draws.data.toList.drop 24 = dktX7_draws_1 := dk_seg dksX7_draws_0 24 rfl rfl
theorem dX7_draws_0 : decode cX7_draws 0 = .ok (.aload_n 0, 1) := dk_42 (dk_at dksX7_draws_0 0 rfl rfl)
theorem dX7_draws_1 : decode cX7_draws 1 = .ok (.aload_n 0, 1) := dk_42 (dk_at dksX7_draws_0 1 rfl rfl)
theorem dX7_draws_2 : decode cX7_draws 2 = .ok (.getfield 462, 3) := dk_180 1 206 (dk_at dksX7_draws_0 2 rfl rfl)
theorem dX7_draws_5 : decode cX7_draws 5 = .ok (.ldc2_w 465, 3) := dk_20 1 209 (dk_at dksX7_draws_0 5 rfl rfl)
theorem dX7_draws_8 : decode cX7_draws 8 = .ok (.lmul, 1) := dk_105 (dk_at dksX7_draws_0 8 rfl rfl)
theorem dX7_draws_9 : decode cX7_draws 9 = .ok (.ldc2_w 467, 3) := dk_20 1 211 (dk_at dksX7_draws_0 9 rfl rfl)
theorem dX7_draws_12 : decode cX7_draws 12 = .ok (.ladd, 1) := dk_97 (dk_at dksX7_draws_0 12 rfl rfl)
theorem dX7_draws_13 : decode cX7_draws 13 = .ok (.ldc2_w 469, 3) := dk_20 1 213 (dk_at dksX7_draws_0 13 rfl rfl)
theorem dX7_draws_16 : decode cX7_draws 16 = .ok (.lrem, 1) := dk_113 (dk_at dksX7_draws_0 16 rfl rfl)
theorem dX7_draws_17 : decode cX7_draws 17 = .ok (.putfield 462, 3) := dk_181 1 206 (dk_at dksX7_draws_0 17 rfl rfl)
theorem dX7_draws_20 : decode cX7_draws 20 = .ok (.aload_n 0, 1) := dk_42 (dk_at dksX7_draws_0 20 rfl rfl)
theorem dX7_draws_21 : decode cX7_draws 21 = .ok (.getfield 462, 3) := dk_180 1 206 (dk_at dksX7_draws_0 21 rfl rfl)
theorem dX7_draws_24 : decode cX7_draws 24 = .ok (.ldc2_w 471, 3) := dk_20 1 215 (dk_at dksX7_draws_1 0 rfl rfl)
theorem dX7_draws_27 : decode cX7_draws 27 = .ok (.ldiv, 1) := dk_109 (dk_at dksX7_draws_1 3 rfl rfl)
theorem dX7_draws_28 : decode cX7_draws 28 = .ok (.iload_n 1, 1) := dk_27 (dk_at dksX7_draws_1 4 rfl rfl)
theorem dX7_draws_29 : decode cX7_draws 29 = .ok (.i2l, 1) := dk_133 (dk_at dksX7_draws_1 5 rfl rfl)
theorem dX7_draws_30 : decode cX7_draws 30 = .ok (.lrem, 1) := dk_113 (dk_at dksX7_draws_1 6 rfl rfl)
theorem dX7_draws_31 : decode cX7_draws 31 = .ok (.l2i, 1) := dk_136 (dk_at dksX7_draws_1 7 rfl rfl)
theorem dX7_draws_32 : decode cX7_draws 32 = .ok (.ireturn, 1) := dk_172 (dk_at dksX7_draws_1 8 rfl rfl)
abbrev cX7_livesWeek : ByteArray := prog_32_method_100_code
abbrev yX7_livesWeek : MethodName := { cls := "WornSkinModel", name := "livesWeek", desc := "()Z" }
def dkwX7_livesWeek_6 : List UInt8 := [172]
abbrev dktX7_livesWeek_6 : List UInt8 := dkwX7_livesWeek_6 ++ []
def dkwX7_livesWeek_5 : List UInt8 := [154, 0, 8, 16, 63, 167, 0, 5, 16, 9, 182, 1, 160, 42, 180, 0, 120, 3, 92, 46, 4, 96, 79, 27]
abbrev dktX7_livesWeek_5 : List UInt8 := dkwX7_livesWeek_5 ++ dktX7_livesWeek_6
def dkwX7_livesWeek_4 : List UInt8 := [29, 21, 5, 154, 0, 8, 16, 63, 167, 0, 5, 16, 9, 182, 1, 118, 158, 0, 20, 42, 29, 21, 5]
abbrev dktX7_livesWeek_4 : List UInt8 := dkwX7_livesWeek_4 ++ dktX7_livesWeek_5
def dkwX7_livesWeek_3 : List UInt8 := [182, 1, 217, 54, 5, 27, 153, 0, 11, 42, 28, 29, 21, 4, 182, 1, 156, 21, 5, 5, 162, 0, 40, 42]
abbrev dktX7_livesWeek_3 : List UInt8 := dkwX7_livesWeek_3 ++ dktX7_livesWeek_4
def dkwX7_livesWeek_2 : List UInt8 := [182, 1, 217, 54, 4, 42, 28, 29, 21, 4, 182, 1, 122, 60, 27, 153, 0, 7, 5, 167, 0, 8, 42, 6]
abbrev dktX7_livesWeek_2 : List UInt8 := dkwX7_livesWeek_2 ++ dktX7_livesWeek_3
def dkwX7_livesWeek_1 : List UInt8 := [180, 0, 13, 4, 46, 182, 1, 217, 61, 42, 42, 180, 0, 13, 3, 46, 182, 1, 217, 62, 42, 16, 6]
abbrev dktX7_livesWeek_1 : List UInt8 := dkwX7_livesWeek_1 ++ dktX7_livesWeek_2
def dkwX7_livesWeek_0 : List UInt8 := [3, 60, 42, 180, 0, 13, 4, 46, 158, 0, 121, 42, 180, 0, 13, 3, 46, 158, 0, 112, 42, 42]
abbrev dktX7_livesWeek_0 : List UInt8 := dkwX7_livesWeek_0 ++ dktX7_livesWeek_1
theorem dksX7_livesWeek_0 : cX7_livesWeek.data.toList.drop 0 = dktX7_livesWeek_0 := by decide +kernel
theorem dksX7_livesWeek_1 : cX7_livesWeek.data.toList.drop 22 = dktX7_livesWeek_1 := dk_seg dksX7_livesWeek_0 22 rfl rfl
theorem dksX7_livesWeek_2 : cX7_livesWeek.data.toList.drop 45 = dktX7_livesWeek_2 := dk_seg dksX7_livesWeek_1 23 rfl rfl
theorem dksX7_livesWeek_3 : cX7_livesWeek.data.toList.drop 69 = dktX7_livesWeek_3 := dk_seg dksX7_livesWeek_2 24 rfl rfl
theorem dksX7_livesWeek_4 : cX7_livesWeek.data.toList.drop 93 = dktX7_livesWeek_4 := dk_seg dksX7_livesWeek_3 24 rfl rfl
theorem dksX7_livesWeek_5 : cX7_livesWeek.data.toList.drop 116 = dktX7_livesWeek_5 := dk_seg dksX7_livesWeek_4 23 rfl rfl
theorem dksX7_livesWeek_6 : cX7_livesWeek.data.toList.drop 140 = dktX7_livesWeek_6 := dk_seg dksX7_livesWeek_5 24 rfl rfl
theorem dX7_livesWeek_0 : decode cX7_livesWeek 0 = .ok (.iconst 0, 1) := dk_3 (dk_at dksX7_livesWeek_0 0 rfl rfl)
theorem dX7_livesWeek_1 : decode cX7_livesWeek 1 = .ok (.istore_n 1, 1) := dk_60 (dk_at dksX7_livesWeek_0 1 rfl rfl)
theorem dX7_livesWeek_2 : decode cX7_livesWeek 2 = .ok (.aload_n 0, 1) := dk_42 (dk_at dksX7_livesWeek_0 2 rfl rfl)
theorem dX7_livesWeek_3 : decode cX7_livesWeek 3 = .ok (.getfield 13, 3) := dk_180 0 13 (dk_at dksX7_livesWeek_0 3 rfl rfl)
theorem dX7_livesWeek_6 : decode cX7_livesWeek 6 = .ok (.iconst 1, 1) := dk_4 (dk_at dksX7_livesWeek_0 6 rfl rfl)
theorem dX7_livesWeek_7 : decode cX7_livesWeek 7 = .ok (.iaload, 1) := dk_46 (dk_at dksX7_livesWeek_0 7 rfl rfl)
theorem dX7_livesWeek_8 : decode cX7_livesWeek 8 = .ok (.ifCond .le 121, 3) := dk_158 0 121 (dk_at dksX7_livesWeek_0 8 rfl rfl)
theorem dX7_livesWeek_11 : decode cX7_livesWeek 11 = .ok (.aload_n 0, 1) := dk_42 (dk_at dksX7_livesWeek_0 11 rfl rfl)
theorem dX7_livesWeek_12 : decode cX7_livesWeek 12 = .ok (.getfield 13, 3) := dk_180 0 13 (dk_at dksX7_livesWeek_0 12 rfl rfl)
theorem dX7_livesWeek_15 : decode cX7_livesWeek 15 = .ok (.iconst 0, 1) := dk_3 (dk_at dksX7_livesWeek_0 15 rfl rfl)
theorem dX7_livesWeek_16 : decode cX7_livesWeek 16 = .ok (.iaload, 1) := dk_46 (dk_at dksX7_livesWeek_0 16 rfl rfl)
theorem dX7_livesWeek_17 : decode cX7_livesWeek 17 = .ok (.ifCond .le 112, 3) := dk_158 0 112 (dk_at dksX7_livesWeek_0 17 rfl rfl)
theorem dX7_livesWeek_20 : decode cX7_livesWeek 20 = .ok (.aload_n 0, 1) := dk_42 (dk_at dksX7_livesWeek_0 20 rfl rfl)
theorem dX7_livesWeek_21 : decode cX7_livesWeek 21 = .ok (.aload_n 0, 1) := dk_42 (dk_at dksX7_livesWeek_0 21 rfl rfl)
theorem dX7_livesWeek_22 : decode cX7_livesWeek 22 = .ok (.getfield 13, 3) := dk_180 0 13 (dk_at dksX7_livesWeek_1 0 rfl rfl)
theorem dX7_livesWeek_25 : decode cX7_livesWeek 25 = .ok (.iconst 1, 1) := dk_4 (dk_at dksX7_livesWeek_1 3 rfl rfl)
theorem dX7_livesWeek_26 : decode cX7_livesWeek 26 = .ok (.iaload, 1) := dk_46 (dk_at dksX7_livesWeek_1 4 rfl rfl)
theorem dX7_livesWeek_27 : decode cX7_livesWeek 27 = .ok (.invokevirtual 473, 3) := dk_182 1 217 (dk_at dksX7_livesWeek_1 5 rfl rfl)
theorem dX7_livesWeek_30 : decode cX7_livesWeek 30 = .ok (.istore_n 2, 1) := dk_61 (dk_at dksX7_livesWeek_1 8 rfl rfl)
theorem dX7_livesWeek_31 : decode cX7_livesWeek 31 = .ok (.aload_n 0, 1) := dk_42 (dk_at dksX7_livesWeek_1 9 rfl rfl)
theorem dX7_livesWeek_32 : decode cX7_livesWeek 32 = .ok (.aload_n 0, 1) := dk_42 (dk_at dksX7_livesWeek_1 10 rfl rfl)
theorem dX7_livesWeek_33 : decode cX7_livesWeek 33 = .ok (.getfield 13, 3) := dk_180 0 13 (dk_at dksX7_livesWeek_1 11 rfl rfl)
theorem dX7_livesWeek_36 : decode cX7_livesWeek 36 = .ok (.iconst 0, 1) := dk_3 (dk_at dksX7_livesWeek_1 14 rfl rfl)
theorem dX7_livesWeek_37 : decode cX7_livesWeek 37 = .ok (.iaload, 1) := dk_46 (dk_at dksX7_livesWeek_1 15 rfl rfl)
theorem dX7_livesWeek_38 : decode cX7_livesWeek 38 = .ok (.invokevirtual 473, 3) := dk_182 1 217 (dk_at dksX7_livesWeek_1 16 rfl rfl)
theorem dX7_livesWeek_41 : decode cX7_livesWeek 41 = .ok (.istore_n 3, 1) := dk_62 (dk_at dksX7_livesWeek_1 19 rfl rfl)
theorem dX7_livesWeek_42 : decode cX7_livesWeek 42 = .ok (.aload_n 0, 1) := dk_42 (dk_at dksX7_livesWeek_1 20 rfl rfl)
theorem dX7_livesWeek_43 : decode cX7_livesWeek 43 = .ok (.bipush 6, 2) := dk_16 6 (dk_at dksX7_livesWeek_1 21 rfl rfl)
theorem dX7_livesWeek_45 : decode cX7_livesWeek 45 = .ok (.invokevirtual 473, 3) := dk_182 1 217 (dk_at dksX7_livesWeek_2 0 rfl rfl)
theorem dX7_livesWeek_48 : decode cX7_livesWeek 48 = .ok (.istore 4, 2) := dk_54 4 (dk_at dksX7_livesWeek_2 3 rfl rfl)
theorem dX7_livesWeek_50 : decode cX7_livesWeek 50 = .ok (.aload_n 0, 1) := dk_42 (dk_at dksX7_livesWeek_2 5 rfl rfl)
theorem dX7_livesWeek_51 : decode cX7_livesWeek 51 = .ok (.iload_n 2, 1) := dk_28 (dk_at dksX7_livesWeek_2 6 rfl rfl)
theorem dX7_livesWeek_52 : decode cX7_livesWeek 52 = .ok (.iload_n 3, 1) := dk_29 (dk_at dksX7_livesWeek_2 7 rfl rfl)
theorem dX7_livesWeek_53 : decode cX7_livesWeek 53 = .ok (.iload 4, 2) := dk_21 4 (dk_at dksX7_livesWeek_2 8 rfl rfl)
theorem dX7_livesWeek_55 : decode cX7_livesWeek 55 = .ok (.invokevirtual 378, 3) := dk_182 1 122 (dk_at dksX7_livesWeek_2 10 rfl rfl)
theorem dX7_livesWeek_58 : decode cX7_livesWeek 58 = .ok (.istore_n 1, 1) := dk_60 (dk_at dksX7_livesWeek_2 13 rfl rfl)
theorem dX7_livesWeek_59 : decode cX7_livesWeek 59 = .ok (.iload_n 1, 1) := dk_27 (dk_at dksX7_livesWeek_2 14 rfl rfl)
theorem dX7_livesWeek_60 : decode cX7_livesWeek 60 = .ok (.ifCond .eq 7, 3) := dk_153 0 7 (dk_at dksX7_livesWeek_2 15 rfl rfl)
theorem dX7_livesWeek_63 : decode cX7_livesWeek 63 = .ok (.iconst 2, 1) := dk_5 (dk_at dksX7_livesWeek_2 18 rfl rfl)
theorem dX7_livesWeek_64 : decode cX7_livesWeek 64 = .ok (.goto 8, 3) := dk_167 0 8 (dk_at dksX7_livesWeek_2 19 rfl rfl)
theorem dX7_livesWeek_67 : decode cX7_livesWeek 67 = .ok (.aload_n 0, 1) := dk_42 (dk_at dksX7_livesWeek_2 22 rfl rfl)
theorem dX7_livesWeek_68 : decode cX7_livesWeek 68 = .ok (.iconst 3, 1) := dk_6 (dk_at dksX7_livesWeek_2 23 rfl rfl)
theorem dX7_livesWeek_69 : decode cX7_livesWeek 69 = .ok (.invokevirtual 473, 3) := dk_182 1 217 (dk_at dksX7_livesWeek_3 0 rfl rfl)
theorem dX7_livesWeek_72 : decode cX7_livesWeek 72 = .ok (.istore 5, 2) := dk_54 5 (dk_at dksX7_livesWeek_3 3 rfl rfl)
theorem dX7_livesWeek_74 : decode cX7_livesWeek 74 = .ok (.iload_n 1, 1) := dk_27 (dk_at dksX7_livesWeek_3 5 rfl rfl)
theorem dX7_livesWeek_75 : decode cX7_livesWeek 75 = .ok (.ifCond .eq 11, 3) := dk_153 0 11 (dk_at dksX7_livesWeek_3 6 rfl rfl)
theorem dX7_livesWeek_78 : decode cX7_livesWeek 78 = .ok (.aload_n 0, 1) := dk_42 (dk_at dksX7_livesWeek_3 9 rfl rfl)
theorem dX7_livesWeek_79 : decode cX7_livesWeek 79 = .ok (.iload_n 2, 1) := dk_28 (dk_at dksX7_livesWeek_3 10 rfl rfl)
theorem dX7_livesWeek_80 : decode cX7_livesWeek 80 = .ok (.iload_n 3, 1) := dk_29 (dk_at dksX7_livesWeek_3 11 rfl rfl)
theorem dX7_livesWeek_81 : decode cX7_livesWeek 81 = .ok (.iload 4, 2) := dk_21 4 (dk_at dksX7_livesWeek_3 12 rfl rfl)
theorem dX7_livesWeek_83 : decode cX7_livesWeek 83 = .ok (.invokevirtual 412, 3) := dk_182 1 156 (dk_at dksX7_livesWeek_3 14 rfl rfl)
theorem dX7_livesWeek_86 : decode cX7_livesWeek 86 = .ok (.iload 5, 2) := dk_21 5 (dk_at dksX7_livesWeek_3 17 rfl rfl)
theorem dX7_livesWeek_88 : decode cX7_livesWeek 88 = .ok (.iconst 2, 1) := dk_5 (dk_at dksX7_livesWeek_3 19 rfl rfl)
theorem dX7_livesWeek_89 : decode cX7_livesWeek 89 = .ok (.if_icmp .ge 40, 3) := dk_162 0 40 (dk_at dksX7_livesWeek_3 20 rfl rfl)
theorem dX7_livesWeek_92 : decode cX7_livesWeek 92 = .ok (.aload_n 0, 1) := dk_42 (dk_at dksX7_livesWeek_3 23 rfl rfl)
theorem dX7_livesWeek_93 : decode cX7_livesWeek 93 = .ok (.iload_n 3, 1) := dk_29 (dk_at dksX7_livesWeek_4 0 rfl rfl)
theorem dX7_livesWeek_94 : decode cX7_livesWeek 94 = .ok (.iload 5, 2) := dk_21 5 (dk_at dksX7_livesWeek_4 1 rfl rfl)
theorem dX7_livesWeek_96 : decode cX7_livesWeek 96 = .ok (.ifCond .ne 8, 3) := dk_154 0 8 (dk_at dksX7_livesWeek_4 3 rfl rfl)
theorem dX7_livesWeek_99 : decode cX7_livesWeek 99 = .ok (.bipush 63, 2) := dk_16 63 (dk_at dksX7_livesWeek_4 6 rfl rfl)
theorem dX7_livesWeek_101 : decode cX7_livesWeek 101 = .ok (.goto 5, 3) := dk_167 0 5 (dk_at dksX7_livesWeek_4 8 rfl rfl)
theorem dX7_livesWeek_104 : decode cX7_livesWeek 104 = .ok (.bipush 9, 2) := dk_16 9 (dk_at dksX7_livesWeek_4 11 rfl rfl)
theorem dX7_livesWeek_106 : decode cX7_livesWeek 106 = .ok (.invokevirtual 374, 3) := dk_182 1 118 (dk_at dksX7_livesWeek_4 13 rfl rfl)
theorem dX7_livesWeek_109 : decode cX7_livesWeek 109 = .ok (.ifCond .le 20, 3) := dk_158 0 20 (dk_at dksX7_livesWeek_4 16 rfl rfl)
theorem dX7_livesWeek_112 : decode cX7_livesWeek 112 = .ok (.aload_n 0, 1) := dk_42 (dk_at dksX7_livesWeek_4 19 rfl rfl)
theorem dX7_livesWeek_113 : decode cX7_livesWeek 113 = .ok (.iload_n 3, 1) := dk_29 (dk_at dksX7_livesWeek_4 20 rfl rfl)
theorem dX7_livesWeek_114 : decode cX7_livesWeek 114 = .ok (.iload 5, 2) := dk_21 5 (dk_at dksX7_livesWeek_4 21 rfl rfl)
theorem dX7_livesWeek_116 : decode cX7_livesWeek 116 = .ok (.ifCond .ne 8, 3) := dk_154 0 8 (dk_at dksX7_livesWeek_5 0 rfl rfl)
theorem dX7_livesWeek_119 : decode cX7_livesWeek 119 = .ok (.bipush 63, 2) := dk_16 63 (dk_at dksX7_livesWeek_5 3 rfl rfl)
theorem dX7_livesWeek_121 : decode cX7_livesWeek 121 = .ok (.goto 5, 3) := dk_167 0 5 (dk_at dksX7_livesWeek_5 5 rfl rfl)
theorem dX7_livesWeek_124 : decode cX7_livesWeek 124 = .ok (.bipush 9, 2) := dk_16 9 (dk_at dksX7_livesWeek_5 8 rfl rfl)
theorem dX7_livesWeek_126 : decode cX7_livesWeek 126 = .ok (.invokevirtual 416, 3) := dk_182 1 160 (dk_at dksX7_livesWeek_5 10 rfl rfl)
theorem dX7_livesWeek_129 : decode cX7_livesWeek 129 = .ok (.aload_n 0, 1) := dk_42 (dk_at dksX7_livesWeek_5 13 rfl rfl)
theorem dX7_livesWeek_130 : decode cX7_livesWeek 130 = .ok (.getfield 120, 3) := dk_180 0 120 (dk_at dksX7_livesWeek_5 14 rfl rfl)
theorem dX7_livesWeek_133 : decode cX7_livesWeek 133 = .ok (.iconst 0, 1) := dk_3 (dk_at dksX7_livesWeek_5 17 rfl rfl)
theorem dX7_livesWeek_134 : decode cX7_livesWeek 134 = .ok (.dup2, 1) := dk_92 (dk_at dksX7_livesWeek_5 18 rfl rfl)
theorem dX7_livesWeek_135 : decode cX7_livesWeek 135 = .ok (.iaload, 1) := dk_46 (dk_at dksX7_livesWeek_5 19 rfl rfl)
theorem dX7_livesWeek_136 : decode cX7_livesWeek 136 = .ok (.iconst 1, 1) := dk_4 (dk_at dksX7_livesWeek_5 20 rfl rfl)
theorem dX7_livesWeek_137 : decode cX7_livesWeek 137 = .ok (.iadd, 1) := dk_96 (dk_at dksX7_livesWeek_5 21 rfl rfl)
theorem dX7_livesWeek_138 : decode cX7_livesWeek 138 = .ok (.iastore, 1) := dk_79 (dk_at dksX7_livesWeek_5 22 rfl rfl)
theorem dX7_livesWeek_139 : decode cX7_livesWeek 139 = .ok (.iload_n 1, 1) := dk_27 (dk_at dksX7_livesWeek_5 23 rfl rfl)
theorem dX7_livesWeek_140 : decode cX7_livesWeek 140 = .ok (.ireturn, 1) := dk_172 (dk_at dksX7_livesWeek_6 0 rfl rfl)
abbrev cX7_allThick : ByteArray := prog_32_method_101_code
abbrev yX7_allThick : MethodName := { cls := "WornSkinModel", name := "allThick", desc := "()I" }
def dkwX7_allThick_0 : List UInt8 := [42, 180, 0, 120, 4, 46, 42, 180, 0, 120, 5, 46, 96, 42, 180, 0, 120, 6, 46, 96, 172]
abbrev dktX7_allThick_0 : List UInt8 := dkwX7_allThick_0 ++ []
theorem dksX7_allThick_0 : cX7_allThick.data.toList.drop 0 = dktX7_allThick_0 := by decide +kernel
theorem dX7_allThick_0 : decode cX7_allThick 0 = .ok (.aload_n 0, 1) := dk_42 (dk_at dksX7_allThick_0 0 rfl rfl)
theorem dX7_allThick_1 : decode cX7_allThick 1 = .ok (.getfield 120, 3) := dk_180 0 120 (dk_at dksX7_allThick_0 1 rfl rfl)
theorem dX7_allThick_4 : decode cX7_allThick 4 = .ok (.iconst 1, 1) := dk_4 (dk_at dksX7_allThick_0 4 rfl rfl)
theorem dX7_allThick_5 : decode cX7_allThick 5 = .ok (.iaload, 1) := dk_46 (dk_at dksX7_allThick_0 5 rfl rfl)
theorem dX7_allThick_6 : decode cX7_allThick 6 = .ok (.aload_n 0, 1) := dk_42 (dk_at dksX7_allThick_0 6 rfl rfl)
theorem dX7_allThick_7 : decode cX7_allThick 7 = .ok (.getfield 120, 3) := dk_180 0 120 (dk_at dksX7_allThick_0 7 rfl rfl)
theorem dX7_allThick_10 : decode cX7_allThick 10 = .ok (.iconst 2, 1) := dk_5 (dk_at dksX7_allThick_0 10 rfl rfl)
theorem dX7_allThick_11 : decode cX7_allThick 11 = .ok (.iaload, 1) := dk_46 (dk_at dksX7_allThick_0 11 rfl rfl)
theorem dX7_allThick_12 : decode cX7_allThick 12 = .ok (.iadd, 1) := dk_96 (dk_at dksX7_allThick_0 12 rfl rfl)
theorem dX7_allThick_13 : decode cX7_allThick 13 = .ok (.aload_n 0, 1) := dk_42 (dk_at dksX7_allThick_0 13 rfl rfl)
theorem dX7_allThick_14 : decode cX7_allThick 14 = .ok (.getfield 120, 3) := dk_180 0 120 (dk_at dksX7_allThick_0 14 rfl rfl)
theorem dX7_allThick_17 : decode cX7_allThick 17 = .ok (.iconst 3, 1) := dk_6 (dk_at dksX7_allThick_0 17 rfl rfl)
theorem dX7_allThick_18 : decode cX7_allThick 18 = .ok (.iaload, 1) := dk_46 (dk_at dksX7_allThick_0 18 rfl rfl)
theorem dX7_allThick_19 : decode cX7_allThick 19 = .ok (.iadd, 1) := dk_96 (dk_at dksX7_allThick_0 19 rfl rfl)
theorem dX7_allThick_20 : decode cX7_allThick 20 = .ok (.ireturn, 1) := dk_172 (dk_at dksX7_allThick_0 20 rfl rfl)
abbrev cX7_years : ByteArray := prog_32_method_102_code
abbrev yX7_years : MethodName := { cls := "WornSkinModel", name := "years", desc := "(III)I" }
def dkwX7_years_5 : List UInt8 := [154, 0, 8, 21, 4, 167, 0, 15, 29, 4, 160, 0, 8, 21, 5, 167, 0, 5, 21, 6, 172]
abbrev dktX7_years_5 : List UInt8 := dkwX7_years_5 ++ []
def dkwX7_years_4 : List UInt8 := [54, 5, 42, 182, 1, 223, 54, 6, 42, 180, 0, 123, 3, 42, 180, 0, 120, 3, 184, 1, 149, 29]
abbrev dktX7_years_4 : List UInt8 := dkwX7_years_4 ++ dktX7_years_5
def dkwX7_years_3 : List UInt8 := [182, 1, 220, 153, 0, 7, 4, 167, 0, 4, 3, 96, 54, 4, 132, 5, 1, 167, 255, 230, 42, 182, 1, 134]
abbrev dktX7_years_3 : List UInt8 := dkwX7_years_3 ++ dktX7_years_4
def dkwX7_years_2 : List UInt8 := [3, 42, 180, 0, 123, 3, 184, 1, 149, 3, 54, 4, 3, 54, 5, 21, 5, 28, 162, 0, 26, 21, 4, 42]
abbrev dktX7_years_2 : List UInt8 := dkwX7_years_2 ++ dktX7_years_3
def dkwX7_years_1 : List UInt8 := [153, 0, 12, 29, 3, 5, 184, 1, 9, 154, 0, 5, 2, 172, 42, 27, 133, 181, 1, 206, 42, 180, 0, 120]
abbrev dktX7_years_1 : List UInt8 := dkwX7_years_1 ++ dktX7_years_2
def dkwX7_years_0 : List UInt8 := [42, 3, 181, 0, 144, 27, 3, 17, 39, 15, 184, 1, 9, 153, 0, 22, 28, 4, 16, 99, 184, 1, 9]
abbrev dktX7_years_0 : List UInt8 := dkwX7_years_0 ++ dktX7_years_1
theorem dksX7_years_0 : cX7_years.data.toList.drop 0 = dktX7_years_0 := by decide +kernel
theorem dksX7_years_1 : cX7_years.data.toList.drop 23 = dktX7_years_1 := dk_seg dksX7_years_0 23 rfl rfl
theorem dksX7_years_2 : cX7_years.data.toList.drop 47 = dktX7_years_2 := dk_seg dksX7_years_1 24 rfl rfl
theorem dksX7_years_3 : cX7_years.data.toList.drop 71 = dktX7_years_3 := dk_seg dksX7_years_2 24 rfl rfl
theorem dksX7_years_4 : cX7_years.data.toList.drop 95 = dktX7_years_4 := dk_seg dksX7_years_3 24 rfl rfl
theorem dksX7_years_5 : cX7_years.data.toList.drop 117 = dktX7_years_5 := dk_seg dksX7_years_4 22 rfl rfl
theorem dX7_years_0 : decode cX7_years 0 = .ok (.aload_n 0, 1) := dk_42 (dk_at dksX7_years_0 0 rfl rfl)
theorem dX7_years_1 : decode cX7_years 1 = .ok (.iconst 0, 1) := dk_3 (dk_at dksX7_years_0 1 rfl rfl)
theorem dX7_years_2 : decode cX7_years 2 = .ok (.putfield 144, 3) := dk_181 0 144 (dk_at dksX7_years_0 2 rfl rfl)
theorem dX7_years_5 : decode cX7_years 5 = .ok (.iload_n 1, 1) := dk_27 (dk_at dksX7_years_0 5 rfl rfl)
theorem dX7_years_6 : decode cX7_years 6 = .ok (.iconst 0, 1) := dk_3 (dk_at dksX7_years_0 6 rfl rfl)
theorem dX7_years_7 : decode cX7_years 7 = .ok (.sipush 9999, 3) := dk_17 39 15 (dk_at dksX7_years_0 7 rfl rfl)
theorem dX7_years_10 : decode cX7_years 10 = .ok (.invokestatic 265, 3) := dk_184 1 9 (dk_at dksX7_years_0 10 rfl rfl)
theorem dX7_years_13 : decode cX7_years 13 = .ok (.ifCond .eq 22, 3) := dk_153 0 22 (dk_at dksX7_years_0 13 rfl rfl)
theorem dX7_years_16 : decode cX7_years 16 = .ok (.iload_n 2, 1) := dk_28 (dk_at dksX7_years_0 16 rfl rfl)
theorem dX7_years_17 : decode cX7_years 17 = .ok (.iconst 1, 1) := dk_4 (dk_at dksX7_years_0 17 rfl rfl)
theorem dX7_years_18 : decode cX7_years 18 = .ok (.bipush 99, 2) := dk_16 99 (dk_at dksX7_years_0 18 rfl rfl)
theorem dX7_years_20 : decode cX7_years 20 = .ok (.invokestatic 265, 3) := dk_184 1 9 (dk_at dksX7_years_0 20 rfl rfl)
theorem dX7_years_23 : decode cX7_years 23 = .ok (.ifCond .eq 12, 3) := dk_153 0 12 (dk_at dksX7_years_1 0 rfl rfl)
theorem dX7_years_26 : decode cX7_years 26 = .ok (.iload_n 3, 1) := dk_29 (dk_at dksX7_years_1 3 rfl rfl)
theorem dX7_years_27 : decode cX7_years 27 = .ok (.iconst 0, 1) := dk_3 (dk_at dksX7_years_1 4 rfl rfl)
theorem dX7_years_28 : decode cX7_years 28 = .ok (.iconst 2, 1) := dk_5 (dk_at dksX7_years_1 5 rfl rfl)
theorem dX7_years_29 : decode cX7_years 29 = .ok (.invokestatic 265, 3) := dk_184 1 9 (dk_at dksX7_years_1 6 rfl rfl)
theorem dX7_years_32 : decode cX7_years 32 = .ok (.ifCond .ne 5, 3) := dk_154 0 5 (dk_at dksX7_years_1 9 rfl rfl)
theorem dX7_years_35 : decode cX7_years 35 = .ok (.iconst (-1), 1) := dk_2 (dk_at dksX7_years_1 12 rfl rfl)
theorem dX7_years_36 : decode cX7_years 36 = .ok (.ireturn, 1) := dk_172 (dk_at dksX7_years_1 13 rfl rfl)
theorem dX7_years_37 : decode cX7_years 37 = .ok (.aload_n 0, 1) := dk_42 (dk_at dksX7_years_1 14 rfl rfl)
theorem dX7_years_38 : decode cX7_years 38 = .ok (.iload_n 1, 1) := dk_27 (dk_at dksX7_years_1 15 rfl rfl)
theorem dX7_years_39 : decode cX7_years 39 = .ok (.i2l, 1) := dk_133 (dk_at dksX7_years_1 16 rfl rfl)
theorem dX7_years_40 : decode cX7_years 40 = .ok (.putfield 462, 3) := dk_181 1 206 (dk_at dksX7_years_1 17 rfl rfl)
theorem dX7_years_43 : decode cX7_years 43 = .ok (.aload_n 0, 1) := dk_42 (dk_at dksX7_years_1 20 rfl rfl)
theorem dX7_years_44 : decode cX7_years 44 = .ok (.getfield 120, 3) := dk_180 0 120 (dk_at dksX7_years_1 21 rfl rfl)
theorem dX7_years_47 : decode cX7_years 47 = .ok (.iconst 0, 1) := dk_3 (dk_at dksX7_years_2 0 rfl rfl)
theorem dX7_years_48 : decode cX7_years 48 = .ok (.aload_n 0, 1) := dk_42 (dk_at dksX7_years_2 1 rfl rfl)
theorem dX7_years_49 : decode cX7_years 49 = .ok (.getfield 123, 3) := dk_180 0 123 (dk_at dksX7_years_2 2 rfl rfl)
theorem dX7_years_52 : decode cX7_years 52 = .ok (.iconst 0, 1) := dk_3 (dk_at dksX7_years_2 5 rfl rfl)
theorem dX7_years_53 : decode cX7_years 53 = .ok (.invokestatic 405, 3) := dk_184 1 149 (dk_at dksX7_years_2 6 rfl rfl)
theorem dX7_years_56 : decode cX7_years 56 = .ok (.iconst 0, 1) := dk_3 (dk_at dksX7_years_2 9 rfl rfl)
theorem dX7_years_57 : decode cX7_years 57 = .ok (.istore 4, 2) := dk_54 4 (dk_at dksX7_years_2 10 rfl rfl)
theorem dX7_years_59 : decode cX7_years 59 = .ok (.iconst 0, 1) := dk_3 (dk_at dksX7_years_2 12 rfl rfl)
theorem dX7_years_60 : decode cX7_years 60 = .ok (.istore 5, 2) := dk_54 5 (dk_at dksX7_years_2 13 rfl rfl)
theorem dX7_years_62 : decode cX7_years 62 = .ok (.iload 5, 2) := dk_21 5 (dk_at dksX7_years_2 15 rfl rfl)
theorem dX7_years_64 : decode cX7_years 64 = .ok (.iload_n 2, 1) := dk_28 (dk_at dksX7_years_2 17 rfl rfl)
theorem dX7_years_65 : decode cX7_years 65 = .ok (.if_icmp .ge 26, 3) := dk_162 0 26 (dk_at dksX7_years_2 18 rfl rfl)
theorem dX7_years_68 : decode cX7_years 68 = .ok (.iload 4, 2) := dk_21 4 (dk_at dksX7_years_2 21 rfl rfl)
theorem dX7_years_70 : decode cX7_years 70 = .ok (.aload_n 0, 1) := dk_42 (dk_at dksX7_years_2 23 rfl rfl)
theorem dX7_years_71 : decode cX7_years 71 = .ok (.invokevirtual 476, 3) := dk_182 1 220 (dk_at dksX7_years_3 0 rfl rfl)
theorem dX7_years_74 : decode cX7_years 74 = .ok (.ifCond .eq 7, 3) := dk_153 0 7 (dk_at dksX7_years_3 3 rfl rfl)
theorem dX7_years_77 : decode cX7_years 77 = .ok (.iconst 1, 1) := dk_4 (dk_at dksX7_years_3 6 rfl rfl)
theorem dX7_years_78 : decode cX7_years 78 = .ok (.goto 4, 3) := dk_167 0 4 (dk_at dksX7_years_3 7 rfl rfl)
theorem dX7_years_81 : decode cX7_years 81 = .ok (.iconst 0, 1) := dk_3 (dk_at dksX7_years_3 10 rfl rfl)
theorem dX7_years_82 : decode cX7_years 82 = .ok (.iadd, 1) := dk_96 (dk_at dksX7_years_3 11 rfl rfl)
theorem dX7_years_83 : decode cX7_years 83 = .ok (.istore 4, 2) := dk_54 4 (dk_at dksX7_years_3 12 rfl rfl)
theorem dX7_years_85 : decode cX7_years 85 = .ok (.iinc 5 1, 3) := dk_132 5 1 (dk_at dksX7_years_3 14 rfl rfl)
theorem dX7_years_88 : decode cX7_years 88 = .ok (.goto (-26), 3) := dk_167 255 230 (dk_at dksX7_years_3 17 rfl rfl)
theorem dX7_years_91 : decode cX7_years 91 = .ok (.aload_n 0, 1) := dk_42 (dk_at dksX7_years_3 20 rfl rfl)
theorem dX7_years_92 : decode cX7_years 92 = .ok (.invokevirtual 390, 3) := dk_182 1 134 (dk_at dksX7_years_3 21 rfl rfl)
theorem dX7_years_95 : decode cX7_years 95 = .ok (.istore 5, 2) := dk_54 5 (dk_at dksX7_years_4 0 rfl rfl)
theorem dX7_years_97 : decode cX7_years 97 = .ok (.aload_n 0, 1) := dk_42 (dk_at dksX7_years_4 2 rfl rfl)
theorem dX7_years_98 : decode cX7_years 98 = .ok (.invokevirtual 479, 3) := dk_182 1 223 (dk_at dksX7_years_4 3 rfl rfl)
theorem dX7_years_101 : decode cX7_years 101 = .ok (.istore 6, 2) := dk_54 6 (dk_at dksX7_years_4 6 rfl rfl)
theorem dX7_years_103 : decode cX7_years 103 = .ok (.aload_n 0, 1) := dk_42 (dk_at dksX7_years_4 8 rfl rfl)
theorem dX7_years_104 : decode cX7_years 104 = .ok (.getfield 123, 3) := dk_180 0 123 (dk_at dksX7_years_4 9 rfl rfl)
theorem dX7_years_107 : decode cX7_years 107 = .ok (.iconst 0, 1) := dk_3 (dk_at dksX7_years_4 12 rfl rfl)
theorem dX7_years_108 : decode cX7_years 108 = .ok (.aload_n 0, 1) := dk_42 (dk_at dksX7_years_4 13 rfl rfl)
theorem dX7_years_109 : decode cX7_years 109 = .ok (.getfield 120, 3) := dk_180 0 120 (dk_at dksX7_years_4 14 rfl rfl)
theorem dX7_years_112 : decode cX7_years 112 = .ok (.iconst 0, 1) := dk_3 (dk_at dksX7_years_4 17 rfl rfl)
theorem dX7_years_113 : decode cX7_years 113 = .ok (.invokestatic 405, 3) := dk_184 1 149 (dk_at dksX7_years_4 18 rfl rfl)
theorem dX7_years_116 : decode cX7_years 116 = .ok (.iload_n 3, 1) := dk_29 (dk_at dksX7_years_4 21 rfl rfl)
theorem dX7_years_117 : decode cX7_years 117 = .ok (.ifCond .ne 8, 3) := dk_154 0 8 (dk_at dksX7_years_5 0 rfl rfl)
theorem dX7_years_120 : decode cX7_years 120 = .ok (.iload 4, 2) := dk_21 4 (dk_at dksX7_years_5 3 rfl rfl)
theorem dX7_years_122 : decode cX7_years 122 = .ok (.goto 15, 3) := dk_167 0 15 (dk_at dksX7_years_5 5 rfl rfl)
theorem dX7_years_125 : decode cX7_years 125 = .ok (.iload_n 3, 1) := dk_29 (dk_at dksX7_years_5 8 rfl rfl)
theorem dX7_years_126 : decode cX7_years 126 = .ok (.iconst 1, 1) := dk_4 (dk_at dksX7_years_5 9 rfl rfl)
theorem dX7_years_127 : decode cX7_years 127 = .ok (.if_icmp .ne 8, 3) := dk_160 0 8 (dk_at dksX7_years_5 10 rfl rfl)
theorem dX7_years_130 : decode cX7_years 130 = .ok (.iload 5, 2) := dk_21 5 (dk_at dksX7_years_5 13 rfl rfl)
theorem dX7_years_132 : decode cX7_years 132 = .ok (.goto 5, 3) := dk_167 0 5 (dk_at dksX7_years_5 15 rfl rfl)
theorem dX7_years_135 : decode cX7_years 135 = .ok (.iload 6, 2) := dk_21 6 (dk_at dksX7_years_5 18 rfl rfl)
theorem dX7_years_137 : decode cX7_years 137 = .ok (.ireturn, 1) := dk_172 (dk_at dksX7_years_5 20 rfl rfl)
abbrev cX7_laysSeen : ByteArray := prog_32_method_40_code
abbrev yX7_laysSeen : MethodName := { cls := "WornSkinModel", name := "laysSeen", desc := "(II)V" }
def dkwX7_laysSeen_4 : List UInt8 := [42, 180, 0, 117, 16, 8, 27, 104, 29, 96, 51, 84, 132, 3, 1, 167, 255, 159, 177]
abbrev dktX7_laysSeen_4 : List UInt8 := dkwX7_laysSeen_4 ++ []
def dkwX7_laysSeen_3 : List UInt8 := [29, 96, 42, 180, 0, 114, 16, 8, 27, 104, 29, 96, 46, 79, 42, 180, 0, 117, 16, 8, 28, 104, 29, 96]
abbrev dktX7_laysSeen_3 : List UInt8 := dkwX7_laysSeen_3 ++ dktX7_laysSeen_4
def dkwX7_laysSeen_2 : List UInt8 := [28, 104, 29, 96, 42, 180, 0, 111, 16, 8, 27, 104, 29, 96, 46, 79, 42, 180, 0, 114, 16, 8, 28, 104]
abbrev dktX7_laysSeen_2 : List UInt8 := dkwX7_laysSeen_2 ++ dktX7_laysSeen_3
def dkwX7_laysSeen_1 : List UInt8 := [16, 8, 28, 104, 29, 96, 42, 180, 0, 108, 16, 8, 27, 104, 29, 96, 46, 79, 42, 180, 0, 111, 16, 8]
abbrev dktX7_laysSeen_1 : List UInt8 := dkwX7_laysSeen_1 ++ dktX7_laysSeen_2
def dkwX7_laysSeen_0 : List UInt8 := [42, 180, 0, 105, 28, 42, 180, 0, 105, 27, 46, 79, 3, 62, 29, 16, 8, 162, 0, 97, 42, 180, 0, 108]
abbrev dktX7_laysSeen_0 : List UInt8 := dkwX7_laysSeen_0 ++ dktX7_laysSeen_1
theorem dksX7_laysSeen_0 : cX7_laysSeen.data.toList.drop 0 = dktX7_laysSeen_0 := by decide +kernel
theorem dksX7_laysSeen_1 : cX7_laysSeen.data.toList.drop 24 = dktX7_laysSeen_1 := dk_seg dksX7_laysSeen_0 24 rfl rfl
theorem dksX7_laysSeen_2 : cX7_laysSeen.data.toList.drop 48 = dktX7_laysSeen_2 := dk_seg dksX7_laysSeen_1 24 rfl rfl
theorem dksX7_laysSeen_3 : cX7_laysSeen.data.toList.drop 72 = dktX7_laysSeen_3 := dk_seg dksX7_laysSeen_2 24 rfl rfl
theorem dksX7_laysSeen_4 : cX7_laysSeen.data.toList.drop 96 = dktX7_laysSeen_4 := dk_seg dksX7_laysSeen_3 24 rfl rfl
theorem dX7_laysSeen_0 : decode cX7_laysSeen 0 = .ok (.aload_n 0, 1) := dk_42 (dk_at dksX7_laysSeen_0 0 rfl rfl)
theorem dX7_laysSeen_1 : decode cX7_laysSeen 1 = .ok (.getfield 105, 3) := dk_180 0 105 (dk_at dksX7_laysSeen_0 1 rfl rfl)
theorem dX7_laysSeen_4 : decode cX7_laysSeen 4 = .ok (.iload_n 2, 1) := dk_28 (dk_at dksX7_laysSeen_0 4 rfl rfl)
theorem dX7_laysSeen_5 : decode cX7_laysSeen 5 = .ok (.aload_n 0, 1) := dk_42 (dk_at dksX7_laysSeen_0 5 rfl rfl)
theorem dX7_laysSeen_6 : decode cX7_laysSeen 6 = .ok (.getfield 105, 3) := dk_180 0 105 (dk_at dksX7_laysSeen_0 6 rfl rfl)
theorem dX7_laysSeen_9 : decode cX7_laysSeen 9 = .ok (.iload_n 1, 1) := dk_27 (dk_at dksX7_laysSeen_0 9 rfl rfl)
theorem dX7_laysSeen_10 : decode cX7_laysSeen 10 = .ok (.iaload, 1) := dk_46 (dk_at dksX7_laysSeen_0 10 rfl rfl)
theorem dX7_laysSeen_11 : decode cX7_laysSeen 11 = .ok (.iastore, 1) := dk_79 (dk_at dksX7_laysSeen_0 11 rfl rfl)
theorem dX7_laysSeen_12 : decode cX7_laysSeen 12 = .ok (.iconst 0, 1) := dk_3 (dk_at dksX7_laysSeen_0 12 rfl rfl)
theorem dX7_laysSeen_13 : decode cX7_laysSeen 13 = .ok (.istore_n 3, 1) := dk_62 (dk_at dksX7_laysSeen_0 13 rfl rfl)
theorem dX7_laysSeen_14 : decode cX7_laysSeen 14 = .ok (.iload_n 3, 1) := dk_29 (dk_at dksX7_laysSeen_0 14 rfl rfl)
theorem dX7_laysSeen_15 : decode cX7_laysSeen 15 = .ok (.bipush 8, 2) := dk_16 8 (dk_at dksX7_laysSeen_0 15 rfl rfl)
theorem dX7_laysSeen_17 : decode cX7_laysSeen 17 = .ok (.if_icmp .ge 97, 3) := dk_162 0 97 (dk_at dksX7_laysSeen_0 17 rfl rfl)
theorem dX7_laysSeen_20 : decode cX7_laysSeen 20 = .ok (.aload_n 0, 1) := dk_42 (dk_at dksX7_laysSeen_0 20 rfl rfl)
theorem dX7_laysSeen_21 : decode cX7_laysSeen 21 = .ok (.getfield 108, 3) := dk_180 0 108 (dk_at dksX7_laysSeen_0 21 rfl rfl)
theorem dX7_laysSeen_24 : decode cX7_laysSeen 24 = .ok (.bipush 8, 2) := dk_16 8 (dk_at dksX7_laysSeen_1 0 rfl rfl)
theorem dX7_laysSeen_26 : decode cX7_laysSeen 26 = .ok (.iload_n 2, 1) := dk_28 (dk_at dksX7_laysSeen_1 2 rfl rfl)
theorem dX7_laysSeen_27 : decode cX7_laysSeen 27 = .ok (.imul, 1) := dk_104 (dk_at dksX7_laysSeen_1 3 rfl rfl)
theorem dX7_laysSeen_28 : decode cX7_laysSeen 28 = .ok (.iload_n 3, 1) := dk_29 (dk_at dksX7_laysSeen_1 4 rfl rfl)
theorem dX7_laysSeen_29 : decode cX7_laysSeen 29 = .ok (.iadd, 1) := dk_96 (dk_at dksX7_laysSeen_1 5 rfl rfl)
theorem dX7_laysSeen_30 : decode cX7_laysSeen 30 = .ok (.aload_n 0, 1) := dk_42 (dk_at dksX7_laysSeen_1 6 rfl rfl)
theorem dX7_laysSeen_31 : decode cX7_laysSeen 31 = .ok (.getfield 108, 3) := dk_180 0 108 (dk_at dksX7_laysSeen_1 7 rfl rfl)
theorem dX7_laysSeen_34 : decode cX7_laysSeen 34 = .ok (.bipush 8, 2) := dk_16 8 (dk_at dksX7_laysSeen_1 10 rfl rfl)
theorem dX7_laysSeen_36 : decode cX7_laysSeen 36 = .ok (.iload_n 1, 1) := dk_27 (dk_at dksX7_laysSeen_1 12 rfl rfl)
theorem dX7_laysSeen_37 : decode cX7_laysSeen 37 = .ok (.imul, 1) := dk_104 (dk_at dksX7_laysSeen_1 13 rfl rfl)
theorem dX7_laysSeen_38 : decode cX7_laysSeen 38 = .ok (.iload_n 3, 1) := dk_29 (dk_at dksX7_laysSeen_1 14 rfl rfl)
theorem dX7_laysSeen_39 : decode cX7_laysSeen 39 = .ok (.iadd, 1) := dk_96 (dk_at dksX7_laysSeen_1 15 rfl rfl)
theorem dX7_laysSeen_40 : decode cX7_laysSeen 40 = .ok (.iaload, 1) := dk_46 (dk_at dksX7_laysSeen_1 16 rfl rfl)
theorem dX7_laysSeen_41 : decode cX7_laysSeen 41 = .ok (.iastore, 1) := dk_79 (dk_at dksX7_laysSeen_1 17 rfl rfl)
theorem dX7_laysSeen_42 : decode cX7_laysSeen 42 = .ok (.aload_n 0, 1) := dk_42 (dk_at dksX7_laysSeen_1 18 rfl rfl)
theorem dX7_laysSeen_43 : decode cX7_laysSeen 43 = .ok (.getfield 111, 3) := dk_180 0 111 (dk_at dksX7_laysSeen_1 19 rfl rfl)
theorem dX7_laysSeen_46 : decode cX7_laysSeen 46 = .ok (.bipush 8, 2) := dk_16 8 (dk_at dksX7_laysSeen_1 22 rfl rfl)
theorem dX7_laysSeen_48 : decode cX7_laysSeen 48 = .ok (.iload_n 2, 1) := dk_28 (dk_at dksX7_laysSeen_2 0 rfl rfl)
theorem dX7_laysSeen_49 : decode cX7_laysSeen 49 = .ok (.imul, 1) := dk_104 (dk_at dksX7_laysSeen_2 1 rfl rfl)
theorem dX7_laysSeen_50 : decode cX7_laysSeen 50 = .ok (.iload_n 3, 1) := dk_29 (dk_at dksX7_laysSeen_2 2 rfl rfl)
theorem dX7_laysSeen_51 : decode cX7_laysSeen 51 = .ok (.iadd, 1) := dk_96 (dk_at dksX7_laysSeen_2 3 rfl rfl)
theorem dX7_laysSeen_52 : decode cX7_laysSeen 52 = .ok (.aload_n 0, 1) := dk_42 (dk_at dksX7_laysSeen_2 4 rfl rfl)
theorem dX7_laysSeen_53 : decode cX7_laysSeen 53 = .ok (.getfield 111, 3) := dk_180 0 111 (dk_at dksX7_laysSeen_2 5 rfl rfl)
theorem dX7_laysSeen_56 : decode cX7_laysSeen 56 = .ok (.bipush 8, 2) := dk_16 8 (dk_at dksX7_laysSeen_2 8 rfl rfl)
theorem dX7_laysSeen_58 : decode cX7_laysSeen 58 = .ok (.iload_n 1, 1) := dk_27 (dk_at dksX7_laysSeen_2 10 rfl rfl)
theorem dX7_laysSeen_59 : decode cX7_laysSeen 59 = .ok (.imul, 1) := dk_104 (dk_at dksX7_laysSeen_2 11 rfl rfl)
theorem dX7_laysSeen_60 : decode cX7_laysSeen 60 = .ok (.iload_n 3, 1) := dk_29 (dk_at dksX7_laysSeen_2 12 rfl rfl)
theorem dX7_laysSeen_61 : decode cX7_laysSeen 61 = .ok (.iadd, 1) := dk_96 (dk_at dksX7_laysSeen_2 13 rfl rfl)
theorem dX7_laysSeen_62 : decode cX7_laysSeen 62 = .ok (.iaload, 1) := dk_46 (dk_at dksX7_laysSeen_2 14 rfl rfl)
theorem dX7_laysSeen_63 : decode cX7_laysSeen 63 = .ok (.iastore, 1) := dk_79 (dk_at dksX7_laysSeen_2 15 rfl rfl)
theorem dX7_laysSeen_64 : decode cX7_laysSeen 64 = .ok (.aload_n 0, 1) := dk_42 (dk_at dksX7_laysSeen_2 16 rfl rfl)
theorem dX7_laysSeen_65 : decode cX7_laysSeen 65 = .ok (.getfield 114, 3) := dk_180 0 114 (dk_at dksX7_laysSeen_2 17 rfl rfl)
theorem dX7_laysSeen_68 : decode cX7_laysSeen 68 = .ok (.bipush 8, 2) := dk_16 8 (dk_at dksX7_laysSeen_2 20 rfl rfl)
theorem dX7_laysSeen_70 : decode cX7_laysSeen 70 = .ok (.iload_n 2, 1) := dk_28 (dk_at dksX7_laysSeen_2 22 rfl rfl)
theorem dX7_laysSeen_71 : decode cX7_laysSeen 71 = .ok (.imul, 1) := dk_104 (dk_at dksX7_laysSeen_2 23 rfl rfl)
theorem dX7_laysSeen_72 : decode cX7_laysSeen 72 = .ok (.iload_n 3, 1) := dk_29 (dk_at dksX7_laysSeen_3 0 rfl rfl)
theorem dX7_laysSeen_73 : decode cX7_laysSeen 73 = .ok (.iadd, 1) := dk_96 (dk_at dksX7_laysSeen_3 1 rfl rfl)
theorem dX7_laysSeen_74 : decode cX7_laysSeen 74 = .ok (.aload_n 0, 1) := dk_42 (dk_at dksX7_laysSeen_3 2 rfl rfl)
theorem dX7_laysSeen_75 : decode cX7_laysSeen 75 = .ok (.getfield 114, 3) := dk_180 0 114 (dk_at dksX7_laysSeen_3 3 rfl rfl)
theorem dX7_laysSeen_78 : decode cX7_laysSeen 78 = .ok (.bipush 8, 2) := dk_16 8 (dk_at dksX7_laysSeen_3 6 rfl rfl)
theorem dX7_laysSeen_80 : decode cX7_laysSeen 80 = .ok (.iload_n 1, 1) := dk_27 (dk_at dksX7_laysSeen_3 8 rfl rfl)
theorem dX7_laysSeen_81 : decode cX7_laysSeen 81 = .ok (.imul, 1) := dk_104 (dk_at dksX7_laysSeen_3 9 rfl rfl)
theorem dX7_laysSeen_82 : decode cX7_laysSeen 82 = .ok (.iload_n 3, 1) := dk_29 (dk_at dksX7_laysSeen_3 10 rfl rfl)
theorem dX7_laysSeen_83 : decode cX7_laysSeen 83 = .ok (.iadd, 1) := dk_96 (dk_at dksX7_laysSeen_3 11 rfl rfl)
theorem dX7_laysSeen_84 : decode cX7_laysSeen 84 = .ok (.iaload, 1) := dk_46 (dk_at dksX7_laysSeen_3 12 rfl rfl)
theorem dX7_laysSeen_85 : decode cX7_laysSeen 85 = .ok (.iastore, 1) := dk_79 (dk_at dksX7_laysSeen_3 13 rfl rfl)
theorem dX7_laysSeen_86 : decode cX7_laysSeen 86 = .ok (.aload_n 0, 1) := dk_42 (dk_at dksX7_laysSeen_3 14 rfl rfl)
theorem dX7_laysSeen_87 : decode cX7_laysSeen 87 = .ok (.getfield 117, 3) := dk_180 0 117 (dk_at dksX7_laysSeen_3 15 rfl rfl)
theorem dX7_laysSeen_90 : decode cX7_laysSeen 90 = .ok (.bipush 8, 2) := dk_16 8 (dk_at dksX7_laysSeen_3 18 rfl rfl)
theorem dX7_laysSeen_92 : decode cX7_laysSeen 92 = .ok (.iload_n 2, 1) := dk_28 (dk_at dksX7_laysSeen_3 20 rfl rfl)
theorem dX7_laysSeen_93 : decode cX7_laysSeen 93 = .ok (.imul, 1) := dk_104 (dk_at dksX7_laysSeen_3 21 rfl rfl)
theorem dX7_laysSeen_94 : decode cX7_laysSeen 94 = .ok (.iload_n 3, 1) := dk_29 (dk_at dksX7_laysSeen_3 22 rfl rfl)
theorem dX7_laysSeen_95 : decode cX7_laysSeen 95 = .ok (.iadd, 1) := dk_96 (dk_at dksX7_laysSeen_3 23 rfl rfl)
theorem dX7_laysSeen_96 : decode cX7_laysSeen 96 = .ok (.aload_n 0, 1) := dk_42 (dk_at dksX7_laysSeen_4 0 rfl rfl)
theorem dX7_laysSeen_97 : decode cX7_laysSeen 97 = .ok (.getfield 117, 3) := dk_180 0 117 (dk_at dksX7_laysSeen_4 1 rfl rfl)
theorem dX7_laysSeen_100 : decode cX7_laysSeen 100 = .ok (.bipush 8, 2) := dk_16 8 (dk_at dksX7_laysSeen_4 4 rfl rfl)
theorem dX7_laysSeen_102 : decode cX7_laysSeen 102 = .ok (.iload_n 1, 1) := dk_27 (dk_at dksX7_laysSeen_4 6 rfl rfl)
theorem dX7_laysSeen_103 : decode cX7_laysSeen 103 = .ok (.imul, 1) := dk_104 (dk_at dksX7_laysSeen_4 7 rfl rfl)
theorem dX7_laysSeen_104 : decode cX7_laysSeen 104 = .ok (.iload_n 3, 1) := dk_29 (dk_at dksX7_laysSeen_4 8 rfl rfl)
theorem dX7_laysSeen_105 : decode cX7_laysSeen 105 = .ok (.iadd, 1) := dk_96 (dk_at dksX7_laysSeen_4 9 rfl rfl)
theorem dX7_laysSeen_106 : decode cX7_laysSeen 106 = .ok (.baload, 1) := dk_51 (dk_at dksX7_laysSeen_4 10 rfl rfl)
theorem dX7_laysSeen_107 : decode cX7_laysSeen 107 = .ok (.bastore, 1) := dk_84 (dk_at dksX7_laysSeen_4 11 rfl rfl)
theorem dX7_laysSeen_108 : decode cX7_laysSeen 108 = .ok (.iinc 3 1, 3) := dk_132 3 1 (dk_at dksX7_laysSeen_4 12 rfl rfl)
theorem dX7_laysSeen_111 : decode cX7_laysSeen 111 = .ok (.goto (-97), 3) := dk_167 255 159 (dk_at dksX7_laysSeen_4 15 rfl rfl)
theorem dX7_laysSeen_114 : decode cX7_laysSeen 114 = .ok (.return_, 1) := dk_177 (dk_at dksX7_laysSeen_4 18 rfl rfl)
abbrev cX7_mark : ByteArray := prog_32_method_103_code
abbrev yX7_mark : MethodName := { cls := "WornSkinModel", name := "mark", desc := "(IZ)Z" }
def dkwX7_mark_5 : List UInt8 := [172]
abbrev dktX7_mark_5 : List UInt8 := dkwX7_mark_5 ++ []
def dkwX7_mark_4 : List UInt8 := [3, 181, 1, 87, 167, 0, 19, 42, 180, 0, 120, 3, 42, 180, 0, 129, 16, 25, 27, 104, 184, 1, 149, 4]
abbrev dktX7_mark_4 : List UInt8 := dkwX7_mark_4 ++ dktX7_mark_5
def dkwX7_mark_3 : List UInt8 := [182, 1, 226, 28, 153, 0, 27, 42, 180, 0, 129, 16, 25, 27, 104, 42, 180, 0, 120, 3, 184, 1, 149, 42]
abbrev dktX7_mark_3 : List UInt8 := dkwX7_mark_3 ++ dktX7_mark_4
def dkwX7_mark_2 : List UInt8 := [28, 153, 0, 7, 3, 167, 0, 6, 4, 27, 96, 54, 4, 42, 29, 21, 4, 182, 1, 93, 42, 29, 21, 4]
abbrev dktX7_mark_2 : List UInt8 := dkwX7_mark_2 ++ dktX7_mark_3
def dkwX7_mark_1 : List UInt8 := [154, 0, 5, 3, 172, 42, 180, 0, 135, 27, 4, 84, 28, 153, 0, 9, 4, 27, 96, 167, 0, 4, 3, 62]
abbrev dktX7_mark_1 : List UInt8 := dkwX7_mark_1 ++ dktX7_mark_2
def dkwX7_mark_0 : List UInt8 := [42, 3, 181, 0, 144, 27, 3, 6, 184, 1, 9, 153, 0, 16, 28, 153, 0, 14, 42, 180, 0, 135, 27, 51]
abbrev dktX7_mark_0 : List UInt8 := dkwX7_mark_0 ++ dktX7_mark_1
theorem dksX7_mark_0 : cX7_mark.data.toList.drop 0 = dktX7_mark_0 := by decide +kernel
theorem dksX7_mark_1 : cX7_mark.data.toList.drop 24 = dktX7_mark_1 := dk_seg dksX7_mark_0 24 rfl rfl
theorem dksX7_mark_2 : cX7_mark.data.toList.drop 48 = dktX7_mark_2 := dk_seg dksX7_mark_1 24 rfl rfl
theorem dksX7_mark_3 : cX7_mark.data.toList.drop 72 = dktX7_mark_3 := dk_seg dksX7_mark_2 24 rfl rfl
theorem dksX7_mark_4 : cX7_mark.data.toList.drop 96 = dktX7_mark_4 := dk_seg dksX7_mark_3 24 rfl rfl
theorem dksX7_mark_5 : cX7_mark.data.toList.drop 120 = dktX7_mark_5 := dk_seg dksX7_mark_4 24 rfl rfl
theorem dX7_mark_0 : decode cX7_mark 0 = .ok (.aload_n 0, 1) := dk_42 (dk_at dksX7_mark_0 0 rfl rfl)
theorem dX7_mark_1 : decode cX7_mark 1 = .ok (.iconst 0, 1) := dk_3 (dk_at dksX7_mark_0 1 rfl rfl)
theorem dX7_mark_2 : decode cX7_mark 2 = .ok (.putfield 144, 3) := dk_181 0 144 (dk_at dksX7_mark_0 2 rfl rfl)
theorem dX7_mark_5 : decode cX7_mark 5 = .ok (.iload_n 1, 1) := dk_27 (dk_at dksX7_mark_0 5 rfl rfl)
theorem dX7_mark_6 : decode cX7_mark 6 = .ok (.iconst 0, 1) := dk_3 (dk_at dksX7_mark_0 6 rfl rfl)
theorem dX7_mark_7 : decode cX7_mark 7 = .ok (.iconst 3, 1) := dk_6 (dk_at dksX7_mark_0 7 rfl rfl)
theorem dX7_mark_8 : decode cX7_mark 8 = .ok (.invokestatic 265, 3) := dk_184 1 9 (dk_at dksX7_mark_0 8 rfl rfl)
theorem dX7_mark_11 : decode cX7_mark 11 = .ok (.ifCond .eq 16, 3) := dk_153 0 16 (dk_at dksX7_mark_0 11 rfl rfl)
theorem dX7_mark_14 : decode cX7_mark 14 = .ok (.iload_n 2, 1) := dk_28 (dk_at dksX7_mark_0 14 rfl rfl)
theorem dX7_mark_15 : decode cX7_mark 15 = .ok (.ifCond .eq 14, 3) := dk_153 0 14 (dk_at dksX7_mark_0 15 rfl rfl)
theorem dX7_mark_18 : decode cX7_mark 18 = .ok (.aload_n 0, 1) := dk_42 (dk_at dksX7_mark_0 18 rfl rfl)
theorem dX7_mark_19 : decode cX7_mark 19 = .ok (.getfield 135, 3) := dk_180 0 135 (dk_at dksX7_mark_0 19 rfl rfl)
theorem dX7_mark_22 : decode cX7_mark 22 = .ok (.iload_n 1, 1) := dk_27 (dk_at dksX7_mark_0 22 rfl rfl)
theorem dX7_mark_23 : decode cX7_mark 23 = .ok (.baload, 1) := dk_51 (dk_at dksX7_mark_0 23 rfl rfl)
theorem dX7_mark_24 : decode cX7_mark 24 = .ok (.ifCond .ne 5, 3) := dk_154 0 5 (dk_at dksX7_mark_1 0 rfl rfl)
theorem dX7_mark_27 : decode cX7_mark 27 = .ok (.iconst 0, 1) := dk_3 (dk_at dksX7_mark_1 3 rfl rfl)
theorem dX7_mark_28 : decode cX7_mark 28 = .ok (.ireturn, 1) := dk_172 (dk_at dksX7_mark_1 4 rfl rfl)
theorem dX7_mark_29 : decode cX7_mark 29 = .ok (.aload_n 0, 1) := dk_42 (dk_at dksX7_mark_1 5 rfl rfl)
theorem dX7_mark_30 : decode cX7_mark 30 = .ok (.getfield 135, 3) := dk_180 0 135 (dk_at dksX7_mark_1 6 rfl rfl)
theorem dX7_mark_33 : decode cX7_mark 33 = .ok (.iload_n 1, 1) := dk_27 (dk_at dksX7_mark_1 9 rfl rfl)
theorem dX7_mark_34 : decode cX7_mark 34 = .ok (.iconst 1, 1) := dk_4 (dk_at dksX7_mark_1 10 rfl rfl)
theorem dX7_mark_35 : decode cX7_mark 35 = .ok (.bastore, 1) := dk_84 (dk_at dksX7_mark_1 11 rfl rfl)
theorem dX7_mark_36 : decode cX7_mark 36 = .ok (.iload_n 2, 1) := dk_28 (dk_at dksX7_mark_1 12 rfl rfl)
theorem dX7_mark_37 : decode cX7_mark 37 = .ok (.ifCond .eq 9, 3) := dk_153 0 9 (dk_at dksX7_mark_1 13 rfl rfl)
theorem dX7_mark_40 : decode cX7_mark 40 = .ok (.iconst 1, 1) := dk_4 (dk_at dksX7_mark_1 16 rfl rfl)
theorem dX7_mark_41 : decode cX7_mark 41 = .ok (.iload_n 1, 1) := dk_27 (dk_at dksX7_mark_1 17 rfl rfl)
theorem dX7_mark_42 : decode cX7_mark 42 = .ok (.iadd, 1) := dk_96 (dk_at dksX7_mark_1 18 rfl rfl)
theorem dX7_mark_43 : decode cX7_mark 43 = .ok (.goto 4, 3) := dk_167 0 4 (dk_at dksX7_mark_1 19 rfl rfl)
theorem dX7_mark_46 : decode cX7_mark 46 = .ok (.iconst 0, 1) := dk_3 (dk_at dksX7_mark_1 22 rfl rfl)
theorem dX7_mark_47 : decode cX7_mark 47 = .ok (.istore_n 3, 1) := dk_62 (dk_at dksX7_mark_1 23 rfl rfl)
theorem dX7_mark_48 : decode cX7_mark 48 = .ok (.iload_n 2, 1) := dk_28 (dk_at dksX7_mark_2 0 rfl rfl)
theorem dX7_mark_49 : decode cX7_mark 49 = .ok (.ifCond .eq 7, 3) := dk_153 0 7 (dk_at dksX7_mark_2 1 rfl rfl)
theorem dX7_mark_52 : decode cX7_mark 52 = .ok (.iconst 0, 1) := dk_3 (dk_at dksX7_mark_2 4 rfl rfl)
theorem dX7_mark_53 : decode cX7_mark 53 = .ok (.goto 6, 3) := dk_167 0 6 (dk_at dksX7_mark_2 5 rfl rfl)
theorem dX7_mark_56 : decode cX7_mark 56 = .ok (.iconst 1, 1) := dk_4 (dk_at dksX7_mark_2 8 rfl rfl)
theorem dX7_mark_57 : decode cX7_mark 57 = .ok (.iload_n 1, 1) := dk_27 (dk_at dksX7_mark_2 9 rfl rfl)
theorem dX7_mark_58 : decode cX7_mark 58 = .ok (.iadd, 1) := dk_96 (dk_at dksX7_mark_2 10 rfl rfl)
theorem dX7_mark_59 : decode cX7_mark 59 = .ok (.istore 4, 2) := dk_54 4 (dk_at dksX7_mark_2 11 rfl rfl)
theorem dX7_mark_61 : decode cX7_mark 61 = .ok (.aload_n 0, 1) := dk_42 (dk_at dksX7_mark_2 13 rfl rfl)
theorem dX7_mark_62 : decode cX7_mark 62 = .ok (.iload_n 3, 1) := dk_29 (dk_at dksX7_mark_2 14 rfl rfl)
theorem dX7_mark_63 : decode cX7_mark 63 = .ok (.iload 4, 2) := dk_21 4 (dk_at dksX7_mark_2 15 rfl rfl)
theorem dX7_mark_65 : decode cX7_mark 65 = .ok (.invokevirtual 349, 3) := dk_182 1 93 (dk_at dksX7_mark_2 17 rfl rfl)
theorem dX7_mark_68 : decode cX7_mark 68 = .ok (.aload_n 0, 1) := dk_42 (dk_at dksX7_mark_2 20 rfl rfl)
theorem dX7_mark_69 : decode cX7_mark 69 = .ok (.iload_n 3, 1) := dk_29 (dk_at dksX7_mark_2 21 rfl rfl)
theorem dX7_mark_70 : decode cX7_mark 70 = .ok (.iload 4, 2) := dk_21 4 (dk_at dksX7_mark_2 22 rfl rfl)
theorem dX7_mark_72 : decode cX7_mark 72 = .ok (.invokevirtual 482, 3) := dk_182 1 226 (dk_at dksX7_mark_3 0 rfl rfl)
theorem dX7_mark_75 : decode cX7_mark 75 = .ok (.iload_n 2, 1) := dk_28 (dk_at dksX7_mark_3 3 rfl rfl)
theorem dX7_mark_76 : decode cX7_mark 76 = .ok (.ifCond .eq 27, 3) := dk_153 0 27 (dk_at dksX7_mark_3 4 rfl rfl)
theorem dX7_mark_79 : decode cX7_mark 79 = .ok (.aload_n 0, 1) := dk_42 (dk_at dksX7_mark_3 7 rfl rfl)
theorem dX7_mark_80 : decode cX7_mark 80 = .ok (.getfield 129, 3) := dk_180 0 129 (dk_at dksX7_mark_3 8 rfl rfl)
theorem dX7_mark_83 : decode cX7_mark 83 = .ok (.bipush 25, 2) := dk_16 25 (dk_at dksX7_mark_3 11 rfl rfl)
theorem dX7_mark_85 : decode cX7_mark 85 = .ok (.iload_n 1, 1) := dk_27 (dk_at dksX7_mark_3 13 rfl rfl)
theorem dX7_mark_86 : decode cX7_mark 86 = .ok (.imul, 1) := dk_104 (dk_at dksX7_mark_3 14 rfl rfl)
theorem dX7_mark_87 : decode cX7_mark 87 = .ok (.aload_n 0, 1) := dk_42 (dk_at dksX7_mark_3 15 rfl rfl)
theorem dX7_mark_88 : decode cX7_mark 88 = .ok (.getfield 120, 3) := dk_180 0 120 (dk_at dksX7_mark_3 16 rfl rfl)
theorem dX7_mark_91 : decode cX7_mark 91 = .ok (.iconst 0, 1) := dk_3 (dk_at dksX7_mark_3 19 rfl rfl)
theorem dX7_mark_92 : decode cX7_mark 92 = .ok (.invokestatic 405, 3) := dk_184 1 149 (dk_at dksX7_mark_3 20 rfl rfl)
theorem dX7_mark_95 : decode cX7_mark 95 = .ok (.aload_n 0, 1) := dk_42 (dk_at dksX7_mark_3 23 rfl rfl)
theorem dX7_mark_96 : decode cX7_mark 96 = .ok (.iconst 0, 1) := dk_3 (dk_at dksX7_mark_4 0 rfl rfl)
theorem dX7_mark_97 : decode cX7_mark 97 = .ok (.putfield 343, 3) := dk_181 1 87 (dk_at dksX7_mark_4 1 rfl rfl)
theorem dX7_mark_100 : decode cX7_mark 100 = .ok (.goto 19, 3) := dk_167 0 19 (dk_at dksX7_mark_4 4 rfl rfl)
theorem dX7_mark_103 : decode cX7_mark 103 = .ok (.aload_n 0, 1) := dk_42 (dk_at dksX7_mark_4 7 rfl rfl)
theorem dX7_mark_104 : decode cX7_mark 104 = .ok (.getfield 120, 3) := dk_180 0 120 (dk_at dksX7_mark_4 8 rfl rfl)
theorem dX7_mark_107 : decode cX7_mark 107 = .ok (.iconst 0, 1) := dk_3 (dk_at dksX7_mark_4 11 rfl rfl)
theorem dX7_mark_108 : decode cX7_mark 108 = .ok (.aload_n 0, 1) := dk_42 (dk_at dksX7_mark_4 12 rfl rfl)
theorem dX7_mark_109 : decode cX7_mark 109 = .ok (.getfield 129, 3) := dk_180 0 129 (dk_at dksX7_mark_4 13 rfl rfl)
theorem dX7_mark_112 : decode cX7_mark 112 = .ok (.bipush 25, 2) := dk_16 25 (dk_at dksX7_mark_4 16 rfl rfl)
theorem dX7_mark_114 : decode cX7_mark 114 = .ok (.iload_n 1, 1) := dk_27 (dk_at dksX7_mark_4 18 rfl rfl)
theorem dX7_mark_115 : decode cX7_mark 115 = .ok (.imul, 1) := dk_104 (dk_at dksX7_mark_4 19 rfl rfl)
theorem dX7_mark_116 : decode cX7_mark 116 = .ok (.invokestatic 405, 3) := dk_184 1 149 (dk_at dksX7_mark_4 20 rfl rfl)
theorem dX7_mark_119 : decode cX7_mark 119 = .ok (.iconst 1, 1) := dk_4 (dk_at dksX7_mark_4 23 rfl rfl)
theorem dX7_mark_120 : decode cX7_mark 120 = .ok (.ireturn, 1) := dk_172 (dk_at dksX7_mark_5 0 rfl rfl)
abbrev cX7_allLayers : ByteArray := prog_32_method_104_code
abbrev yX7_allLayers : MethodName := { cls := "WornSkinModel", name := "allLayers", desc := "()I" }
def dkwX7_allLayers_1 : List UInt8 := [60, 132, 2, 1, 167, 255, 232, 27, 172]
abbrev dktX7_allLayers_1 : List UInt8 := dkwX7_allLayers_1 ++ []
def dkwX7_allLayers_0 : List UInt8 := [3, 60, 3, 61, 28, 16, 18, 162, 0, 24, 27, 42, 180, 0, 120, 16, 7, 28, 96, 46, 184, 1, 143, 96]
abbrev dktX7_allLayers_0 : List UInt8 := dkwX7_allLayers_0 ++ dktX7_allLayers_1
theorem dksX7_allLayers_0 : cX7_allLayers.data.toList.drop 0 = dktX7_allLayers_0 := by decide +kernel
theorem dksX7_allLayers_1 : cX7_allLayers.data.toList.drop 24 = dktX7_allLayers_1 := dk_seg dksX7_allLayers_0 24 rfl rfl
theorem dX7_allLayers_0 : decode cX7_allLayers 0 = .ok (.iconst 0, 1) := dk_3 (dk_at dksX7_allLayers_0 0 rfl rfl)
theorem dX7_allLayers_1 : decode cX7_allLayers 1 = .ok (.istore_n 1, 1) := dk_60 (dk_at dksX7_allLayers_0 1 rfl rfl)
theorem dX7_allLayers_2 : decode cX7_allLayers 2 = .ok (.iconst 0, 1) := dk_3 (dk_at dksX7_allLayers_0 2 rfl rfl)
theorem dX7_allLayers_3 : decode cX7_allLayers 3 = .ok (.istore_n 2, 1) := dk_61 (dk_at dksX7_allLayers_0 3 rfl rfl)
theorem dX7_allLayers_4 : decode cX7_allLayers 4 = .ok (.iload_n 2, 1) := dk_28 (dk_at dksX7_allLayers_0 4 rfl rfl)
theorem dX7_allLayers_5 : decode cX7_allLayers 5 = .ok (.bipush 18, 2) := dk_16 18 (dk_at dksX7_allLayers_0 5 rfl rfl)
theorem dX7_allLayers_7 : decode cX7_allLayers 7 = .ok (.if_icmp .ge 24, 3) := dk_162 0 24 (dk_at dksX7_allLayers_0 7 rfl rfl)
theorem dX7_allLayers_10 : decode cX7_allLayers 10 = .ok (.iload_n 1, 1) := dk_27 (dk_at dksX7_allLayers_0 10 rfl rfl)
theorem dX7_allLayers_11 : decode cX7_allLayers 11 = .ok (.aload_n 0, 1) := dk_42 (dk_at dksX7_allLayers_0 11 rfl rfl)
theorem dX7_allLayers_12 : decode cX7_allLayers 12 = .ok (.getfield 120, 3) := dk_180 0 120 (dk_at dksX7_allLayers_0 12 rfl rfl)
theorem dX7_allLayers_15 : decode cX7_allLayers 15 = .ok (.bipush 7, 2) := dk_16 7 (dk_at dksX7_allLayers_0 15 rfl rfl)
theorem dX7_allLayers_17 : decode cX7_allLayers 17 = .ok (.iload_n 2, 1) := dk_28 (dk_at dksX7_allLayers_0 17 rfl rfl)
theorem dX7_allLayers_18 : decode cX7_allLayers 18 = .ok (.iadd, 1) := dk_96 (dk_at dksX7_allLayers_0 18 rfl rfl)
theorem dX7_allLayers_19 : decode cX7_allLayers 19 = .ok (.iaload, 1) := dk_46 (dk_at dksX7_allLayers_0 19 rfl rfl)
theorem dX7_allLayers_20 : decode cX7_allLayers 20 = .ok (.invokestatic 399, 3) := dk_184 1 143 (dk_at dksX7_allLayers_0 20 rfl rfl)
theorem dX7_allLayers_23 : decode cX7_allLayers 23 = .ok (.iadd, 1) := dk_96 (dk_at dksX7_allLayers_0 23 rfl rfl)
theorem dX7_allLayers_24 : decode cX7_allLayers 24 = .ok (.istore_n 1, 1) := dk_60 (dk_at dksX7_allLayers_1 0 rfl rfl)
theorem dX7_allLayers_25 : decode cX7_allLayers 25 = .ok (.iinc 2 1, 3) := dk_132 2 1 (dk_at dksX7_allLayers_1 1 rfl rfl)
theorem dX7_allLayers_28 : decode cX7_allLayers 28 = .ok (.goto (-24), 3) := dk_167 255 232 (dk_at dksX7_allLayers_1 4 rfl rfl)
theorem dX7_allLayers_31 : decode cX7_allLayers 31 = .ok (.iload_n 1, 1) := dk_27 (dk_at dksX7_allLayers_1 7 rfl rfl)
theorem dX7_allLayers_32 : decode cX7_allLayers 32 = .ok (.ireturn, 1) := dk_172 (dk_at dksX7_allLayers_1 8 rfl rfl)
abbrev cX7_count : ByteArray := prog_32_method_105_code
abbrev yX7_count : MethodName := { cls := "WornSkinModel", name := "count", desc := "(I)I" }
def dkwX7_count_6 : List UInt8 := [160, 0, 10, 42, 180, 1, 87, 167, 0, 7, 42, 180, 0, 150, 172]
abbrev dktX7_count_6 : List UInt8 := dkwX7_count_6 ++ []
def dkwX7_count_5 : List UInt8 := [16, 8, 160, 0, 12, 42, 180, 0, 90, 3, 46, 167, 0, 9, 42, 180, 0, 105, 3, 46, 172, 27, 16, 10]
abbrev dktX7_count_5 : List UInt8 := dkwX7_count_5 ++ dktX7_count_6
def dkwX7_count_4 : List UInt8 := [16, 6, 160, 0, 10, 42, 182, 1, 229, 167, 0, 7, 42, 182, 1, 134, 172, 27, 16, 10, 162, 0, 25, 27]
abbrev dktX7_count_4 : List UInt8 := dkwX7_count_4 ++ dktX7_count_5
def dkwX7_count_3 : List UInt8 := [182, 1, 223, 172, 27, 16, 8, 162, 0, 33, 27, 8, 160, 0, 10, 42, 182, 1, 166, 167, 0, 20, 27]
abbrev dktX7_count_3 : List UInt8 := dkwX7_count_3 ++ dktX7_count_4
def dkwX7_count_2 : List UInt8 := [167, 0, 25, 27, 6, 160, 0, 16, 42, 42, 180, 0, 120, 3, 46, 182, 1, 111, 167, 0, 7, 42]
abbrev dktX7_count_2 : List UInt8 := dkwX7_count_2 ++ dktX7_count_3
def dkwX7_count_1 : List UInt8 := [180, 0, 13, 27, 46, 172, 27, 8, 162, 0, 40, 27, 5, 160, 0, 12, 42, 180, 0, 120, 3, 46]
abbrev dktX7_count_1 : List UInt8 := dkwX7_count_1 ++ dktX7_count_2
def dkwX7_count_0 : List UInt8 := [42, 3, 181, 0, 144, 27, 3, 16, 11, 184, 1, 9, 154, 0, 5, 2, 172, 27, 5, 162, 0, 10, 42]
abbrev dktX7_count_0 : List UInt8 := dkwX7_count_0 ++ dktX7_count_1
theorem dksX7_count_0 : cX7_count.data.toList.drop 0 = dktX7_count_0 := by decide +kernel
theorem dksX7_count_1 : cX7_count.data.toList.drop 23 = dktX7_count_1 := dk_seg dksX7_count_0 23 rfl rfl
theorem dksX7_count_2 : cX7_count.data.toList.drop 45 = dktX7_count_2 := dk_seg dksX7_count_1 22 rfl rfl
theorem dksX7_count_3 : cX7_count.data.toList.drop 67 = dktX7_count_3 := dk_seg dksX7_count_2 22 rfl rfl
theorem dksX7_count_4 : cX7_count.data.toList.drop 90 = dktX7_count_4 := dk_seg dksX7_count_3 23 rfl rfl
theorem dksX7_count_5 : cX7_count.data.toList.drop 114 = dktX7_count_5 := dk_seg dksX7_count_4 24 rfl rfl
theorem dksX7_count_6 : cX7_count.data.toList.drop 138 = dktX7_count_6 := dk_seg dksX7_count_5 24 rfl rfl
theorem dX7_count_0 : decode cX7_count 0 = .ok (.aload_n 0, 1) := dk_42 (dk_at dksX7_count_0 0 rfl rfl)
theorem dX7_count_1 : decode cX7_count 1 = .ok (.iconst 0, 1) := dk_3 (dk_at dksX7_count_0 1 rfl rfl)
theorem dX7_count_2 : decode cX7_count 2 = .ok (.putfield 144, 3) := dk_181 0 144 (dk_at dksX7_count_0 2 rfl rfl)
theorem dX7_count_5 : decode cX7_count 5 = .ok (.iload_n 1, 1) := dk_27 (dk_at dksX7_count_0 5 rfl rfl)
theorem dX7_count_6 : decode cX7_count 6 = .ok (.iconst 0, 1) := dk_3 (dk_at dksX7_count_0 6 rfl rfl)
theorem dX7_count_7 : decode cX7_count 7 = .ok (.bipush 11, 2) := dk_16 11 (dk_at dksX7_count_0 7 rfl rfl)
theorem dX7_count_9 : decode cX7_count 9 = .ok (.invokestatic 265, 3) := dk_184 1 9 (dk_at dksX7_count_0 9 rfl rfl)
theorem dX7_count_12 : decode cX7_count 12 = .ok (.ifCond .ne 5, 3) := dk_154 0 5 (dk_at dksX7_count_0 12 rfl rfl)
theorem dX7_count_15 : decode cX7_count 15 = .ok (.iconst (-1), 1) := dk_2 (dk_at dksX7_count_0 15 rfl rfl)
theorem dX7_count_16 : decode cX7_count 16 = .ok (.ireturn, 1) := dk_172 (dk_at dksX7_count_0 16 rfl rfl)
theorem dX7_count_17 : decode cX7_count 17 = .ok (.iload_n 1, 1) := dk_27 (dk_at dksX7_count_0 17 rfl rfl)
theorem dX7_count_18 : decode cX7_count 18 = .ok (.iconst 2, 1) := dk_5 (dk_at dksX7_count_0 18 rfl rfl)
theorem dX7_count_19 : decode cX7_count 19 = .ok (.if_icmp .ge 10, 3) := dk_162 0 10 (dk_at dksX7_count_0 19 rfl rfl)
theorem dX7_count_22 : decode cX7_count 22 = .ok (.aload_n 0, 1) := dk_42 (dk_at dksX7_count_0 22 rfl rfl)
theorem dX7_count_23 : decode cX7_count 23 = .ok (.getfield 13, 3) := dk_180 0 13 (dk_at dksX7_count_1 0 rfl rfl)
theorem dX7_count_26 : decode cX7_count 26 = .ok (.iload_n 1, 1) := dk_27 (dk_at dksX7_count_1 3 rfl rfl)
theorem dX7_count_27 : decode cX7_count 27 = .ok (.iaload, 1) := dk_46 (dk_at dksX7_count_1 4 rfl rfl)
theorem dX7_count_28 : decode cX7_count 28 = .ok (.ireturn, 1) := dk_172 (dk_at dksX7_count_1 5 rfl rfl)
theorem dX7_count_29 : decode cX7_count 29 = .ok (.iload_n 1, 1) := dk_27 (dk_at dksX7_count_1 6 rfl rfl)
theorem dX7_count_30 : decode cX7_count 30 = .ok (.iconst 5, 1) := dk_8 (dk_at dksX7_count_1 7 rfl rfl)
theorem dX7_count_31 : decode cX7_count 31 = .ok (.if_icmp .ge 40, 3) := dk_162 0 40 (dk_at dksX7_count_1 8 rfl rfl)
theorem dX7_count_34 : decode cX7_count 34 = .ok (.iload_n 1, 1) := dk_27 (dk_at dksX7_count_1 11 rfl rfl)
theorem dX7_count_35 : decode cX7_count 35 = .ok (.iconst 2, 1) := dk_5 (dk_at dksX7_count_1 12 rfl rfl)
theorem dX7_count_36 : decode cX7_count 36 = .ok (.if_icmp .ne 12, 3) := dk_160 0 12 (dk_at dksX7_count_1 13 rfl rfl)
theorem dX7_count_39 : decode cX7_count 39 = .ok (.aload_n 0, 1) := dk_42 (dk_at dksX7_count_1 16 rfl rfl)
theorem dX7_count_40 : decode cX7_count 40 = .ok (.getfield 120, 3) := dk_180 0 120 (dk_at dksX7_count_1 17 rfl rfl)
theorem dX7_count_43 : decode cX7_count 43 = .ok (.iconst 0, 1) := dk_3 (dk_at dksX7_count_1 20 rfl rfl)
theorem dX7_count_44 : decode cX7_count 44 = .ok (.iaload, 1) := dk_46 (dk_at dksX7_count_1 21 rfl rfl)
theorem dX7_count_45 : decode cX7_count 45 = .ok (.goto 25, 3) := dk_167 0 25 (dk_at dksX7_count_2 0 rfl rfl)
theorem dX7_count_48 : decode cX7_count 48 = .ok (.iload_n 1, 1) := dk_27 (dk_at dksX7_count_2 3 rfl rfl)
theorem dX7_count_49 : decode cX7_count 49 = .ok (.iconst 3, 1) := dk_6 (dk_at dksX7_count_2 4 rfl rfl)
theorem dX7_count_50 : decode cX7_count 50 = .ok (.if_icmp .ne 16, 3) := dk_160 0 16 (dk_at dksX7_count_2 5 rfl rfl)
theorem dX7_count_53 : decode cX7_count 53 = .ok (.aload_n 0, 1) := dk_42 (dk_at dksX7_count_2 8 rfl rfl)
theorem dX7_count_54 : decode cX7_count 54 = .ok (.aload_n 0, 1) := dk_42 (dk_at dksX7_count_2 9 rfl rfl)
theorem dX7_count_55 : decode cX7_count 55 = .ok (.getfield 120, 3) := dk_180 0 120 (dk_at dksX7_count_2 10 rfl rfl)
theorem dX7_count_58 : decode cX7_count 58 = .ok (.iconst 0, 1) := dk_3 (dk_at dksX7_count_2 13 rfl rfl)
theorem dX7_count_59 : decode cX7_count 59 = .ok (.iaload, 1) := dk_46 (dk_at dksX7_count_2 14 rfl rfl)
theorem dX7_count_60 : decode cX7_count 60 = .ok (.invokevirtual 367, 3) := dk_182 1 111 (dk_at dksX7_count_2 15 rfl rfl)
theorem dX7_count_63 : decode cX7_count 63 = .ok (.goto 7, 3) := dk_167 0 7 (dk_at dksX7_count_2 18 rfl rfl)
theorem dX7_count_66 : decode cX7_count 66 = .ok (.aload_n 0, 1) := dk_42 (dk_at dksX7_count_2 21 rfl rfl)
theorem dX7_count_67 : decode cX7_count 67 = .ok (.invokevirtual 479, 3) := dk_182 1 223 (dk_at dksX7_count_3 0 rfl rfl)
theorem dX7_count_70 : decode cX7_count 70 = .ok (.ireturn, 1) := dk_172 (dk_at dksX7_count_3 3 rfl rfl)
theorem dX7_count_71 : decode cX7_count 71 = .ok (.iload_n 1, 1) := dk_27 (dk_at dksX7_count_3 4 rfl rfl)
theorem dX7_count_72 : decode cX7_count 72 = .ok (.bipush 8, 2) := dk_16 8 (dk_at dksX7_count_3 5 rfl rfl)
theorem dX7_count_74 : decode cX7_count 74 = .ok (.if_icmp .ge 33, 3) := dk_162 0 33 (dk_at dksX7_count_3 7 rfl rfl)
theorem dX7_count_77 : decode cX7_count 77 = .ok (.iload_n 1, 1) := dk_27 (dk_at dksX7_count_3 10 rfl rfl)
theorem dX7_count_78 : decode cX7_count 78 = .ok (.iconst 5, 1) := dk_8 (dk_at dksX7_count_3 11 rfl rfl)
theorem dX7_count_79 : decode cX7_count 79 = .ok (.if_icmp .ne 10, 3) := dk_160 0 10 (dk_at dksX7_count_3 12 rfl rfl)
theorem dX7_count_82 : decode cX7_count 82 = .ok (.aload_n 0, 1) := dk_42 (dk_at dksX7_count_3 15 rfl rfl)
theorem dX7_count_83 : decode cX7_count 83 = .ok (.invokevirtual 422, 3) := dk_182 1 166 (dk_at dksX7_count_3 16 rfl rfl)
theorem dX7_count_86 : decode cX7_count 86 = .ok (.goto 20, 3) := dk_167 0 20 (dk_at dksX7_count_3 19 rfl rfl)
theorem dX7_count_89 : decode cX7_count 89 = .ok (.iload_n 1, 1) := dk_27 (dk_at dksX7_count_3 22 rfl rfl)
theorem dX7_count_90 : decode cX7_count 90 = .ok (.bipush 6, 2) := dk_16 6 (dk_at dksX7_count_4 0 rfl rfl)
theorem dX7_count_92 : decode cX7_count 92 = .ok (.if_icmp .ne 10, 3) := dk_160 0 10 (dk_at dksX7_count_4 2 rfl rfl)
theorem dX7_count_95 : decode cX7_count 95 = .ok (.aload_n 0, 1) := dk_42 (dk_at dksX7_count_4 5 rfl rfl)
theorem dX7_count_96 : decode cX7_count 96 = .ok (.invokevirtual 485, 3) := dk_182 1 229 (dk_at dksX7_count_4 6 rfl rfl)
theorem dX7_count_99 : decode cX7_count 99 = .ok (.goto 7, 3) := dk_167 0 7 (dk_at dksX7_count_4 9 rfl rfl)
theorem dX7_count_102 : decode cX7_count 102 = .ok (.aload_n 0, 1) := dk_42 (dk_at dksX7_count_4 12 rfl rfl)
theorem dX7_count_103 : decode cX7_count 103 = .ok (.invokevirtual 390, 3) := dk_182 1 134 (dk_at dksX7_count_4 13 rfl rfl)
theorem dX7_count_106 : decode cX7_count 106 = .ok (.ireturn, 1) := dk_172 (dk_at dksX7_count_4 16 rfl rfl)
theorem dX7_count_107 : decode cX7_count 107 = .ok (.iload_n 1, 1) := dk_27 (dk_at dksX7_count_4 17 rfl rfl)
theorem dX7_count_108 : decode cX7_count 108 = .ok (.bipush 10, 2) := dk_16 10 (dk_at dksX7_count_4 18 rfl rfl)
theorem dX7_count_110 : decode cX7_count 110 = .ok (.if_icmp .ge 25, 3) := dk_162 0 25 (dk_at dksX7_count_4 20 rfl rfl)
theorem dX7_count_113 : decode cX7_count 113 = .ok (.iload_n 1, 1) := dk_27 (dk_at dksX7_count_4 23 rfl rfl)
theorem dX7_count_114 : decode cX7_count 114 = .ok (.bipush 8, 2) := dk_16 8 (dk_at dksX7_count_5 0 rfl rfl)
theorem dX7_count_116 : decode cX7_count 116 = .ok (.if_icmp .ne 12, 3) := dk_160 0 12 (dk_at dksX7_count_5 2 rfl rfl)
theorem dX7_count_119 : decode cX7_count 119 = .ok (.aload_n 0, 1) := dk_42 (dk_at dksX7_count_5 5 rfl rfl)
theorem dX7_count_120 : decode cX7_count 120 = .ok (.getfield 90, 3) := dk_180 0 90 (dk_at dksX7_count_5 6 rfl rfl)
theorem dX7_count_123 : decode cX7_count 123 = .ok (.iconst 0, 1) := dk_3 (dk_at dksX7_count_5 9 rfl rfl)
theorem dX7_count_124 : decode cX7_count 124 = .ok (.iaload, 1) := dk_46 (dk_at dksX7_count_5 10 rfl rfl)
theorem dX7_count_125 : decode cX7_count 125 = .ok (.goto 9, 3) := dk_167 0 9 (dk_at dksX7_count_5 11 rfl rfl)
theorem dX7_count_128 : decode cX7_count 128 = .ok (.aload_n 0, 1) := dk_42 (dk_at dksX7_count_5 14 rfl rfl)
theorem dX7_count_129 : decode cX7_count 129 = .ok (.getfield 105, 3) := dk_180 0 105 (dk_at dksX7_count_5 15 rfl rfl)
theorem dX7_count_132 : decode cX7_count 132 = .ok (.iconst 0, 1) := dk_3 (dk_at dksX7_count_5 18 rfl rfl)
theorem dX7_count_133 : decode cX7_count 133 = .ok (.iaload, 1) := dk_46 (dk_at dksX7_count_5 19 rfl rfl)
theorem dX7_count_134 : decode cX7_count 134 = .ok (.ireturn, 1) := dk_172 (dk_at dksX7_count_5 20 rfl rfl)
theorem dX7_count_135 : decode cX7_count 135 = .ok (.iload_n 1, 1) := dk_27 (dk_at dksX7_count_5 21 rfl rfl)
theorem dX7_count_136 : decode cX7_count 136 = .ok (.bipush 10, 2) := dk_16 10 (dk_at dksX7_count_5 22 rfl rfl)
theorem dX7_count_138 : decode cX7_count 138 = .ok (.if_icmp .ne 10, 3) := dk_160 0 10 (dk_at dksX7_count_6 0 rfl rfl)
theorem dX7_count_141 : decode cX7_count 141 = .ok (.aload_n 0, 1) := dk_42 (dk_at dksX7_count_6 3 rfl rfl)
theorem dX7_count_142 : decode cX7_count 142 = .ok (.getfield 343, 3) := dk_180 1 87 (dk_at dksX7_count_6 4 rfl rfl)
theorem dX7_count_145 : decode cX7_count 145 = .ok (.goto 7, 3) := dk_167 0 7 (dk_at dksX7_count_6 7 rfl rfl)
theorem dX7_count_148 : decode cX7_count 148 = .ok (.aload_n 0, 1) := dk_42 (dk_at dksX7_count_6 10 rfl rfl)
theorem dX7_count_149 : decode cX7_count 149 = .ok (.getfield 150, 3) := dk_180 0 150 (dk_at dksX7_count_6 11 rfl rfl)
theorem dX7_count_152 : decode cX7_count 152 = .ok (.ireturn, 1) := dk_172 (dk_at dksX7_count_6 14 rfl rfl)
