set_option maxRecDepth 100000
theorem q111 : (Jvm.Cond.initialized "WornSkinLaw") ∈ lw_all := lw_g (lw_at lw_m1 0 rfl) rfl
theorem q112 : (Jvm.Cond.initialized "WornSkin") ∈ lw_all := lw_g (lw_at lw_m1 1 rfl) rfl
theorem q113 : (Jvm.Cond.initialized "WornSkin$Reader") ∈ lw_all := lw_g (lw_at lw_m1 2 rfl) rfl
theorem q114 : (Jvm.Cond.initialized "WornSkin$Shelf") ∈ lw_all := lw_g (lw_at lw_m1 3 rfl) rfl
theorem q115 : (Jvm.Cond.initialized "WornSkin$Library") ∈ lw_all := lw_g (lw_at lw_m1 4 rfl) rfl
theorem q116 : (Jvm.Cond.initialized "java/util/AbstractCollection") ∈ lw_all := lw_g (lw_at lw_m1 5 rfl) rfl
theorem q117 : (Jvm.Cond.initialized "java/util/AbstractList") ∈ lw_all := lw_g (lw_at lw_m1 6 rfl) rfl
theorem q118 : (Jvm.Cond.initialized "java/util/ArrayList") ∈ lw_all := lw_g (lw_at lw_m1 7 rfl) rfl
theorem q119 : (Jvm.Cond.initialized "WornSkin$Facts") ∈ lw_all := lw_g (lw_at lw_m1 8 rfl) rfl
theorem q120 : (Jvm.Cond.initialized "java/util/Objects") ∈ lw_all := lw_g (lw_at lw_m1 9 rfl) rfl
theorem q121 : (Jvm.Cond.initialized "jdk/internal/util/Preconditions") ∈ lw_all := lw_g (lw_at lw_m1 10 rfl) rfl
theorem q122 : (Jvm.Cond.initialized "WornSkin$Lays") ∈ lw_all := lw_g (lw_at lw_m1 11 rfl) rfl
theorem q123 : (Jvm.Cond.initialized "WornSkinModel") ∈ lw_all := lw_g (lw_at lw_m1 12 rfl) rfl
theorem q124 : (Jvm.Cond.initialized "java/lang/String") ∈ lw_all := lw_g (lw_at lw_m1 13 rfl) rfl
theorem q125 : (Jvm.Cond.initialized "java/lang/StringLatin1") ∈ lw_all := lw_g (lw_at lw_m1 14 rfl) rfl
theorem q126 : (Jvm.Cond.initialized "java/lang/Math") ∈ lw_all := lw_g (lw_at lw_m1 15 rfl) rfl
theorem q129 : (Jvm.Cond.initialized "java/lang/Throwable") ∈ lw_all := lw_g (lw_at lw_m1 18 rfl) rfl
theorem q131 : (Jvm.Cond.initialized "WornSkin$Wrong") ∈ lw_all := lw_g (lw_at lw_m1 20 rfl) rfl
theorem q132 : (Jvm.Cond.initialized "java/lang/Number") ∈ lw_all := lw_g (lw_at lw_m1 21 rfl) rfl
theorem q133 : (Jvm.Cond.initialized "java/lang/Long") ∈ lw_all := lw_g (lw_at lw_m1 22 rfl) rfl
theorem q135 : (Jvm.Cond.initialized "jdk/internal/util/ArraysSupport") ∈ lw_all := lw_g (lw_at lw_m1 24 rfl) rfl
theorem q136 : (Jvm.Cond.initialized "java/util/Arrays") ∈ lw_all := lw_g (lw_at lw_m1 25 rfl) rfl
theorem q137 : (Jvm.Cond.initialized "java/lang/System") ∈ lw_all := lw_g (lw_at lw_m1 26 rfl) rfl
theorem q138 : (Jvm.Cond.initialized "java/lang/Integer") ∈ lw_all := lw_g (lw_at lw_m1 27 rfl) rfl
theorem q140 : (Jvm.Cond.initialized "WornSkin$Skin") ∈ lw_all := lw_g (lw_at lw_m1 29 rfl) rfl
theorem q141 : (Jvm.Cond.initialized "WornSkin$Text") ∈ lw_all := lw_g (lw_at lw_m1 30 rfl) rfl
theorem q142 : (Jvm.Cond.initialized "WornSkin$Psalm") ∈ lw_all := lw_g (lw_at lw_m1 31 rfl) rfl
theorem q143 : (Jvm.Cond.initialized "WornSkin$Recipe") ∈ lw_all := lw_g (lw_at lw_m1 32 rfl) rfl
theorem q144 : (Jvm.Cond.initialized "WornSkin$Oath") ∈ lw_all := lw_g (lw_at lw_m1 33 rfl) rfl
theorem q145 : (Jvm.Cond.initialized "WornSkin$Expression") ∈ lw_all := lw_g (lw_at lw_m1 34 rfl) rfl
theorem q146 : (Jvm.Cond.initialized "WornSkin$Fact") ∈ lw_all := lw_g (lw_at lw_m1 35 rfl) rfl
theorem q147 : (Jvm.Cond.initialized "WornSkin$Plain") ∈ lw_all := lw_g (lw_at lw_m1 36 rfl) rfl
theorem q148 : (Jvm.Cond.initialized "WornSkin$Not") ∈ lw_all := lw_g (lw_at lw_m1 37 rfl) rfl
theorem q149 : (Jvm.Cond.initialized "WornSkin$Chain") ∈ lw_all := lw_g (lw_at lw_m1 38 rfl) rfl
theorem q150 : (Jvm.Cond.initialized "WornSkin$Link") ∈ lw_all := lw_g (lw_at lw_m1 39 rfl) rfl
theorem q151 : (Jvm.Cond.initialized "WornSkin$Times") ∈ lw_all := lw_g (lw_at lw_m1 40 rfl) rfl
theorem q152 : (Jvm.Cond.initialized "WornSkin$Plus") ∈ lw_all := lw_g (lw_at lw_m1 41 rfl) rfl
theorem q153 : (Jvm.Cond.initialized "WornSkin$Minus") ∈ lw_all := lw_g (lw_at lw_m1 42 rfl) rfl
theorem q154 : (Jvm.Cond.initialized "WornSkin$Less") ∈ lw_all := lw_g (lw_at lw_m1 43 rfl) rfl
theorem q155 : (Jvm.Cond.initialized "WornSkin$Same") ∈ lw_all := lw_g (lw_at lw_m1 44 rfl) rfl
theorem q156 : (Jvm.Cond.initialized "WornSkin$And") ∈ lw_all := lw_g (lw_at lw_m1 45 rfl) rfl
theorem q157 : (Jvm.Cond.initialized "WornSkin$Or") ∈ lw_all := lw_g (lw_at lw_m1 46 rfl) rfl
theorem q158 : (Jvm.Cond.initialized "WornSkin$Line") ∈ lw_all := lw_g (lw_at lw_m1 47 rfl) rfl
theorem q159 : (Jvm.Cond.initialized "WornSkin$Weeks") ∈ lw_all := lw_g (lw_at lw_m1 48 rfl) rfl
theorem q160 : (Jvm.Cond.initialized "WornSkin$Scrapes") ∈ lw_all := lw_g (lw_at lw_m1 49 rfl) rfl
theorem q161 : (Jvm.Cond.initialized "WornSkin$Writes") ∈ lw_all := lw_g (lw_at lw_m1 50 rfl) rfl
theorem q163 : (Jvm.Cond.initialized "java/util/NoSuchElementException") ∈ lw_all := lw_g (lw_at lw_m1 52 rfl) rfl
theorem q164 : (Jvm.Cond.initialized "WornSkin$Mark") ∈ lw_all := lw_g (lw_at lw_m1 53 rfl) rfl
theorem q165 : (Jvm.Cond.classLink "WornSkinLaw" (8 : Nat) "WornSkin") ∈ lw_all := lw_g (lw_at lw_m1 54 rfl) rfl
theorem q166 : (Jvm.Cond.instantiable "WornSkin" (9 : Nat)) ∈ lw_all := lw_g (lw_at lw_m1 55 rfl) rfl
theorem q167 : (Jvm.Cond.methodLink "WornSkinLaw" (15 : Nat) ({ cls := "WornSkin", name := "<init>", desc := "()V" } : Jvm.MethodName)) ∈ lw_all := lw_g (lw_at lw_m1 56 rfl) rfl
theorem q168 : (Jvm.Cond.instanceMethod ({ cls := "WornSkin", name := "<init>", desc := "()V" } : Jvm.MethodName)) ∈ lw_all := lw_g (lw_at lw_m1 57 rfl) rfl
theorem q169 : (Jvm.Cond.code ({ cls := "WornSkin", name := "<init>", desc := "()V" } : Jvm.MethodName) prog_1_method_5_code (1 : Nat) (Option.none : Option Jvm.ClassFile.FieldType)) ∈ lw_all := lw_g (lw_at lw_m1 58 rfl) rfl
theorem q170 : (Jvm.Cond.methodLink "WornSkin" (16 : Nat) ({ cls := "java/lang/Object", name := "<init>", desc := "()V" } : Jvm.MethodName)) ∈ lw_all := lw_g (lw_at lw_m1 59 rfl) rfl
theorem q171 : (Jvm.Cond.instanceMethod ({ cls := "java/lang/Object", name := "<init>", desc := "()V" } : Jvm.MethodName)) ∈ lw_all := lw_g (lw_at lw_m1 60 rfl) rfl
theorem q172 : (Jvm.Cond.code ({ cls := "java/lang/Object", name := "<init>", desc := "()V" } : Jvm.MethodName) object_method_1_code (1 : Nat) (Option.none : Option Jvm.ClassFile.FieldType)) ∈ lw_all := lw_g (lw_at lw_m1 61 rfl) rfl
theorem q173 : (Jvm.Cond.classLink "WornSkin" (21 : Nat) "WornSkin$Reader") ∈ lw_all := lw_g (lw_at lw_m1 62 rfl) rfl
theorem q174 : (Jvm.Cond.instantiable "WornSkin$Reader" (13 : Nat)) ∈ lw_all := lw_g (lw_at lw_m1 63 rfl) rfl
theorem q175 : (Jvm.Cond.methodLinkNest "WornSkin" (23 : Nat) ({ cls := "WornSkin$Reader", name := "<init>", desc := "()V" } : Jvm.MethodName) "WornSkin") ∈ lw_tbl := lw_at lw_m1 64 rfl
theorem q176 : (Jvm.Cond.instanceMethod ({ cls := "WornSkin$Reader", name := "<init>", desc := "()V" } : Jvm.MethodName)) ∈ lw_all := lw_g (lw_at lw_m1 65 rfl) rfl
theorem q177 : (Jvm.Cond.code ({ cls := "WornSkin$Reader", name := "<init>", desc := "()V" } : Jvm.MethodName) prog_20_method_1_code (1 : Nat) (Option.none : Option Jvm.ClassFile.FieldType)) ∈ lw_all := lw_g (lw_at lw_m1 66 rfl) rfl
theorem q178 : (Jvm.Cond.methodLink "WornSkin$Reader" (3 : Nat) ({ cls := "java/lang/Object", name := "<init>", desc := "()V" } : Jvm.MethodName)) ∈ lw_all := lw_g (lw_at lw_m1 67 rfl) rfl
theorem q179 : (Jvm.Cond.classLink "WornSkin$Reader" (9 : Nat) "java/lang/String") ∈ lw_all := lw_g (lw_at lw_m1 68 rfl) rfl
theorem q180 : (Jvm.Cond.arrayOver (Jvm.ClassFile.FieldType.object "java/lang/String")) ∈ lw_tbl := lw_at lw_m1 69 rfl
theorem q205 : (Jvm.Cond.fieldLink "WornSkin$Reader" (19 : Nat) "WornSkin$Reader" "facts" "[Ljava/lang/String;") ∈ lw_all := lw_g (lw_at lw_m1 94 rfl) rfl
theorem q206 : (Jvm.Cond.fieldLink "WornSkin$Reader" (33 : Nat) "WornSkin$Reader" "kinds" "[Ljava/lang/String;") ∈ lw_all := lw_g (lw_at lw_m1 95 rfl) rfl
theorem q207 : (Jvm.Cond.fieldLink "WornSkin$Reader" (68 : Nat) "WornSkin$Reader" "kept" "[Ljava/lang/String;") ∈ lw_all := lw_g (lw_at lw_m1 96 rfl) rfl
theorem q208 : (Jvm.Cond.fieldLink "WornSkin$Reader" (71 : Nat) "WornSkin$Reader" "inks" "[Ljava/lang/String;") ∈ lw_all := lw_g (lw_at lw_m1 97 rfl) rfl
theorem q209 : (Jvm.Cond.fieldLink "WornSkin$Reader" (74 : Nat) "WornSkin$Reader" "acts" "[Ljava/lang/String;") ∈ lw_all := lw_g (lw_at lw_m1 98 rfl) rfl
theorem q210 : (Jvm.Cond.fieldLink "WornSkin$Reader" (166 : Nat) "WornSkin$Reader" "draft" "LWornSkin$Library;") ∈ lw_all := lw_g (lw_at lw_m1 99 rfl) rfl
theorem q211 : (Jvm.Cond.fieldLink "WornSkin$Reader" (77 : Nat) "WornSkin$Reader" "tape" "[I") ∈ lw_all := lw_g (lw_at lw_m1 100 rfl) rfl
theorem q212 : (Jvm.Cond.fieldLink "WornSkin$Reader" (97 : Nat) "WornSkin$Reader" "taped" "I") ∈ lw_all := lw_g (lw_at lw_m1 101 rfl) rfl
theorem q213 : (Jvm.Cond.fieldLink "WornSkin" (82 : Nat) "WornSkin$Reader" "taped" "I") ∈ lw_all := lw_g (lw_at lw_m1 102 rfl) rfl
theorem q214 : (Jvm.Cond.fieldLink "WornSkin$Reader" (81 : Nat) "WornSkin$Reader" "sort" "[I") ∈ lw_all := lw_g (lw_at lw_m1 103 rfl) rfl
theorem q215 : (Jvm.Cond.fieldLink "WornSkin$Reader" (84 : Nat) "WornSkin$Reader" "value" "[J") ∈ lw_all := lw_g (lw_at lw_m1 104 rfl) rfl
theorem q216 : (Jvm.Cond.fieldLink "WornSkin$Reader" (88 : Nat) "WornSkin$Reader" "place" "[I") ∈ lw_all := lw_g (lw_at lw_m1 105 rfl) rfl
theorem q217 : (Jvm.Cond.fieldLink "WornSkin$Reader" (130 : Nat) "WornSkin$Reader" "at" "I") ∈ lw_all := lw_g (lw_at lw_m1 106 rfl) rfl
theorem q218 : (Jvm.Cond.fieldLink "WornSkin$Reader" (301 : Nat) "WornSkin$Reader" "deep" "I") ∈ lw_all := lw_g (lw_at lw_m1 107 rfl) rfl
theorem q247 : (Jvm.Cond.arrayClass Jvm.ClassFile.FieldType.int) ∈ lw_all := lw_g (lw_at lw_m1 136 rfl) rfl
theorem q248 : (Jvm.Cond.arrayClass Jvm.ClassFile.FieldType.long) ∈ lw_all := lw_g (lw_at lw_m1 137 rfl) rfl
theorem q249 : (Jvm.Cond.classLink "WornSkin" (30 : Nat) "WornSkin$Shelf") ∈ lw_all := lw_g (lw_at lw_m1 138 rfl) rfl
theorem q250 : (Jvm.Cond.instantiable "WornSkin$Shelf" (6 : Nat)) ∈ lw_all := lw_g (lw_at lw_m1 139 rfl) rfl
theorem q251 : (Jvm.Cond.methodLinkNest "WornSkin" (32 : Nat) ({ cls := "WornSkin$Shelf", name := "<init>", desc := "()V" } : Jvm.MethodName) "WornSkin") ∈ lw_tbl := lw_at lw_m1 140 rfl
theorem q252 : (Jvm.Cond.instanceMethod ({ cls := "WornSkin$Shelf", name := "<init>", desc := "()V" } : Jvm.MethodName)) ∈ lw_all := lw_g (lw_at lw_m1 141 rfl) rfl
theorem q253 : (Jvm.Cond.code ({ cls := "WornSkin$Shelf", name := "<init>", desc := "()V" } : Jvm.MethodName) prog_24_method_1_code (1 : Nat) (Option.none : Option Jvm.ClassFile.FieldType)) ∈ lw_all := lw_g (lw_at lw_m1 142 rfl) rfl
theorem q254 : (Jvm.Cond.methodLink "WornSkin$Shelf" (3 : Nat) ({ cls := "java/lang/Object", name := "<init>", desc := "()V" } : Jvm.MethodName)) ∈ lw_all := lw_g (lw_at lw_m1 143 rfl) rfl
theorem q255 : (Jvm.Cond.fieldLink "WornSkin$Shelf" (21 : Nat) "WornSkin$Shelf" "library" "LWornSkin$Library;") ∈ lw_all := lw_g (lw_at lw_m1 144 rfl) rfl
theorem q256 : (Jvm.Cond.fieldLink "WornSkin" (105 : Nat) "WornSkin$Shelf" "library" "LWornSkin$Library;") ∈ lw_all := lw_g (lw_at lw_m1 145 rfl) rfl
theorem q257 : (Jvm.Cond.fieldLink "WornSkin$Weeks" (7 : Nat) "WornSkin$Shelf" "week" "I") ∈ lw_all := lw_g (lw_at lw_m1 146 rfl) rfl
theorem q258 : (Jvm.Cond.fieldLink "WornSkin$Shelf" (25 : Nat) "WornSkin$Shelf" "week" "I") ∈ lw_all := lw_g (lw_at lw_m1 147 rfl) rfl
theorem q259 : (Jvm.Cond.fieldLink "WornSkin" (227 : Nat) "WornSkin$Shelf" "week" "I") ∈ lw_all := lw_g (lw_at lw_m1 148 rfl) rfl
theorem q260 : (Jvm.Cond.fieldLink "WornSkin$Shelf" (29 : Nat) "WornSkin$Shelf" "open" "I") ∈ lw_all := lw_g (lw_at lw_m1 149 rfl) rfl
theorem q261 : (Jvm.Cond.fieldLinkNest "WornSkin$Lays" (82 : Nat) "WornSkin$Shelf" "open" "I" "WornSkin") ∈ lw_tbl := lw_at lw_m1 150 rfl
theorem q262 : (Jvm.Cond.fieldLink "WornSkin$Shelf" (9 : Nat) "WornSkin$Shelf" "thick" "[I") ∈ lw_all := lw_g (lw_at lw_m1 151 rfl) rfl
theorem q263 : (Jvm.Cond.fieldLink "WornSkin" (138 : Nat) "WornSkin$Shelf" "thick" "[I") ∈ lw_all := lw_g (lw_at lw_m1 152 rfl) rfl
theorem q264 : (Jvm.Cond.fieldLink "WornSkin$Shelf" (15 : Nat) "WornSkin$Shelf" "of" "[I") ∈ lw_all := lw_g (lw_at lw_m1 153 rfl) rfl
theorem q265 : (Jvm.Cond.fieldLinkNest "WornSkin$Lays" (79 : Nat) "WornSkin$Shelf" "of" "[I" "WornSkin") ∈ lw_tbl := lw_at lw_m1 154 rfl
theorem q266 : (Jvm.Cond.fieldLink "WornSkin$Shelf" (18 : Nat) "WornSkin$Shelf" "many" "[I") ∈ lw_all := lw_g (lw_at lw_m1 155 rfl) rfl
theorem q267 : (Jvm.Cond.fieldLink "WornSkin$Lays" (76 : Nat) "WornSkin$Shelf" "many" "[I") ∈ lw_all := lw_g (lw_at lw_m1 156 rfl) rfl
theorem q268 : (Jvm.Cond.fieldLink "WornSkin" (185 : Nat) "WornSkin$Shelf" "many" "[I") ∈ lw_all := lw_g (lw_at lw_m1 157 rfl) rfl
theorem q282 : (Jvm.Cond.classLink "WornSkin" (33 : Nat) "WornSkin$Library") ∈ lw_all := lw_g (lw_at lw_m1 171 rfl) rfl
theorem q283 : (Jvm.Cond.instantiable "WornSkin$Library" (8 : Nat)) ∈ lw_all := lw_g (lw_at lw_m1 172 rfl) rfl
theorem q284 : (Jvm.Cond.methodLinkNest "WornSkin" (35 : Nat) ({ cls := "WornSkin$Library", name := "<init>", desc := "()V" } : Jvm.MethodName) "WornSkin") ∈ lw_tbl := lw_at lw_m1 173 rfl
theorem q285 : (Jvm.Cond.instanceMethod ({ cls := "WornSkin$Library", name := "<init>", desc := "()V" } : Jvm.MethodName)) ∈ lw_all := lw_g (lw_at lw_m1 174 rfl) rfl
theorem q286 : (Jvm.Cond.code ({ cls := "WornSkin$Library", name := "<init>", desc := "()V" } : Jvm.MethodName) prog_9_method_1_code (1 : Nat) (Option.none : Option Jvm.ClassFile.FieldType)) ∈ lw_all := lw_g (lw_at lw_m1 175 rfl) rfl
theorem q287 : (Jvm.Cond.methodLink "WornSkin$Library" (3 : Nat) ({ cls := "java/lang/Object", name := "<init>", desc := "()V" } : Jvm.MethodName)) ∈ lw_all := lw_g (lw_at lw_m1 176 rfl) rfl
theorem q288 : (Jvm.Cond.classLink "WornSkin$Library" (9 : Nat) "java/util/ArrayList") ∈ lw_all := lw_g (lw_at lw_m1 177 rfl) rfl
theorem q289 : (Jvm.Cond.instantiable "java/util/ArrayList" (3 : Nat)) ∈ lw_all := lw_g (lw_at lw_m1 178 rfl) rfl
theorem q290 : (Jvm.Cond.methodLink "WornSkin$Library" (11 : Nat) ({ cls := "java/util/ArrayList", name := "<init>", desc := "(I)V" } : Jvm.MethodName)) ∈ lw_all := lw_g (lw_at lw_m1 179 rfl) rfl
theorem q291 : (Jvm.Cond.instanceMethod ({ cls := "java/util/ArrayList", name := "<init>", desc := "(I)V" } : Jvm.MethodName)) ∈ lw_all := lw_g (lw_at lw_m1 180 rfl) rfl
theorem q292 : (Jvm.Cond.code ({ cls := "java/util/ArrayList", name := "<init>", desc := "(I)V" } : Jvm.MethodName) prog_56_method_1_code (2 : Nat) (Option.none : Option Jvm.ClassFile.FieldType)) ∈ lw_all := lw_g (lw_at lw_m1 181 rfl) rfl
theorem q293 : (Jvm.Cond.methodLink "java/util/ArrayList" (1 : Nat) ({ cls := "java/util/AbstractList", name := "<init>", desc := "()V" } : Jvm.MethodName)) ∈ lw_all := lw_g (lw_at lw_m1 182 rfl) rfl
theorem q294 : (Jvm.Cond.instanceMethod ({ cls := "java/util/AbstractList", name := "<init>", desc := "()V" } : Jvm.MethodName)) ∈ lw_all := lw_g (lw_at lw_m1 183 rfl) rfl
theorem q295 : (Jvm.Cond.code ({ cls := "java/util/AbstractList", name := "<init>", desc := "()V" } : Jvm.MethodName) prog_55_method_1_code (1 : Nat) (Option.none : Option Jvm.ClassFile.FieldType)) ∈ lw_all := lw_g (lw_at lw_m1 184 rfl) rfl
theorem q296 : (Jvm.Cond.methodLink "java/util/AbstractList" (1 : Nat) ({ cls := "java/util/AbstractCollection", name := "<init>", desc := "()V" } : Jvm.MethodName)) ∈ lw_all := lw_g (lw_at lw_m1 185 rfl) rfl
theorem q297 : (Jvm.Cond.instanceMethod ({ cls := "java/util/AbstractCollection", name := "<init>", desc := "()V" } : Jvm.MethodName)) ∈ lw_all := lw_g (lw_at lw_m1 186 rfl) rfl
theorem q298 : (Jvm.Cond.code ({ cls := "java/util/AbstractCollection", name := "<init>", desc := "()V" } : Jvm.MethodName) prog_54_method_1_code (1 : Nat) (Option.none : Option Jvm.ClassFile.FieldType)) ∈ lw_all := lw_g (lw_at lw_m1 187 rfl) rfl
theorem q299 : (Jvm.Cond.methodLink "java/util/AbstractCollection" (1 : Nat) ({ cls := "java/lang/Object", name := "<init>", desc := "()V" } : Jvm.MethodName)) ∈ lw_all := lw_g (lw_at lw_m1 188 rfl) rfl
theorem q300 : (Jvm.Cond.classLink "java/util/ArrayList" (7 : Nat) "java/lang/Object") ∈ lw_all := lw_g (lw_at lw_m1 189 rfl) rfl
theorem q301 : (Jvm.Cond.arrayOver (Jvm.ClassFile.FieldType.object "java/lang/Object")) ∈ lw_tbl := lw_at lw_m1 190 rfl
theorem q302 : (Jvm.Cond.fieldLink "java/util/ArrayList" (15 : Nat) "java/util/ArrayList" "EMPTY_ELEMENTDATA" "[Ljava/lang/Object;") ∈ lw_all := lw_g (lw_at lw_m1 191 rfl) rfl
theorem q304 : (Jvm.Cond.fieldLink "java/util/ArrayList" (9 : Nat) "java/util/ArrayList" "elementData" "[Ljava/lang/Object;") ∈ lw_all := lw_g (lw_at lw_m1 193 rfl) rfl
theorem q305 : (Jvm.Cond.fieldLink "java/util/ArrayList" (48 : Nat) "java/util/ArrayList" "size" "I") ∈ lw_all := lw_g (lw_at lw_m1 194 rfl) rfl
theorem q306 : (Jvm.Cond.fieldLink "java/util/AbstractList" (7 : Nat) "java/util/AbstractList" "modCount" "I") ∈ lw_all := lw_g (lw_at lw_m1 195 rfl) rfl
theorem q307 : (Jvm.Cond.fieldLink "java/util/ArrayList" (63 : Nat) "java/util/ArrayList" "modCount" "I") ∈ lw_all := lw_g (lw_at lw_m1 196 rfl) rfl
theorem q308 : (Jvm.Cond.sameField "java/util/ArrayList" "java/util/AbstractList" "modCount" "I") ∈ lw_all := lw_g (lw_at lw_m1 197 rfl) rfl
theorem q316 : (Jvm.Cond.classLink "WornSkin$Library" (33 : Nat) "WornSkin$Facts") ∈ lw_all := lw_g (lw_at lw_m1 205 rfl) rfl
theorem q317 : (Jvm.Cond.instantiable "WornSkin$Facts" (1 : Nat)) ∈ lw_all := lw_g (lw_at lw_m1 206 rfl) rfl
theorem q318 : (Jvm.Cond.methodLinkNest "WornSkin$Library" (35 : Nat) ({ cls := "WornSkin$Facts", name := "<init>", desc := "()V" } : Jvm.MethodName) "WornSkin") ∈ lw_tbl := lw_at lw_m1 207 rfl
theorem q319 : (Jvm.Cond.instanceMethod ({ cls := "WornSkin$Facts", name := "<init>", desc := "()V" } : Jvm.MethodName)) ∈ lw_all := lw_g (lw_at lw_m1 208 rfl) rfl
theorem q320 : (Jvm.Cond.code ({ cls := "WornSkin$Facts", name := "<init>", desc := "()V" } : Jvm.MethodName) prog_6_method_1_code (1 : Nat) (Option.none : Option Jvm.ClassFile.FieldType)) ∈ lw_all := lw_g (lw_at lw_m1 209 rfl) rfl
theorem q321 : (Jvm.Cond.methodLink "WornSkin$Facts" (1 : Nat) ({ cls := "java/lang/Object", name := "<init>", desc := "()V" } : Jvm.MethodName)) ∈ lw_all := lw_g (lw_at lw_m1 210 rfl) rfl
theorem q322 : (Jvm.Cond.fieldLink "WornSkin$Facts" (9 : Nat) "WornSkin$Facts" "of" "[I") ∈ lw_all := lw_g (lw_at lw_m1 211 rfl) rfl
theorem q323 : (Jvm.Cond.fieldLink "WornSkin$Fact" (13 : Nat) "WornSkin$Facts" "of" "[I") ∈ lw_all := lw_g (lw_at lw_m1 212 rfl) rfl
theorem q324 : (Jvm.Cond.fieldLink "WornSkin$Library" (80 : Nat) "WornSkin$Facts" "of" "[I") ∈ lw_all := lw_g (lw_at lw_m1 213 rfl) rfl
theorem q328 : (Jvm.Cond.fieldLink "WornSkin$Library" (14 : Nat) "WornSkin$Library" "names" "Ljava/util/ArrayList;") ∈ lw_all := lw_g (lw_at lw_m1 217 rfl) rfl
theorem q329 : (Jvm.Cond.fieldLink "WornSkin$Reader" (199 : Nat) "WornSkin$Library" "names" "Ljava/util/ArrayList;") ∈ lw_all := lw_g (lw_at lw_m1 218 rfl) rfl
theorem q330 : (Jvm.Cond.fieldLink "WornSkin$Library" (20 : Nat) "WornSkin$Library" "nameOf" "Ljava/util/ArrayList;") ∈ lw_all := lw_g (lw_at lw_m1 219 rfl) rfl
theorem q331 : (Jvm.Cond.fieldLink "WornSkin$Reader" (215 : Nat) "WornSkin$Library" "nameOf" "Ljava/util/ArrayList;") ∈ lw_all := lw_g (lw_at lw_m1 220 rfl) rfl
theorem q332 : (Jvm.Cond.fieldLink "WornSkin$Library" (23 : Nat) "WornSkin$Library" "skins" "Ljava/util/ArrayList;") ∈ lw_all := lw_g (lw_at lw_m1 221 rfl) rfl
theorem q333 : (Jvm.Cond.fieldLink "WornSkin$Shelf" (59 : Nat) "WornSkin$Library" "skins" "Ljava/util/ArrayList;") ∈ lw_all := lw_g (lw_at lw_m1 222 rfl) rfl
theorem q334 : (Jvm.Cond.fieldLink "WornSkin" (108 : Nat) "WornSkin$Library" "skins" "Ljava/util/ArrayList;") ∈ lw_all := lw_g (lw_at lw_m1 223 rfl) rfl
theorem q335 : (Jvm.Cond.fieldLink "WornSkin$Reader" (223 : Nat) "WornSkin$Library" "skins" "Ljava/util/ArrayList;") ∈ lw_all := lw_g (lw_at lw_m1 224 rfl) rfl
theorem q336 : (Jvm.Cond.fieldLink "WornSkin$Library" (26 : Nat) "WornSkin$Library" "texts" "Ljava/util/ArrayList;") ∈ lw_all := lw_g (lw_at lw_m1 225 rfl) rfl
theorem q337 : (Jvm.Cond.fieldLink "WornSkin$Shelf" (69 : Nat) "WornSkin$Library" "texts" "Ljava/util/ArrayList;") ∈ lw_all := lw_g (lw_at lw_m1 226 rfl) rfl
theorem q338 : (Jvm.Cond.fieldLink "WornSkin" (115 : Nat) "WornSkin$Library" "texts" "Ljava/util/ArrayList;") ∈ lw_all := lw_g (lw_at lw_m1 227 rfl) rfl
theorem q339 : (Jvm.Cond.fieldLink "WornSkin$Reader" (257 : Nat) "WornSkin$Library" "texts" "Ljava/util/ArrayList;") ∈ lw_all := lw_g (lw_at lw_m1 228 rfl) rfl
theorem q340 : (Jvm.Cond.fieldLink "WornSkin$Library" (29 : Nat) "WornSkin$Library" "damp" "[I") ∈ lw_all := lw_g (lw_at lw_m1 229 rfl) rfl
theorem q341 : (Jvm.Cond.fieldLink "WornSkin$Library" (59 : Nat) "WornSkin$Library" "damps" "I") ∈ lw_all := lw_g (lw_at lw_m1 230 rfl) rfl
theorem q342 : (Jvm.Cond.fieldLinkNest "WornSkin$Reader" (267 : Nat) "WornSkin$Library" "damps" "I" "WornSkin") ∈ lw_tbl := lw_at lw_m1 231 rfl
theorem q343 : (Jvm.Cond.fieldLink "WornSkin$Library" (76 : Nat) "WornSkin$Library" "shows" "LWornSkin$Expression;") ∈ lw_all := lw_g (lw_at lw_m1 232 rfl) rfl
theorem q344 : (Jvm.Cond.fieldLink "WornSkin$Reader" (273 : Nat) "WornSkin$Library" "shows" "LWornSkin$Expression;") ∈ lw_all := lw_g (lw_at lw_m1 233 rfl) rfl
theorem q345 : (Jvm.Cond.fieldLink "WornSkin$Library" (36 : Nat) "WornSkin$Library" "facts" "LWornSkin$Facts;") ∈ lw_all := lw_g (lw_at lw_m1 234 rfl) rfl
theorem q363 : (Jvm.Cond.methodLink "WornSkin" (36 : Nat) ({ cls := "WornSkin$Shelf", name := "begins", desc := "(LWornSkin$Library;)LWornSkin$Shelf;" } : Jvm.MethodName)) ∈ lw_all := lw_g (lw_at lw_m2 12 rfl) rfl
theorem q364 : (Jvm.Cond.instanceMethod ({ cls := "WornSkin$Shelf", name := "begins", desc := "(LWornSkin$Library;)LWornSkin$Shelf;" } : Jvm.MethodName)) ∈ lw_all := lw_g (lw_at lw_m2 13 rfl) rfl
theorem q365 : (Jvm.Cond.selects "WornSkin$Shelf" ({ cls := "WornSkin$Shelf", name := "begins", desc := "(LWornSkin$Library;)LWornSkin$Shelf;" } : Jvm.MethodName) ({ cls := "WornSkin$Shelf", name := "begins", desc := "(LWornSkin$Library;)LWornSkin$Shelf;" } : Jvm.MethodName)) ∈ lw_all := lw_g (lw_at lw_m2 14 rfl) rfl
theorem q366 : (Jvm.Cond.code ({ cls := "WornSkin$Shelf", name := "begins", desc := "(LWornSkin$Library;)LWornSkin$Shelf;" } : Jvm.MethodName) prog_24_method_2_code (3 : Nat) (Option.some (Jvm.ClassFile.FieldType.object "WornSkin$Shelf"))) ∈ lw_all := lw_g (lw_at lw_m2 15 rfl) rfl
theorem q367 : (Jvm.Cond.methodLink "WornSkin$Shelf" (32 : Nat) ({ cls := "WornSkin$Shelf", name := "clears", desc := "(I)V" } : Jvm.MethodName)) ∈ lw_all := lw_g (lw_at lw_m2 16 rfl) rfl
theorem q369 : (Jvm.Cond.instanceMethod ({ cls := "WornSkin$Shelf", name := "clears", desc := "(I)V" } : Jvm.MethodName)) ∈ lw_all := lw_g (lw_at lw_m2 18 rfl) rfl
theorem q370 : (Jvm.Cond.code ({ cls := "WornSkin$Shelf", name := "clears", desc := "(I)V" } : Jvm.MethodName) prog_24_method_11_code (2 : Nat) (Option.none : Option Jvm.ClassFile.FieldType)) ∈ lw_all := lw_g (lw_at lw_m2 19 rfl) rfl
theorem q371 : (Jvm.Cond.methodLink "WornSkin$Shelf" (36 : Nat) ({ cls := "WornSkin$Shelf", name := "skins", desc := "()I" } : Jvm.MethodName)) ∈ lw_all := lw_g (lw_at lw_m2 20 rfl) rfl
theorem q372 : (Jvm.Cond.instanceMethod ({ cls := "WornSkin$Shelf", name := "skins", desc := "()I" } : Jvm.MethodName)) ∈ lw_all := lw_g (lw_at lw_m2 21 rfl) rfl
theorem q373 : (Jvm.Cond.selects "WornSkin$Shelf" ({ cls := "WornSkin$Shelf", name := "skins", desc := "()I" } : Jvm.MethodName) ({ cls := "WornSkin$Shelf", name := "skins", desc := "()I" } : Jvm.MethodName)) ∈ lw_all := lw_g (lw_at lw_m2 22 rfl) rfl
theorem q374 : (Jvm.Cond.code ({ cls := "WornSkin$Shelf", name := "skins", desc := "()I" } : Jvm.MethodName) prog_24_method_5_code (1 : Nat) (Option.some Jvm.ClassFile.FieldType.int)) ∈ lw_all := lw_g (lw_at lw_m2 23 rfl) rfl
theorem q375 : (Jvm.Cond.methodLink "WornSkin$Shelf" (64 : Nat) ({ cls := "java/util/ArrayList", name := "size", desc := "()I" } : Jvm.MethodName)) ∈ lw_all := lw_g (lw_at lw_m2 24 rfl) rfl
theorem q376 : (Jvm.Cond.instanceMethod ({ cls := "java/util/ArrayList", name := "size", desc := "()I" } : Jvm.MethodName)) ∈ lw_all := lw_g (lw_at lw_m2 25 rfl) rfl
theorem q377 : (Jvm.Cond.selects "java/util/ArrayList" ({ cls := "java/util/ArrayList", name := "size", desc := "()I" } : Jvm.MethodName) ({ cls := "java/util/ArrayList", name := "size", desc := "()I" } : Jvm.MethodName)) ∈ lw_all := lw_g (lw_at lw_m2 26 rfl) rfl
theorem q378 : (Jvm.Cond.code ({ cls := "java/util/ArrayList", name := "size", desc := "()I" } : Jvm.MethodName) prog_56_method_8_code (1 : Nat) (Option.some Jvm.ClassFile.FieldType.int)) ∈ lw_all := lw_g (lw_at lw_m2 27 rfl) rfl
theorem q379 : (Jvm.Cond.methodLink "WornSkin$Shelf" (40 : Nat) ({ cls := "WornSkin$Shelf", name := "skin", desc := "(I)LWornSkin$Skin;" } : Jvm.MethodName)) ∈ lw_all := lw_g (lw_at lw_m2 28 rfl) rfl
theorem q380 : (Jvm.Cond.instanceMethod ({ cls := "WornSkin$Shelf", name := "skin", desc := "(I)LWornSkin$Skin;" } : Jvm.MethodName)) ∈ lw_all := lw_g (lw_at lw_m2 29 rfl) rfl
theorem q381 : (Jvm.Cond.selects "WornSkin$Shelf" ({ cls := "WornSkin$Shelf", name := "skin", desc := "(I)LWornSkin$Skin;" } : Jvm.MethodName) ({ cls := "WornSkin$Shelf", name := "skin", desc := "(I)LWornSkin$Skin;" } : Jvm.MethodName)) ∈ lw_all := lw_g (lw_at lw_m2 30 rfl) rfl
theorem q382 : (Jvm.Cond.code ({ cls := "WornSkin$Shelf", name := "skin", desc := "(I)LWornSkin$Skin;" } : Jvm.MethodName) prog_24_method_7_code (2 : Nat) (Option.some (Jvm.ClassFile.FieldType.object "WornSkin$Skin"))) ∈ lw_all := lw_g (lw_at lw_m2 31 rfl) rfl
theorem q383 : (Jvm.Cond.methodLink "WornSkin$Shelf" (72 : Nat) ({ cls := "java/util/ArrayList", name := "get", desc := "(I)Ljava/lang/Object;" } : Jvm.MethodName)) ∈ lw_all := lw_g (lw_at lw_m2 32 rfl) rfl
theorem q384 : (Jvm.Cond.instanceMethod ({ cls := "java/util/ArrayList", name := "get", desc := "(I)Ljava/lang/Object;" } : Jvm.MethodName)) ∈ lw_all := lw_g (lw_at lw_m2 33 rfl) rfl
theorem q385 : (Jvm.Cond.selects "java/util/ArrayList" ({ cls := "java/util/ArrayList", name := "get", desc := "(I)Ljava/lang/Object;" } : Jvm.MethodName) ({ cls := "java/util/ArrayList", name := "get", desc := "(I)Ljava/lang/Object;" } : Jvm.MethodName)) ∈ lw_all := lw_g (lw_at lw_m2 34 rfl) rfl
theorem q386 : (Jvm.Cond.code ({ cls := "java/util/ArrayList", name := "get", desc := "(I)Ljava/lang/Object;" } : Jvm.MethodName) prog_56_method_20_code (2 : Nat) (Option.some (Jvm.ClassFile.FieldType.object "java/lang/Object"))) ∈ lw_all := lw_g (lw_at lw_m2 35 rfl) rfl
theorem q387 : (Jvm.Cond.methodLink "java/util/ArrayList" (118 : Nat) ({ cls := "java/util/Objects", name := "checkIndex", desc := "(II)I" } : Jvm.MethodName)) ∈ lw_all := lw_g (lw_at lw_m2 36 rfl) rfl
theorem q388 : (Jvm.Cond.static ({ cls := "java/util/Objects", name := "checkIndex", desc := "(II)I" } : Jvm.MethodName)) ∈ lw_all := lw_g (lw_at lw_m2 37 rfl) rfl
theorem q389 : (Jvm.Cond.code ({ cls := "java/util/Objects", name := "checkIndex", desc := "(II)I" } : Jvm.MethodName) prog_61_method_17_code (2 : Nat) (Option.some Jvm.ClassFile.FieldType.int)) ∈ lw_all := lw_g (lw_at lw_m2 38 rfl) rfl
theorem q390 : (Jvm.Cond.methodLink "java/util/Objects" (105 : Nat) ({ cls := "jdk/internal/util/Preconditions", name := "checkIndex", desc := "(IILjava/util/function/BiFunction;)I" } : Jvm.MethodName)) ∈ lw_all := lw_g (lw_at lw_m2 39 rfl) rfl
theorem q391 : (Jvm.Cond.static ({ cls := "jdk/internal/util/Preconditions", name := "checkIndex", desc := "(IILjava/util/function/BiFunction;)I" } : Jvm.MethodName)) ∈ lw_all := lw_g (lw_at lw_m2 40 rfl) rfl
theorem q392 : (Jvm.Cond.code ({ cls := "jdk/internal/util/Preconditions", name := "checkIndex", desc := "(IILjava/util/function/BiFunction;)I" } : Jvm.MethodName) prog_65_method_11_code (3 : Nat) (Option.some Jvm.ClassFile.FieldType.int)) ∈ lw_all := lw_g (lw_at lw_m2 41 rfl) rfl
theorem q393 : (Jvm.Cond.methodLink "java/util/ArrayList" (123 : Nat) ({ cls := "java/util/ArrayList", name := "elementData", desc := "(I)Ljava/lang/Object;" } : Jvm.MethodName)) ∈ lw_all := lw_g (lw_at lw_m2 42 rfl) rfl
theorem q394 : (Jvm.Cond.instanceMethod ({ cls := "java/util/ArrayList", name := "elementData", desc := "(I)Ljava/lang/Object;" } : Jvm.MethodName)) ∈ lw_all := lw_g (lw_at lw_m2 43 rfl) rfl
theorem q395 : (Jvm.Cond.selects "java/util/ArrayList" ({ cls := "java/util/ArrayList", name := "elementData", desc := "(I)Ljava/lang/Object;" } : Jvm.MethodName) ({ cls := "java/util/ArrayList", name := "elementData", desc := "(I)Ljava/lang/Object;" } : Jvm.MethodName)) ∈ lw_all := lw_g (lw_at lw_m2 44 rfl) rfl
theorem q396 : (Jvm.Cond.code ({ cls := "java/util/ArrayList", name := "elementData", desc := "(I)Ljava/lang/Object;" } : Jvm.MethodName) prog_56_method_18_code (2 : Nat) (Option.some (Jvm.ClassFile.FieldType.object "java/lang/Object"))) ∈ lw_all := lw_g (lw_at lw_m2 45 rfl) rfl
theorem q397 : (Jvm.Cond.classLink "WornSkin$Shelf" (45 : Nat) "WornSkin$Skin") ∈ lw_all := lw_g (lw_at lw_m2 46 rfl) rfl
theorem q398 : (Jvm.Cond.classLink "WornSkin" (47 : Nat) "java/util/ArrayList") ∈ lw_all := lw_g (lw_at lw_m2 47 rfl) rfl
theorem q399 : (Jvm.Cond.methodLink "WornSkin" (49 : Nat) ({ cls := "java/util/ArrayList", name := "<init>", desc := "(I)V" } : Jvm.MethodName)) ∈ lw_all := lw_g (lw_at lw_m2 48 rfl) rfl
theorem q400 : (Jvm.Cond.methodLink "WornSkin" (59 : Nat) ({ cls := "java/util/ArrayList", name := "<init>", desc := "()V" } : Jvm.MethodName)) ∈ lw_all := lw_g (lw_at lw_m2 49 rfl) rfl
theorem q401 : (Jvm.Cond.instanceMethod ({ cls := "java/util/ArrayList", name := "<init>", desc := "()V" } : Jvm.MethodName)) ∈ lw_all := lw_g (lw_at lw_m2 50 rfl) rfl
theorem q402 : (Jvm.Cond.code ({ cls := "java/util/ArrayList", name := "<init>", desc := "()V" } : Jvm.MethodName) prog_56_method_2_code (1 : Nat) (Option.none : Option Jvm.ClassFile.FieldType)) ∈ lw_all := lw_g (lw_at lw_m2 51 rfl) rfl
theorem q403 : (Jvm.Cond.fieldLink "java/util/ArrayList" (39 : Nat) "java/util/ArrayList" "DEFAULTCAPACITY_EMPTY_ELEMENTDATA" "[Ljava/lang/Object;") ∈ lw_all := lw_g (lw_at lw_m2 52 rfl) rfl
theorem q405 : (Jvm.Cond.classLink "WornSkin" (63 : Nat) "WornSkin$Lays") ∈ lw_all := lw_g (lw_at lw_m2 54 rfl) rfl
theorem q406 : (Jvm.Cond.instantiable "WornSkin$Lays" (4 : Nat)) ∈ lw_all := lw_g (lw_at lw_m2 55 rfl) rfl
theorem q407 : (Jvm.Cond.methodLinkNest "WornSkin" (65 : Nat) ({ cls := "WornSkin$Lays", name := "<init>", desc := "(LWornSkin;)V" } : Jvm.MethodName) "WornSkin") ∈ lw_tbl := lw_at lw_m2 56 rfl
theorem q408 : (Jvm.Cond.instanceMethod ({ cls := "WornSkin$Lays", name := "<init>", desc := "(LWornSkin;)V" } : Jvm.MethodName)) ∈ lw_all := lw_g (lw_at lw_m2 57 rfl) rfl
theorem q409 : (Jvm.Cond.code ({ cls := "WornSkin$Lays", name := "<init>", desc := "(LWornSkin;)V" } : Jvm.MethodName) prog_7_method_1_code (2 : Nat) (Option.none : Option Jvm.ClassFile.FieldType)) ∈ lw_all := lw_g (lw_at lw_m2 58 rfl) rfl
theorem q410 : (Jvm.Cond.methodLink "WornSkin$Lays" (9 : Nat) ({ cls := "java/lang/Object", name := "<init>", desc := "()V" } : Jvm.MethodName)) ∈ lw_all := lw_g (lw_at lw_m2 59 rfl) rfl
theorem q411 : (Jvm.Cond.fieldLink "WornSkin$Lays" (15 : Nat) "WornSkin$Lays" "row" "[I") ∈ lw_all := lw_g (lw_at lw_m2 60 rfl) rfl
theorem q412 : (Jvm.Cond.fieldLink "WornSkin$Lays" (19 : Nat) "WornSkin$Lays" "best" "[I") ∈ lw_all := lw_g (lw_at lw_m2 61 rfl) rfl
theorem q413 : (Jvm.Cond.fieldLink "WornSkin" (275 : Nat) "WornSkin$Lays" "best" "[I") ∈ lw_all := lw_g (lw_at lw_m2 62 rfl) rfl
theorem q414 : (Jvm.Cond.fieldLink "WornSkin$Lays" (22 : Nat) "WornSkin$Lays" "most" "I") ∈ lw_all := lw_g (lw_at lw_m2 63 rfl) rfl
theorem q415 : (Jvm.Cond.fieldLink "WornSkin" (272 : Nat) "WornSkin$Lays" "most" "I") ∈ lw_all := lw_g (lw_at lw_m2 64 rfl) rfl
theorem q416 : (Jvm.Cond.fieldLink "WornSkin$Lays" (3 : Nat) "WornSkin$Lays" "this$0" "LWornSkin;") ∈ lw_all := lw_g (lw_at lw_m2 65 rfl) rfl
theorem q426 : (Jvm.Cond.classLink "WornSkin" (72 : Nat) "WornSkin$Mark") ∈ lw_all := lw_g (lw_at lw_m2 75 rfl) rfl
theorem q427 : (Jvm.Cond.arrayOver (Jvm.ClassFile.FieldType.object "WornSkin$Mark")) ∈ lw_tbl := lw_at lw_m2 76 rfl
theorem q428 : (Jvm.Cond.fieldLink "WornSkin" (24 : Nat) "WornSkin" "reader" "LWornSkin$Reader;") ∈ lw_all := lw_g (lw_at lw_m2 77 rfl) rfl
theorem q429 : (Jvm.Cond.fieldLinkNest "WornSkin$Lays" (30 : Nat) "WornSkin" "shelf" "LWornSkin$Shelf;" "WornSkin") ∈ lw_tbl := lw_at lw_m2 78 rfl
theorem q430 : (Jvm.Cond.fieldLink "WornSkin" (40 : Nat) "WornSkin" "shelf" "LWornSkin$Shelf;") ∈ lw_all := lw_g (lw_at lw_m2 79 rfl) rfl
theorem q431 : (Jvm.Cond.fieldLinkNest "WornSkin$Lays" (26 : Nat) "WornSkin" "trial" "LWornSkin$Shelf;" "WornSkin") ∈ lw_tbl := lw_at lw_m2 80 rfl
theorem q432 : (Jvm.Cond.fieldLink "WornSkin" (44 : Nat) "WornSkin" "trial" "LWornSkin$Shelf;") ∈ lw_all := lw_g (lw_at lw_m2 81 rfl) rfl
theorem q433 : (Jvm.Cond.fieldLink "WornSkin" (52 : Nat) "WornSkin" "lines" "Ljava/util/ArrayList;") ∈ lw_all := lw_g (lw_at lw_m2 82 rfl) rfl
theorem q434 : (Jvm.Cond.fieldLink "WornSkin" (56 : Nat) "WornSkin" "seen" "Ljava/util/ArrayList;") ∈ lw_all := lw_g (lw_at lw_m2 83 rfl) rfl
theorem q435 : (Jvm.Cond.fieldLink "WornSkin" (60 : Nat) "WornSkin" "behind" "Ljava/util/ArrayList;") ∈ lw_all := lw_g (lw_at lw_m2 84 rfl) rfl
theorem q436 : (Jvm.Cond.fieldLink "WornSkin" (68 : Nat) "WornSkin" "lays" "LWornSkin$Lays;") ∈ lw_all := lw_g (lw_at lw_m2 85 rfl) rfl
theorem q437 : (Jvm.Cond.fieldLink "WornSkin" (323 : Nat) "WornSkin" "g" "J") ∈ lw_all := lw_g (lw_at lw_m2 86 rfl) rfl
theorem q438 : (Jvm.Cond.fieldLink "WornSkin" (74 : Nat) "WornSkin" "marks" "[LWornSkin$Mark;") ∈ lw_all := lw_g (lw_at lw_m2 87 rfl) rfl
theorem q458 : (Jvm.Cond.methodLink "WornSkinLaw" (21 : Nat) ({ cls := "WornSkin", name := "feed", desc := "(JJJ)I" } : Jvm.MethodName)) ∈ lw_all := lw_g (lw_at lw_m2 107 rfl) rfl
theorem q459 : (Jvm.Cond.instanceMethod ({ cls := "WornSkin", name := "feed", desc := "(JJJ)I" } : Jvm.MethodName)) ∈ lw_all := lw_g (lw_at lw_m2 108 rfl) rfl
theorem q460 : (Jvm.Cond.selects "WornSkin" ({ cls := "WornSkin", name := "feed", desc := "(JJJ)I" } : Jvm.MethodName) ({ cls := "WornSkin", name := "feed", desc := "(JJJ)I" } : Jvm.MethodName)) ∈ lw_all := lw_g (lw_at lw_m2 109 rfl) rfl
theorem q461 : (Jvm.Cond.code ({ cls := "WornSkin", name := "feed", desc := "(JJJ)I" } : Jvm.MethodName) prog_1_method_6_code (7 : Nat) (Option.some Jvm.ClassFile.FieldType.int)) ∈ lw_all := lw_g (lw_at lw_m2 110 rfl) rfl
theorem q462 : (Jvm.Cond.methodLink "WornSkin" (78 : Nat) ({ cls := "WornSkin$Reader", name := "feed", desc := "(J)V" } : Jvm.MethodName)) ∈ lw_all := lw_g (lw_at lw_m2 111 rfl) rfl
theorem q463 : (Jvm.Cond.instanceMethod ({ cls := "WornSkin$Reader", name := "feed", desc := "(J)V" } : Jvm.MethodName)) ∈ lw_all := lw_g (lw_at lw_m2 112 rfl) rfl
theorem q464 : (Jvm.Cond.selects "WornSkin$Reader" ({ cls := "WornSkin$Reader", name := "feed", desc := "(J)V" } : Jvm.MethodName) ({ cls := "WornSkin$Reader", name := "feed", desc := "(J)V" } : Jvm.MethodName)) ∈ lw_all := lw_g (lw_at lw_m2 113 rfl) rfl
theorem q465 : (Jvm.Cond.code ({ cls := "WornSkin$Reader", name := "feed", desc := "(J)V" } : Jvm.MethodName) prog_20_method_2_code (5 : Nat) (Option.none : Option Jvm.ClassFile.FieldType)) ∈ lw_all := lw_g (lw_at lw_m2 114 rfl) rfl
theorem q466 : (Jvm.Cond.constantLong "WornSkin$Reader" (91 : Nat) (255 : Int64)) ∈ lw_all := lw_g (lw_at lw_m2 115 rfl) rfl
theorem q467 : (Jvm.Cond.methodLinkNest "WornSkin$Reader" (93 : Nat) ({ cls := "WornSkin", name := "within", desc := "(III)Z" } : Jvm.MethodName) "WornSkin") ∈ lw_tbl := lw_at lw_m2 116 rfl
theorem q468 : (Jvm.Cond.static ({ cls := "WornSkin", name := "within", desc := "(III)Z" } : Jvm.MethodName)) ∈ lw_all := lw_g (lw_at lw_m2 117 rfl) rfl
theorem q469 : (Jvm.Cond.code ({ cls := "WornSkin", name := "within", desc := "(III)Z" } : Jvm.MethodName) prog_1_method_1_code (3 : Nat) (Option.some Jvm.ClassFile.FieldType.boolean)) ∈ lw_all := lw_g (lw_at lw_m2 118 rfl) rfl
theorem q470 : (Jvm.Cond.methodLink "WornSkinLaw" (26 : Nat) ({ cls := "WornSkin", name := "library", desc := "()I" } : Jvm.MethodName)) ∈ lw_all := lw_g (lw_at lw_m2 119 rfl) rfl
theorem q471 : (Jvm.Cond.instanceMethod ({ cls := "WornSkin", name := "library", desc := "()I" } : Jvm.MethodName)) ∈ lw_all := lw_g (lw_at lw_m2 120 rfl) rfl
theorem q472 : (Jvm.Cond.selects "WornSkin" ({ cls := "WornSkin", name := "library", desc := "()I" } : Jvm.MethodName) ({ cls := "WornSkin", name := "library", desc := "()I" } : Jvm.MethodName)) ∈ lw_all := lw_g (lw_at lw_m2 121 rfl) rfl
theorem q473 : (Jvm.Cond.codeWith ({ cls := "WornSkin", name := "library", desc := "()I" } : Jvm.MethodName) prog_1_method_7_code (2 : Nat) (Option.some Jvm.ClassFile.FieldType.int) [((0 : Nat), (73 : Nat), (74 : Nat), (93 : Nat))]) ∈ lw_all := lw_g (lw_at lw_m2 122 rfl) rfl
theorem q474 : (Jvm.Cond.classLink "WornSkin" (93 : Nat) "WornSkin$Wrong") ∈ lw_all := lw_g (lw_at lw_m2 123 rfl) rfl
theorem q475 : (Jvm.Cond.methodLink "WornSkin" (86 : Nat) ({ cls := "WornSkin$Reader", name := "library", desc := "()LWornSkin$Library;" } : Jvm.MethodName)) ∈ lw_all := lw_g (lw_at lw_m2 124 rfl) rfl
theorem q476 : (Jvm.Cond.instanceMethod ({ cls := "WornSkin$Reader", name := "library", desc := "()LWornSkin$Library;" } : Jvm.MethodName)) ∈ lw_all := lw_g (lw_at lw_m2 125 rfl) rfl
theorem q477 : (Jvm.Cond.selects "WornSkin$Reader" ({ cls := "WornSkin$Reader", name := "library", desc := "()LWornSkin$Library;" } : Jvm.MethodName) ({ cls := "WornSkin$Reader", name := "library", desc := "()LWornSkin$Library;" } : Jvm.MethodName)) ∈ lw_all := lw_g (lw_at lw_m2 126 rfl) rfl
theorem q478 : (Jvm.Cond.code ({ cls := "WornSkin$Reader", name := "library", desc := "()LWornSkin$Library;" } : Jvm.MethodName) prog_20_method_16_code (1 : Nat) (Option.some (Jvm.ClassFile.FieldType.object "WornSkin$Library"))) ∈ lw_all := lw_g (lw_at lw_m2 127 rfl) rfl
theorem q479 : (Jvm.Cond.methodLink "WornSkin$Reader" (160 : Nat) ({ cls := "WornSkin$Reader", name := "cut", desc := "()V" } : Jvm.MethodName)) ∈ lw_all := lw_g (lw_at lw_m2 128 rfl) rfl
theorem q481 : (Jvm.Cond.instanceMethod ({ cls := "WornSkin$Reader", name := "cut", desc := "()V" } : Jvm.MethodName)) ∈ lw_all := lw_g (lw_at lw_m2 130 rfl) rfl
theorem q482 : (Jvm.Cond.code ({ cls := "WornSkin$Reader", name := "cut", desc := "()V" } : Jvm.MethodName) prog_20_method_6_code (8 : Nat) (Option.none : Option Jvm.ClassFile.FieldType)) ∈ lw_all := lw_g (lw_at lw_m2 131 rfl) rfl
theorem q483 : (Jvm.Cond.methodLink "WornSkin$Reader" (113 : Nat) ({ cls := "WornSkin$Reader", name := "isLetter", desc := "(I)Z" } : Jvm.MethodName)) ∈ lw_all := lw_g (lw_at lw_m2 132 rfl) rfl
theorem q484 : (Jvm.Cond.static ({ cls := "WornSkin$Reader", name := "isLetter", desc := "(I)Z" } : Jvm.MethodName)) ∈ lw_all := lw_g (lw_at lw_m2 133 rfl) rfl
theorem q485 : (Jvm.Cond.code ({ cls := "WornSkin$Reader", name := "isLetter", desc := "(I)Z" } : Jvm.MethodName) prog_20_method_4_code (1 : Nat) (Option.some Jvm.ClassFile.FieldType.boolean)) ∈ lw_all := lw_g (lw_at lw_m2 134 rfl) rfl
theorem q486 : (Jvm.Cond.constantLong "WornSkin$Reader" (105 : Nat) (27 : Int64)) ∈ lw_all := lw_g (lw_at lw_m2 135 rfl) rfl
theorem q487 : (Jvm.Cond.constantLong "WornSkin$Reader" (111 : Nat) (96 : Int64)) ∈ lw_all := lw_g (lw_at lw_m2 136 rfl) rfl
theorem q488 : (Jvm.Cond.methodLink "WornSkin$Reader" (117 : Nat) ({ cls := "WornSkin$Reader", name := "isDigit", desc := "(I)Z" } : Jvm.MethodName)) ∈ lw_all := lw_g (lw_at lw_m2 137 rfl) rfl
theorem q489 : (Jvm.Cond.static ({ cls := "WornSkin$Reader", name := "isDigit", desc := "(I)Z" } : Jvm.MethodName)) ∈ lw_all := lw_g (lw_at lw_m2 138 rfl) rfl
theorem q490 : (Jvm.Cond.code ({ cls := "WornSkin$Reader", name := "isDigit", desc := "(I)Z" } : Jvm.MethodName) prog_20_method_5_code (1 : Nat) (Option.some Jvm.ClassFile.FieldType.boolean)) ∈ lw_all := lw_g (lw_at lw_m2 139 rfl) rfl
theorem q491 : (Jvm.Cond.constantLong "WornSkin$Reader" (120 : Nat) (10 : Int64)) ∈ lw_all := lw_g (lw_at lw_m2 140 rfl) rfl
theorem q492 : (Jvm.Cond.constantLong "WornSkin$Reader" (122 : Nat) (48 : Int64)) ∈ lw_all := lw_g (lw_at lw_m2 141 rfl) rfl
theorem q494 : (Jvm.Cond.methodLink "WornSkin$Reader" (126 : Nat) ({ cls := "java/lang/String", name := "indexOf", desc := "(I)I" } : Jvm.MethodName)) ∈ lw_all := lw_g (lw_at lw_m2 143 rfl) rfl
theorem q495 : (Jvm.Cond.instanceMethod ({ cls := "java/lang/String", name := "indexOf", desc := "(I)I" } : Jvm.MethodName)) ∈ lw_all := lw_g (lw_at lw_m2 144 rfl) rfl
theorem q496 : (Jvm.Cond.selects "java/lang/String" ({ cls := "java/lang/String", name := "indexOf", desc := "(I)I" } : Jvm.MethodName) ({ cls := "java/lang/String", name := "indexOf", desc := "(I)I" } : Jvm.MethodName)) ∈ lw_all := lw_g (lw_at lw_m2 145 rfl) rfl
theorem q497 : (Jvm.Cond.code ({ cls := "java/lang/String", name := "indexOf", desc := "(I)I" } : Jvm.MethodName) prog_47_method_79_code (2 : Nat) (Option.some Jvm.ClassFile.FieldType.int)) ∈ lw_all := lw_g (lw_at lw_m2 146 rfl) rfl
theorem q498 : (Jvm.Cond.methodLink "java/lang/String" (633 : Nat) ({ cls := "java/lang/String", name := "indexOf", desc := "(II)I" } : Jvm.MethodName)) ∈ lw_all := lw_g (lw_at lw_m2 147 rfl) rfl
theorem q499 : (Jvm.Cond.instanceMethod ({ cls := "java/lang/String", name := "indexOf", desc := "(II)I" } : Jvm.MethodName)) ∈ lw_all := lw_g (lw_at lw_m2 148 rfl) rfl
theorem q500 : (Jvm.Cond.selects "java/lang/String" ({ cls := "java/lang/String", name := "indexOf", desc := "(II)I" } : Jvm.MethodName) ({ cls := "java/lang/String", name := "indexOf", desc := "(II)I" } : Jvm.MethodName)) ∈ lw_all := lw_g (lw_at lw_m2 149 rfl) rfl
theorem q501 : (Jvm.Cond.code ({ cls := "java/lang/String", name := "indexOf", desc := "(II)I" } : Jvm.MethodName) prog_47_method_80_code (3 : Nat) (Option.some Jvm.ClassFile.FieldType.int)) ∈ lw_all := lw_g (lw_at lw_m2 150 rfl) rfl
theorem q502 : (Jvm.Cond.methodLink "java/lang/String" (492 : Nat) ({ cls := "java/lang/String", name := "isLatin1", desc := "()Z" } : Jvm.MethodName)) ∈ lw_all := lw_g (lw_at lw_m2 151 rfl) rfl
theorem q503 : (Jvm.Cond.instanceMethod ({ cls := "java/lang/String", name := "isLatin1", desc := "()Z" } : Jvm.MethodName)) ∈ lw_all := lw_g (lw_at lw_m2 152 rfl) rfl
theorem q504 : (Jvm.Cond.selects "java/lang/String" ({ cls := "java/lang/String", name := "isLatin1", desc := "()Z" } : Jvm.MethodName) ({ cls := "java/lang/String", name := "isLatin1", desc := "()Z" } : Jvm.MethodName)) ∈ lw_all := lw_g (lw_at lw_m2 153 rfl) rfl
theorem q505 : (Jvm.Cond.code ({ cls := "java/lang/String", name := "isLatin1", desc := "()Z" } : Jvm.MethodName) prog_47_method_154_code (1 : Nat) (Option.some Jvm.ClassFile.FieldType.boolean)) ∈ lw_all := lw_g (lw_at lw_m2 154 rfl) rfl
theorem q506 : (Jvm.Cond.fieldLink "java/lang/String" (38 : Nat) "java/lang/String" "COMPACT_STRINGS" "Z") ∈ lw_all := lw_g (lw_at lw_m2 155 rfl) rfl
theorem q508 : (Jvm.Cond.methodLink "java/lang/String" (505 : Nat) ({ cls := "java/lang/String", name := "length", desc := "()I" } : Jvm.MethodName)) ∈ lw_all := lw_g (lw_at lw_m2 157 rfl) rfl
theorem q509 : (Jvm.Cond.instanceMethod ({ cls := "java/lang/String", name := "length", desc := "()I" } : Jvm.MethodName)) ∈ lw_all := lw_g (lw_at lw_m2 158 rfl) rfl
theorem q510 : (Jvm.Cond.selects "java/lang/String" ({ cls := "java/lang/String", name := "length", desc := "()I" } : Jvm.MethodName) ({ cls := "java/lang/String", name := "length", desc := "()I" } : Jvm.MethodName)) ∈ lw_all := lw_g (lw_at lw_m2 159 rfl) rfl
theorem q511 : (Jvm.Cond.code ({ cls := "java/lang/String", name := "length", desc := "()I" } : Jvm.MethodName) prog_47_method_54_code (1 : Nat) (Option.some Jvm.ClassFile.FieldType.int)) ∈ lw_all := lw_g (lw_at lw_m2 160 rfl) rfl
theorem q512 : (Jvm.Cond.methodLink "java/lang/String" (335 : Nat) ({ cls := "java/lang/String", name := "coder", desc := "()B" } : Jvm.MethodName)) ∈ lw_all := lw_g (lw_at lw_m2 161 rfl) rfl
theorem q513 : (Jvm.Cond.instanceMethod ({ cls := "java/lang/String", name := "coder", desc := "()B" } : Jvm.MethodName)) ∈ lw_all := lw_g (lw_at lw_m2 162 rfl) rfl
theorem q514 : (Jvm.Cond.selects "java/lang/String" ({ cls := "java/lang/String", name := "coder", desc := "()B" } : Jvm.MethodName) ({ cls := "java/lang/String", name := "coder", desc := "()B" } : Jvm.MethodName)) ∈ lw_all := lw_g (lw_at lw_m2 163 rfl) rfl
theorem q515 : (Jvm.Cond.code ({ cls := "java/lang/String", name := "coder", desc := "()B" } : Jvm.MethodName) prog_47_method_152_code (1 : Nat) (Option.some Jvm.ClassFile.FieldType.byte)) ∈ lw_all := lw_g (lw_at lw_m2 164 rfl) rfl
theorem q516 : (Jvm.Cond.methodLink "java/lang/String" (637 : Nat) ({ cls := "java/lang/StringLatin1", name := "indexOf", desc := "([BIII)I" } : Jvm.MethodName)) ∈ lw_all := lw_g (lw_at lw_m2 165 rfl) rfl
theorem q517 : (Jvm.Cond.static ({ cls := "java/lang/StringLatin1", name := "indexOf", desc := "([BIII)I" } : Jvm.MethodName)) ∈ lw_all := lw_g (lw_at lw_m2 166 rfl) rfl
theorem q518 : (Jvm.Cond.code ({ cls := "java/lang/StringLatin1", name := "indexOf", desc := "([BIII)I" } : Jvm.MethodName) prog_48_method_22_code (4 : Nat) (Option.some Jvm.ClassFile.FieldType.int)) ∈ lw_all := lw_g (lw_at lw_m2 167 rfl) rfl
theorem q519 : (Jvm.Cond.methodLink "java/lang/StringLatin1" (88 : Nat) ({ cls := "java/lang/StringLatin1", name := "canEncode", desc := "(I)Z" } : Jvm.MethodName)) ∈ lw_all := lw_g (lw_at lw_m2 168 rfl) rfl
theorem q520 : (Jvm.Cond.static ({ cls := "java/lang/StringLatin1", name := "canEncode", desc := "(I)Z" } : Jvm.MethodName)) ∈ lw_all := lw_g (lw_at lw_m2 169 rfl) rfl
theorem q521 : (Jvm.Cond.code ({ cls := "java/lang/StringLatin1", name := "canEncode", desc := "(I)Z" } : Jvm.MethodName) prog_48_method_4_code (1 : Nat) (Option.some Jvm.ClassFile.FieldType.boolean)) ∈ lw_all := lw_g (lw_at lw_m2 170 rfl) rfl
theorem q522 : (Jvm.Cond.methodLink "java/lang/StringLatin1" (92 : Nat) ({ cls := "java/lang/Math", name := "max", desc := "(II)I" } : Jvm.MethodName)) ∈ lw_all := lw_g (lw_at lw_m2 171 rfl) rfl
theorem q523 : (Jvm.Cond.static ({ cls := "java/lang/Math", name := "max", desc := "(II)I" } : Jvm.MethodName)) ∈ lw_all := lw_g (lw_at lw_m2 172 rfl) rfl
theorem q524 : (Jvm.Cond.code ({ cls := "java/lang/Math", name := "max", desc := "(II)I" } : Jvm.MethodName) prog_44_method_65_code (2 : Nat) (Option.some Jvm.ClassFile.FieldType.int)) ∈ lw_all := lw_g (lw_at lw_m2 173 rfl) rfl
theorem q525 : (Jvm.Cond.methodLink "java/lang/StringLatin1" (38 : Nat) ({ cls := "java/lang/Math", name := "min", desc := "(II)I" } : Jvm.MethodName)) ∈ lw_all := lw_g (lw_at lw_m2 174 rfl) rfl
theorem q526 : (Jvm.Cond.static ({ cls := "java/lang/Math", name := "min", desc := "(II)I" } : Jvm.MethodName)) ∈ lw_all := lw_g (lw_at lw_m2 175 rfl) rfl
theorem q527 : (Jvm.Cond.code ({ cls := "java/lang/Math", name := "min", desc := "(II)I" } : Jvm.MethodName) prog_44_method_69_code (2 : Nat) (Option.some Jvm.ClassFile.FieldType.int)) ∈ lw_all := lw_g (lw_at lw_m2 176 rfl) rfl
theorem q528 : (Jvm.Cond.methodLink "java/lang/StringLatin1" (95 : Nat) ({ cls := "java/lang/StringLatin1", name := "indexOfChar", desc := "([BIII)I" } : Jvm.MethodName)) ∈ lw_all := lw_g (lw_at lw_m2 177 rfl) rfl
theorem q529 : (Jvm.Cond.static ({ cls := "java/lang/StringLatin1", name := "indexOfChar", desc := "([BIII)I" } : Jvm.MethodName)) ∈ lw_all := lw_g (lw_at lw_m2 178 rfl) rfl
theorem q530 : (Jvm.Cond.code ({ cls := "java/lang/StringLatin1", name := "indexOfChar", desc := "([BIII)I" } : Jvm.MethodName) prog_48_method_23_code (6 : Nat) (Option.some Jvm.ClassFile.FieldType.int)) ∈ lw_all := lw_g (lw_at lw_m2 179 rfl) rfl
theorem q549 : (Jvm.Cond.fieldLink "java/lang/String" (1053 : Nat) "jdk/internal/util/Preconditions" "SIOOBE_FORMATTER" "Ljava/util/function/BiFunction;") ∈ lw_all := lw_g (lw_at lw_m2 198 rfl) rfl
theorem q551 : (Jvm.Cond.methodLink "java/lang/String" (1062 : Nat) ({ cls := "jdk/internal/util/Preconditions", name := "checkFromToIndex", desc := "(IIILjava/util/function/BiFunction;)I" } : Jvm.MethodName)) ∈ lw_all := lw_g (lw_at lw_m2 200 rfl) rfl
theorem q552 : (Jvm.Cond.static ({ cls := "jdk/internal/util/Preconditions", name := "checkFromToIndex", desc := "(IIILjava/util/function/BiFunction;)I" } : Jvm.MethodName)) ∈ lw_all := lw_g (lw_at lw_m2 201 rfl) rfl
theorem q553 : (Jvm.Cond.code ({ cls := "jdk/internal/util/Preconditions", name := "checkFromToIndex", desc := "(IIILjava/util/function/BiFunction;)I" } : Jvm.MethodName) prog_65_method_12_code (4 : Nat) (Option.some Jvm.ClassFile.FieldType.int)) ∈ lw_all := lw_g (lw_at lw_m2 202 rfl) rfl
theorem q580 : (Jvm.Cond.classLink "WornSkin$Reader" (163 : Nat) "WornSkin$Library") ∈ lw_all := lw_g (lw_at lw_m2 229 rfl) rfl
theorem q581 : (Jvm.Cond.methodLinkNest "WornSkin$Reader" (165 : Nat) ({ cls := "WornSkin$Library", name := "<init>", desc := "()V" } : Jvm.MethodName) "WornSkin") ∈ lw_tbl := lw_at lw_m2 230 rfl
theorem q582 : (Jvm.Cond.methodLink "WornSkin$Reader" (142 : Nat) ({ cls := "WornSkin$Reader", name := "isWord", desc := "(Ljava/lang/String;)Z" } : Jvm.MethodName)) ∈ lw_all := lw_g (lw_at lw_m2 231 rfl) rfl
theorem q584 : (Jvm.Cond.instanceMethod ({ cls := "WornSkin$Reader", name := "isWord", desc := "(Ljava/lang/String;)Z" } : Jvm.MethodName)) ∈ lw_all := lw_g (lw_at lw_m2 233 rfl) rfl
theorem q585 : (Jvm.Cond.code ({ cls := "WornSkin$Reader", name := "isWord", desc := "(Ljava/lang/String;)Z" } : Jvm.MethodName) prog_20_method_8_code (2 : Nat) (Option.some Jvm.ClassFile.FieldType.boolean)) ∈ lw_all := lw_g (lw_at lw_m2 234 rfl) rfl
theorem q586 : (Jvm.Cond.methodLink "WornSkin$Reader" (138 : Nat) ({ cls := "WornSkin$Reader", name := "word", desc := "(Ljava/lang/String;)J" } : Jvm.MethodName)) ∈ lw_all := lw_g (lw_at lw_m2 235 rfl) rfl
theorem q587 : (Jvm.Cond.static ({ cls := "WornSkin$Reader", name := "word", desc := "(Ljava/lang/String;)J" } : Jvm.MethodName)) ∈ lw_all := lw_g (lw_at lw_m2 236 rfl) rfl
theorem q588 : (Jvm.Cond.code ({ cls := "WornSkin$Reader", name := "word", desc := "(Ljava/lang/String;)J" } : Jvm.MethodName) prog_20_method_3_code (4 : Nat) (Option.some Jvm.ClassFile.FieldType.long)) ∈ lw_all := lw_g (lw_at lw_m2 237 rfl) rfl
theorem q589 : (Jvm.Cond.methodLink "WornSkin$Reader" (101 : Nat) ({ cls := "java/lang/String", name := "length", desc := "()I" } : Jvm.MethodName)) ∈ lw_all := lw_g (lw_at lw_m2 238 rfl) rfl
theorem q590 : (Jvm.Cond.methodLink "WornSkin$Reader" (107 : Nat) ({ cls := "java/lang/String", name := "charAt", desc := "(I)C" } : Jvm.MethodName)) ∈ lw_all := lw_g (lw_at lw_m2 239 rfl) rfl
theorem q591 : (Jvm.Cond.instanceMethod ({ cls := "java/lang/String", name := "charAt", desc := "(I)C" } : Jvm.MethodName)) ∈ lw_all := lw_g (lw_at lw_m3 0 rfl) rfl
theorem q592 : (Jvm.Cond.selects "java/lang/String" ({ cls := "java/lang/String", name := "charAt", desc := "(I)C" } : Jvm.MethodName) ({ cls := "java/lang/String", name := "charAt", desc := "(I)C" } : Jvm.MethodName)) ∈ lw_all := lw_g (lw_at lw_m3 1 rfl) rfl
theorem q593 : (Jvm.Cond.code ({ cls := "java/lang/String", name := "charAt", desc := "(I)C" } : Jvm.MethodName) prog_47_method_56_code (2 : Nat) (Option.some Jvm.ClassFile.FieldType.char)) ∈ lw_all := lw_g (lw_at lw_m3 2 rfl) rfl
theorem q594 : (Jvm.Cond.methodLink "java/lang/String" (495 : Nat) ({ cls := "java/lang/StringLatin1", name := "charAt", desc := "([BI)C" } : Jvm.MethodName)) ∈ lw_all := lw_g (lw_at lw_m3 3 rfl) rfl
theorem q595 : (Jvm.Cond.static ({ cls := "java/lang/StringLatin1", name := "charAt", desc := "([BI)C" } : Jvm.MethodName)) ∈ lw_all := lw_g (lw_at lw_m3 4 rfl) rfl
theorem q596 : (Jvm.Cond.code ({ cls := "java/lang/StringLatin1", name := "charAt", desc := "([BI)C" } : Jvm.MethodName) prog_48_method_2_code (2 : Nat) (Option.some Jvm.ClassFile.FieldType.char)) ∈ lw_all := lw_g (lw_at lw_m3 5 rfl) rfl
theorem q597 : (Jvm.Cond.methodLink "java/lang/StringLatin1" (9 : Nat) ({ cls := "java/lang/String", name := "checkIndex", desc := "(II)V" } : Jvm.MethodName)) ∈ lw_all := lw_g (lw_at lw_m3 6 rfl) rfl
theorem q598 : (Jvm.Cond.static ({ cls := "java/lang/String", name := "checkIndex", desc := "(II)V" } : Jvm.MethodName)) ∈ lw_all := lw_g (lw_at lw_m3 7 rfl) rfl
theorem q599 : (Jvm.Cond.code ({ cls := "java/lang/String", name := "checkIndex", desc := "(II)V" } : Jvm.MethodName) prog_47_method_155_code (2 : Nat) (Option.none : Option Jvm.ClassFile.FieldType)) ∈ lw_all := lw_g (lw_at lw_m3 8 rfl) rfl
theorem q600 : (Jvm.Cond.methodLink "java/lang/String" (1059 : Nat) ({ cls := "jdk/internal/util/Preconditions", name := "checkIndex", desc := "(IILjava/util/function/BiFunction;)I" } : Jvm.MethodName)) ∈ lw_all := lw_g (lw_at lw_m3 9 rfl) rfl
theorem q608 : (Jvm.Cond.methodLink "WornSkin$Reader" (170 : Nat) ({ cls := "WornSkin$Reader", name := "skin", desc := "()V" } : Jvm.MethodName)) ∈ lw_all := lw_g (lw_at lw_m3 17 rfl) rfl
theorem q610 : (Jvm.Cond.instanceMethod ({ cls := "WornSkin$Reader", name := "skin", desc := "()V" } : Jvm.MethodName)) ∈ lw_all := lw_g (lw_at lw_m3 19 rfl) rfl
theorem q611 : (Jvm.Cond.code ({ cls := "WornSkin$Reader", name := "skin", desc := "()V" } : Jvm.MethodName) prog_20_method_20_code (3 : Nat) (Option.none : Option Jvm.ClassFile.FieldType)) ∈ lw_all := lw_g (lw_at lw_m3 20 rfl) rfl
theorem q612 : (Jvm.Cond.methodLink "WornSkin$Reader" (226 : Nat) ({ cls := "java/util/ArrayList", name := "size", desc := "()I" } : Jvm.MethodName)) ∈ lw_all := lw_g (lw_at lw_m3 21 rfl) rfl
theorem q613 : (Jvm.Cond.methodLink "WornSkin$Reader" (229 : Nat) ({ cls := "WornSkin$Reader", name := "newName", desc := "(ZI)V" } : Jvm.MethodName)) ∈ lw_all := lw_g (lw_at lw_m3 22 rfl) rfl
theorem q615 : (Jvm.Cond.instanceMethod ({ cls := "WornSkin$Reader", name := "newName", desc := "(ZI)V" } : Jvm.MethodName)) ∈ lw_all := lw_g (lw_at lw_m3 24 rfl) rfl
theorem q616 : (Jvm.Cond.code ({ cls := "WornSkin$Reader", name := "newName", desc := "(ZI)V" } : Jvm.MethodName) prog_20_method_18_code (3 : Nat) (Option.none : Option Jvm.ClassFile.FieldType)) ∈ lw_all := lw_g (lw_at lw_m3 25 rfl) rfl
theorem q617 : (Jvm.Cond.methodLink "WornSkin$Reader" (152 : Nat) ({ cls := "WornSkin$Reader", name := "wrong", desc := "(I)LWornSkin$Wrong;" } : Jvm.MethodName)) ∈ lw_all := lw_g (lw_at lw_m3 26 rfl) rfl
theorem q619 : (Jvm.Cond.instanceMethod ({ cls := "WornSkin$Reader", name := "wrong", desc := "(I)LWornSkin$Wrong;" } : Jvm.MethodName)) ∈ lw_all := lw_g (lw_at lw_m3 28 rfl) rfl
theorem q620 : (Jvm.Cond.code ({ cls := "WornSkin$Reader", name := "wrong", desc := "(I)LWornSkin$Wrong;" } : Jvm.MethodName) prog_20_method_7_code (2 : Nat) (Option.some (Jvm.ClassFile.FieldType.object "WornSkin$Wrong"))) ∈ lw_all := lw_g (lw_at lw_m3 29 rfl) rfl
theorem q621 : (Jvm.Cond.classLink "WornSkin$Reader" (133 : Nat) "WornSkin$Wrong") ∈ lw_all := lw_g (lw_at lw_m3 30 rfl) rfl
theorem q622 : (Jvm.Cond.instantiable "WornSkin$Wrong" (7 : Nat)) ∈ lw_all := lw_g (lw_at lw_m3 31 rfl) rfl
theorem q624 : (Jvm.Cond.declares ({ cls := "java/lang/Exception", name := "<init>", desc := "()V" } : Jvm.MethodName)) ∈ lw_tbl := lw_at lw_m3 33 rfl
theorem q626 : (Jvm.Cond.declares ({ cls := "java/lang/Throwable", name := "<init>", desc := "()V" } : Jvm.MethodName)) ∈ lw_tbl := lw_at lw_m3 35 rfl
theorem q628 : (Jvm.Cond.selects "WornSkin$Wrong" ({ cls := "java/lang/Throwable", name := "fillInStackTrace", desc := "(I)Ljava/lang/Throwable;" } : Jvm.MethodName) ({ cls := "java/lang/Throwable", name := "fillInStackTrace", desc := "(I)Ljava/lang/Throwable;" } : Jvm.MethodName)) ∈ lw_all := lw_g (lw_at lw_m3 37 rfl) rfl
theorem q629 : (Jvm.Cond.selects "WornSkin$Wrong" ({ cls := "java/lang/Throwable", name := "fillInStackTrace", desc := "()Ljava/lang/Throwable;" } : Jvm.MethodName) ({ cls := "java/lang/Throwable", name := "fillInStackTrace", desc := "()Ljava/lang/Throwable;" } : Jvm.MethodName)) ∈ lw_all := lw_g (lw_at lw_m3 38 rfl) rfl
theorem q631 : (Jvm.Cond.lays "java/lang/Throwable" "java/lang/Throwable" "cause" "Ljava/lang/Throwable;") ∈ lw_all := lw_g (lw_at lw_m3 40 rfl) rfl
theorem q633 : (Jvm.Cond.lays "java/lang/Throwable" "java/lang/Throwable" "stackTrace" "[Ljava/lang/StackTraceElement;") ∈ lw_all := lw_g (lw_at lw_m3 42 rfl) rfl
theorem q635 : (Jvm.Cond.lays "java/lang/Throwable" "java/lang/Throwable" "suppressedExceptions" "Ljava/util/List;") ∈ lw_all := lw_g (lw_at lw_m3 44 rfl) rfl
theorem q637 : (Jvm.Cond.lays "java/lang/Throwable" "java/lang/Throwable" "detailMessage" "Ljava/lang/String;") ∈ lw_all := lw_g (lw_at lw_m3 46 rfl) rfl
theorem q639 : (Jvm.Cond.lays "java/lang/Throwable" "java/lang/Throwable" "backtrace" "Ljava/lang/Object;") ∈ lw_all := lw_g (lw_at lw_m3 48 rfl) rfl
theorem q640 : (Jvm.Cond.fieldLink "java/lang/Throwable" (198 : Nat) "java/lang/Throwable" "backtrace" "Ljava/lang/Object;") ∈ lw_all := lw_g (lw_at lw_m3 49 rfl) rfl
theorem q641 : (Jvm.Cond.superclass "java/lang/Throwable" "java/lang/Object") ∈ lw_all := lw_g (lw_at lw_m3 50 rfl) rfl
theorem q642 : (Jvm.Cond.instanceMethod ({ cls := "java/lang/Throwable", name := "<init>", desc := "()V" } : Jvm.MethodName)) ∈ lw_all := lw_g (lw_at lw_m3 51 rfl) rfl
theorem q643 : (Jvm.Cond.code ({ cls := "java/lang/Throwable", name := "<init>", desc := "()V" } : Jvm.MethodName) prog_51_method_1_code (1 : Nat) (Option.none : Option Jvm.ClassFile.FieldType)) ∈ lw_all := lw_g (lw_at lw_m3 52 rfl) rfl
theorem q644 : (Jvm.Cond.methodLink "java/lang/Throwable" (1 : Nat) ({ cls := "java/lang/Object", name := "<init>", desc := "()V" } : Jvm.MethodName)) ∈ lw_all := lw_g (lw_at lw_m3 53 rfl) rfl
theorem q645 : (Jvm.Cond.fieldLink "java/lang/Throwable" (13 : Nat) "java/lang/Throwable" "UNASSIGNED_STACK" "[Ljava/lang/StackTraceElement;") ∈ lw_all := lw_g (lw_at lw_m3 54 rfl) rfl
theorem q647 : (Jvm.Cond.fieldLink "java/lang/Throwable" (20 : Nat) "java/lang/Throwable" "SUPPRESSED_SENTINEL" "Ljava/util/List;") ∈ lw_all := lw_g (lw_at lw_m3 56 rfl) rfl
theorem q649 : (Jvm.Cond.methodLink "java/lang/Throwable" (27 : Nat) ({ cls := "java/lang/Throwable", name := "fillInStackTrace", desc := "()Ljava/lang/Throwable;" } : Jvm.MethodName)) ∈ lw_all := lw_g (lw_at lw_m3 58 rfl) rfl
theorem q650 : (Jvm.Cond.instanceMethod ({ cls := "java/lang/Throwable", name := "fillInStackTrace", desc := "()Ljava/lang/Throwable;" } : Jvm.MethodName)) ∈ lw_all := lw_g (lw_at lw_m3 59 rfl) rfl
theorem q652 : (Jvm.Cond.selects "java/util/NoSuchElementException" ({ cls := "java/lang/Throwable", name := "fillInStackTrace", desc := "()Ljava/lang/Throwable;" } : Jvm.MethodName) ({ cls := "java/lang/Throwable", name := "fillInStackTrace", desc := "()Ljava/lang/Throwable;" } : Jvm.MethodName)) ∈ lw_all := lw_g (lw_at lw_m3 61 rfl) rfl
theorem q653 : (Jvm.Cond.codeSync ({ cls := "java/lang/Throwable", name := "fillInStackTrace", desc := "()Ljava/lang/Throwable;" } : Jvm.MethodName) prog_51_method_18_code (1 : Nat) (Option.some (Jvm.ClassFile.FieldType.object "java/lang/Throwable"))) ∈ lw_all := lw_g (lw_at lw_m3 62 rfl) rfl
theorem q654 : (Jvm.Cond.methodLink "java/lang/Throwable" (202 : Nat) ({ cls := "java/lang/Throwable", name := "fillInStackTrace", desc := "(I)Ljava/lang/Throwable;" } : Jvm.MethodName)) ∈ lw_all := lw_g (lw_at lw_m3 63 rfl) rfl
theorem q656 : (Jvm.Cond.instanceMethod ({ cls := "java/lang/Throwable", name := "fillInStackTrace", desc := "(I)Ljava/lang/Throwable;" } : Jvm.MethodName)) ∈ lw_all := lw_g (lw_at lw_m3 65 rfl) rfl
theorem q658 : (Jvm.Cond.native ({ cls := "java/lang/Throwable", name := "fillInStackTrace", desc := "(I)Ljava/lang/Throwable;" } : Jvm.MethodName)) ∈ lw_all := lw_g (lw_at lw_m3 67 rfl) rfl
theorem q659 : (Jvm.Cond.methodLink "WornSkin$Reader" (135 : Nat) ({ cls := "WornSkin$Wrong", name := "<init>", desc := "(I)V" } : Jvm.MethodName)) ∈ lw_all := lw_g (lw_at lw_m3 68 rfl) rfl
theorem q660 : (Jvm.Cond.instanceMethod ({ cls := "WornSkin$Wrong", name := "<init>", desc := "(I)V" } : Jvm.MethodName)) ∈ lw_all := lw_g (lw_at lw_m3 69 rfl) rfl
theorem q661 : (Jvm.Cond.code ({ cls := "WornSkin$Wrong", name := "<init>", desc := "(I)V" } : Jvm.MethodName) prog_30_method_1_code (2 : Nat) (Option.none : Option Jvm.ClassFile.FieldType)) ∈ lw_all := lw_g (lw_at lw_m3 70 rfl) rfl
theorem q662 : (Jvm.Cond.methodLink "WornSkin$Wrong" (1 : Nat) ({ cls := "java/lang/Exception", name := "<init>", desc := "()V" } : Jvm.MethodName)) ∈ lw_all := lw_g (lw_at lw_m3 71 rfl) rfl
theorem q663 : (Jvm.Cond.instanceMethod ({ cls := "java/lang/Exception", name := "<init>", desc := "()V" } : Jvm.MethodName)) ∈ lw_all := lw_g (lw_at lw_m3 72 rfl) rfl
theorem q664 : (Jvm.Cond.code ({ cls := "java/lang/Exception", name := "<init>", desc := "()V" } : Jvm.MethodName) prog_38_method_1_code (1 : Nat) (Option.none : Option Jvm.ClassFile.FieldType)) ∈ lw_all := lw_g (lw_at lw_m3 73 rfl) rfl
theorem q665 : (Jvm.Cond.methodLink "java/lang/Exception" (1 : Nat) ({ cls := "java/lang/Throwable", name := "<init>", desc := "()V" } : Jvm.MethodName)) ∈ lw_all := lw_g (lw_at lw_m3 74 rfl) rfl
theorem q666 : (Jvm.Cond.fieldLink "WornSkin$Wrong" (7 : Nat) "WornSkin$Wrong" "fault" "I") ∈ lw_all := lw_g (lw_at lw_m3 75 rfl) rfl
theorem q667 : (Jvm.Cond.fieldLink "WornSkin" (95 : Nat) "WornSkin$Wrong" "fault" "I") ∈ lw_all := lw_g (lw_at lw_m3 76 rfl) rfl
theorem q669 : (Jvm.Cond.fieldLink "java/lang/Throwable" (7 : Nat) "java/lang/Throwable" "cause" "Ljava/lang/Throwable;") ∈ lw_all := lw_g (lw_at lw_m3 78 rfl) rfl
theorem q670 : (Jvm.Cond.fieldLink "java/lang/Throwable" (17 : Nat) "java/lang/Throwable" "stackTrace" "[Ljava/lang/StackTraceElement;") ∈ lw_all := lw_g (lw_at lw_m3 79 rfl) rfl
theorem q671 : (Jvm.Cond.fieldLink "java/lang/Throwable" (24 : Nat) "java/lang/Throwable" "suppressedExceptions" "Ljava/util/List;") ∈ lw_all := lw_g (lw_at lw_m3 80 rfl) rfl
theorem q682 : (Jvm.Cond.methodLink "WornSkin$Reader" (191 : Nat) ({ cls := "WornSkin$Reader", name := "isName", desc := "()Z" } : Jvm.MethodName)) ∈ lw_all := lw_g (lw_at lw_m3 91 rfl) rfl
theorem q684 : (Jvm.Cond.instanceMethod ({ cls := "WornSkin$Reader", name := "isName", desc := "()Z" } : Jvm.MethodName)) ∈ lw_all := lw_g (lw_at lw_m3 93 rfl) rfl
theorem q685 : (Jvm.Cond.code ({ cls := "WornSkin$Reader", name := "isName", desc := "()Z" } : Jvm.MethodName) prog_20_method_15_code (1 : Nat) (Option.some Jvm.ClassFile.FieldType.boolean)) ∈ lw_all := lw_g (lw_at lw_m3 94 rfl) rfl
theorem q686 : (Jvm.Cond.methodLink "WornSkin$Reader" (156 : Nat) ({ cls := "WornSkin$Reader", name := "which", desc := "([Ljava/lang/String;)I" } : Jvm.MethodName)) ∈ lw_all := lw_g (lw_at lw_m3 95 rfl) rfl
theorem q688 : (Jvm.Cond.instanceMethod ({ cls := "WornSkin$Reader", name := "which", desc := "([Ljava/lang/String;)I" } : Jvm.MethodName)) ∈ lw_all := lw_g (lw_at lw_m3 97 rfl) rfl
theorem q689 : (Jvm.Cond.code ({ cls := "WornSkin$Reader", name := "which", desc := "([Ljava/lang/String;)I" } : Jvm.MethodName) prog_20_method_10_code (3 : Nat) (Option.some Jvm.ClassFile.FieldType.int)) ∈ lw_all := lw_g (lw_at lw_m3 98 rfl) rfl
theorem q690 : (Jvm.Cond.methodLink "WornSkin$Reader" (195 : Nat) ({ cls := "WornSkin$Library", name := "find", desc := "(J)I" } : Jvm.MethodName)) ∈ lw_all := lw_g (lw_at lw_m3 99 rfl) rfl
theorem q691 : (Jvm.Cond.instanceMethod ({ cls := "WornSkin$Library", name := "find", desc := "(J)I" } : Jvm.MethodName)) ∈ lw_all := lw_g (lw_at lw_m3 100 rfl) rfl
theorem q692 : (Jvm.Cond.selects "WornSkin$Library" ({ cls := "WornSkin$Library", name := "find", desc := "(J)I" } : Jvm.MethodName) ({ cls := "WornSkin$Library", name := "find", desc := "(J)I" } : Jvm.MethodName)) ∈ lw_all := lw_g (lw_at lw_m3 101 rfl) rfl
theorem q693 : (Jvm.Cond.code ({ cls := "WornSkin$Library", name := "find", desc := "(J)I" } : Jvm.MethodName) prog_9_method_2_code (4 : Nat) (Option.some Jvm.ClassFile.FieldType.int)) ∈ lw_all := lw_g (lw_at lw_m3 102 rfl) rfl
theorem q694 : (Jvm.Cond.methodLink "WornSkin$Library" (40 : Nat) ({ cls := "java/util/ArrayList", name := "size", desc := "()I" } : Jvm.MethodName)) ∈ lw_all := lw_g (lw_at lw_m3 103 rfl) rfl
theorem q695 : (Jvm.Cond.methodLink "WornSkin$Library" (44 : Nat) ({ cls := "java/util/ArrayList", name := "get", desc := "(I)Ljava/lang/Object;" } : Jvm.MethodName)) ∈ lw_all := lw_g (lw_at lw_m3 104 rfl) rfl
theorem q696 : (Jvm.Cond.classLink "WornSkin$Library" (48 : Nat) "java/lang/Long") ∈ lw_all := lw_g (lw_at lw_m3 105 rfl) rfl
theorem q697 : (Jvm.Cond.methodLink "WornSkin$Library" (50 : Nat) ({ cls := "java/lang/Long", name := "longValue", desc := "()J" } : Jvm.MethodName)) ∈ lw_all := lw_g (lw_at lw_m3 106 rfl) rfl
theorem q698 : (Jvm.Cond.instanceMethod ({ cls := "java/lang/Long", name := "longValue", desc := "()J" } : Jvm.MethodName)) ∈ lw_all := lw_g (lw_at lw_m3 107 rfl) rfl
theorem q699 : (Jvm.Cond.selects "java/lang/Long" ({ cls := "java/lang/Long", name := "longValue", desc := "()J" } : Jvm.MethodName) ({ cls := "java/lang/Long", name := "longValue", desc := "()J" } : Jvm.MethodName)) ∈ lw_all := lw_g (lw_at lw_m3 108 rfl) rfl
theorem q700 : (Jvm.Cond.code ({ cls := "java/lang/Long", name := "longValue", desc := "()J" } : Jvm.MethodName) prog_42_method_31_code (1 : Nat) (Option.some Jvm.ClassFile.FieldType.long)) ∈ lw_all := lw_g (lw_at lw_m3 109 rfl) rfl
theorem q701 : (Jvm.Cond.classLink "WornSkin$Library" (54 : Nat) "java/lang/Integer") ∈ lw_all := lw_g (lw_at lw_m3 110 rfl) rfl
theorem q702 : (Jvm.Cond.methodLink "WornSkin$Library" (56 : Nat) ({ cls := "java/lang/Integer", name := "intValue", desc := "()I" } : Jvm.MethodName)) ∈ lw_all := lw_g (lw_at lw_m3 111 rfl) rfl
theorem q703 : (Jvm.Cond.instanceMethod ({ cls := "java/lang/Integer", name := "intValue", desc := "()I" } : Jvm.MethodName)) ∈ lw_all := lw_g (lw_at lw_m3 112 rfl) rfl
theorem q704 : (Jvm.Cond.selects "java/lang/Integer" ({ cls := "java/lang/Integer", name := "intValue", desc := "()I" } : Jvm.MethodName) ({ cls := "java/lang/Integer", name := "intValue", desc := "()I" } : Jvm.MethodName)) ∈ lw_all := lw_g (lw_at lw_m3 113 rfl) rfl
theorem q705 : (Jvm.Cond.code ({ cls := "java/lang/Integer", name := "intValue", desc := "()I" } : Jvm.MethodName) prog_39_method_27_code (1 : Nat) (Option.some Jvm.ClassFile.FieldType.int)) ∈ lw_all := lw_g (lw_at lw_m3 114 rfl) rfl
theorem q706 : (Jvm.Cond.methodLink "WornSkin$Reader" (203 : Nat) ({ cls := "java/lang/Long", name := "valueOf", desc := "(J)Ljava/lang/Long;" } : Jvm.MethodName)) ∈ lw_all := lw_g (lw_at lw_m3 115 rfl) rfl
theorem q707 : (Jvm.Cond.static ({ cls := "java/lang/Long", name := "valueOf", desc := "(J)Ljava/lang/Long;" } : Jvm.MethodName)) ∈ lw_all := lw_g (lw_at lw_m3 116 rfl) rfl
theorem q708 : (Jvm.Cond.code ({ cls := "java/lang/Long", name := "valueOf", desc := "(J)Ljava/lang/Long;" } : Jvm.MethodName) prog_42_method_24_code (3 : Nat) (Option.some (Jvm.ClassFile.FieldType.object "java/lang/Long"))) ∈ lw_all := lw_g (lw_at lw_m3 117 rfl) rfl
theorem q709 : (Jvm.Cond.constantLong "java/lang/Long" (230 : Nat) (-128 : Int64)) ∈ lw_all := lw_g (lw_at lw_m3 118 rfl) rfl
theorem q710 : (Jvm.Cond.constantLong "java/lang/Long" (232 : Nat) (127 : Int64)) ∈ lw_all := lw_g (lw_at lw_m3 119 rfl) rfl
theorem q711 : (Jvm.Cond.fieldLink "java/lang/Long" (234 : Nat) "java/lang/Long$LongCache" "cache" "[Ljava/lang/Long;") ∈ lw_all := lw_g (lw_at lw_m3 120 rfl) rfl
theorem q713 : (Jvm.Cond.classLink "java/lang/Long" (1 : Nat) "java/lang/Long") ∈ lw_all := lw_g (lw_at lw_m3 122 rfl) rfl
theorem q714 : (Jvm.Cond.instantiable "java/lang/Long" (1 : Nat)) ∈ lw_all := lw_g (lw_at lw_m3 123 rfl) rfl
theorem q715 : (Jvm.Cond.methodLink "java/lang/Long" (240 : Nat) ({ cls := "java/lang/Long", name := "<init>", desc := "(J)V" } : Jvm.MethodName)) ∈ lw_all := lw_g (lw_at lw_m3 124 rfl) rfl
theorem q716 : (Jvm.Cond.instanceMethod ({ cls := "java/lang/Long", name := "<init>", desc := "(J)V" } : Jvm.MethodName)) ∈ lw_all := lw_g (lw_at lw_m3 125 rfl) rfl
theorem q717 : (Jvm.Cond.code ({ cls := "java/lang/Long", name := "<init>", desc := "(J)V" } : Jvm.MethodName) prog_42_method_26_code (3 : Nat) (Option.none : Option Jvm.ClassFile.FieldType)) ∈ lw_all := lw_g (lw_at lw_m3 126 rfl) rfl
theorem q718 : (Jvm.Cond.methodLink "java/lang/Long" (270 : Nat) ({ cls := "java/lang/Number", name := "<init>", desc := "()V" } : Jvm.MethodName)) ∈ lw_all := lw_g (lw_at lw_m3 127 rfl) rfl
theorem q719 : (Jvm.Cond.instanceMethod ({ cls := "java/lang/Number", name := "<init>", desc := "()V" } : Jvm.MethodName)) ∈ lw_all := lw_g (lw_at lw_m3 128 rfl) rfl
theorem q720 : (Jvm.Cond.code ({ cls := "java/lang/Number", name := "<init>", desc := "()V" } : Jvm.MethodName) prog_45_method_1_code (1 : Nat) (Option.none : Option Jvm.ClassFile.FieldType)) ∈ lw_all := lw_g (lw_at lw_m3 129 rfl) rfl
theorem q721 : (Jvm.Cond.methodLink "java/lang/Number" (1 : Nat) ({ cls := "java/lang/Object", name := "<init>", desc := "()V" } : Jvm.MethodName)) ∈ lw_all := lw_g (lw_at lw_m3 130 rfl) rfl
theorem q722 : (Jvm.Cond.fieldLink "java/lang/Long" (273 : Nat) "java/lang/Long" "value" "J") ∈ lw_all := lw_g (lw_at lw_m3 131 rfl) rfl
theorem q726 : (Jvm.Cond.methodLink "WornSkin$Reader" (209 : Nat) ({ cls := "java/util/ArrayList", name := "add", desc := "(Ljava/lang/Object;)Z" } : Jvm.MethodName)) ∈ lw_all := lw_g (lw_at lw_m3 135 rfl) rfl
theorem q727 : (Jvm.Cond.instanceMethod ({ cls := "java/util/ArrayList", name := "add", desc := "(Ljava/lang/Object;)Z" } : Jvm.MethodName)) ∈ lw_all := lw_g (lw_at lw_m3 136 rfl) rfl
theorem q728 : (Jvm.Cond.selects "java/util/ArrayList" ({ cls := "java/util/ArrayList", name := "add", desc := "(Ljava/lang/Object;)Z" } : Jvm.MethodName) ({ cls := "java/util/ArrayList", name := "add", desc := "(Ljava/lang/Object;)Z" } : Jvm.MethodName)) ∈ lw_all := lw_g (lw_at lw_m3 137 rfl) rfl
theorem q729 : (Jvm.Cond.code ({ cls := "java/util/ArrayList", name := "add", desc := "(Ljava/lang/Object;)Z" } : Jvm.MethodName) prog_56_method_25_code (2 : Nat) (Option.some Jvm.ClassFile.FieldType.boolean)) ∈ lw_all := lw_g (lw_at lw_m3 138 rfl) rfl
theorem q730 : (Jvm.Cond.methodLink "java/util/ArrayList" (131 : Nat) ({ cls := "java/util/ArrayList", name := "add", desc := "(Ljava/lang/Object;[Ljava/lang/Object;I)V" } : Jvm.MethodName)) ∈ lw_all := lw_g (lw_at lw_m3 139 rfl) rfl
theorem q732 : (Jvm.Cond.instanceMethod ({ cls := "java/util/ArrayList", name := "add", desc := "(Ljava/lang/Object;[Ljava/lang/Object;I)V" } : Jvm.MethodName)) ∈ lw_all := lw_g (lw_at lw_m3 141 rfl) rfl
theorem q733 : (Jvm.Cond.code ({ cls := "java/util/ArrayList", name := "add", desc := "(Ljava/lang/Object;[Ljava/lang/Object;I)V" } : Jvm.MethodName) prog_56_method_24_code (4 : Nat) (Option.none : Option Jvm.ClassFile.FieldType)) ∈ lw_all := lw_g (lw_at lw_m3 142 rfl) rfl
theorem q734 : (Jvm.Cond.methodLink "java/util/ArrayList" (129 : Nat) ({ cls := "java/util/ArrayList", name := "grow", desc := "()[Ljava/lang/Object;" } : Jvm.MethodName)) ∈ lw_all := lw_g (lw_at lw_m3 143 rfl) rfl
theorem q736 : (Jvm.Cond.instanceMethod ({ cls := "java/util/ArrayList", name := "grow", desc := "()[Ljava/lang/Object;" } : Jvm.MethodName)) ∈ lw_all := lw_g (lw_at lw_m3 145 rfl) rfl
theorem q737 : (Jvm.Cond.code ({ cls := "java/util/ArrayList", name := "grow", desc := "()[Ljava/lang/Object;" } : Jvm.MethodName) prog_56_method_7_code (1 : Nat) (Option.some (Jvm.ClassFile.FieldType.array (Jvm.ClassFile.FieldType.object "java/lang/Object")))) ∈ lw_all := lw_g (lw_at lw_m3 146 rfl) rfl
theorem q738 : (Jvm.Cond.methodLink "java/util/ArrayList" (69 : Nat) ({ cls := "java/util/ArrayList", name := "grow", desc := "(I)[Ljava/lang/Object;" } : Jvm.MethodName)) ∈ lw_all := lw_g (lw_at lw_m3 147 rfl) rfl
theorem q740 : (Jvm.Cond.instanceMethod ({ cls := "java/util/ArrayList", name := "grow", desc := "(I)[Ljava/lang/Object;" } : Jvm.MethodName)) ∈ lw_all := lw_g (lw_at lw_m3 149 rfl) rfl
theorem q741 : (Jvm.Cond.code ({ cls := "java/util/ArrayList", name := "grow", desc := "(I)[Ljava/lang/Object;" } : Jvm.MethodName) prog_56_method_6_code (4 : Nat) (Option.some (Jvm.ClassFile.FieldType.array (Jvm.ClassFile.FieldType.object "java/lang/Object")))) ∈ lw_all := lw_g (lw_at lw_m3 150 rfl) rfl
theorem q742 : (Jvm.Cond.methodLink "java/util/ArrayList" (73 : Nat) ({ cls := "jdk/internal/util/ArraysSupport", name := "newLength", desc := "(III)I" } : Jvm.MethodName)) ∈ lw_all := lw_g (lw_at lw_m3 151 rfl) rfl
theorem q743 : (Jvm.Cond.static ({ cls := "jdk/internal/util/ArraysSupport", name := "newLength", desc := "(III)I" } : Jvm.MethodName)) ∈ lw_all := lw_g (lw_at lw_m3 152 rfl) rfl
theorem q744 : (Jvm.Cond.code ({ cls := "jdk/internal/util/ArraysSupport", name := "newLength", desc := "(III)I" } : Jvm.MethodName) prog_64_method_27_code (4 : Nat) (Option.some Jvm.ClassFile.FieldType.int)) ∈ lw_all := lw_g (lw_at lw_m3 153 rfl) rfl
theorem q745 : (Jvm.Cond.methodLink "jdk/internal/util/ArraysSupport" (194 : Nat) ({ cls := "java/lang/Math", name := "max", desc := "(II)I" } : Jvm.MethodName)) ∈ lw_all := lw_g (lw_at lw_m3 154 rfl) rfl
theorem q746 : (Jvm.Cond.constant "jdk/internal/util/ArraysSupport" (200 : Nat) (2147483639 : Int32)) ∈ lw_all := lw_g (lw_at lw_m3 155 rfl) rfl
theorem q747 : (Jvm.Cond.methodLink "jdk/internal/util/ArraysSupport" (201 : Nat) ({ cls := "jdk/internal/util/ArraysSupport", name := "hugeLength", desc := "(II)I" } : Jvm.MethodName)) ∈ lw_all := lw_g (lw_at lw_m3 156 rfl) rfl
theorem q748 : (Jvm.Cond.static ({ cls := "jdk/internal/util/ArraysSupport", name := "hugeLength", desc := "(II)I" } : Jvm.MethodName)) ∈ lw_all := lw_g (lw_at lw_m3 157 rfl) rfl
theorem q749 : (Jvm.Cond.code ({ cls := "jdk/internal/util/ArraysSupport", name := "hugeLength", desc := "(II)I" } : Jvm.MethodName) prog_64_method_28_code (3 : Nat) (Option.some Jvm.ClassFile.FieldType.int)) ∈ lw_all := lw_g (lw_at lw_m3 158 rfl) rfl
theorem q750 : (Jvm.Cond.methodLink "java/util/ArrayList" (66 : Nat) ({ cls := "java/util/Arrays", name := "copyOf", desc := "([Ljava/lang/Object;I)[Ljava/lang/Object;" } : Jvm.MethodName)) ∈ lw_all := lw_g (lw_at lw_m3 159 rfl) rfl
theorem q751 : (Jvm.Cond.static ({ cls := "java/util/Arrays", name := "copyOf", desc := "([Ljava/lang/Object;I)[Ljava/lang/Object;" } : Jvm.MethodName)) ∈ lw_all := lw_g (lw_at lw_m3 160 rfl) rfl
theorem q752 : (Jvm.Cond.code ({ cls := "java/util/Arrays", name := "copyOf", desc := "([Ljava/lang/Object;I)[Ljava/lang/Object;" } : Jvm.MethodName) prog_57_method_119_code (2 : Nat) (Option.some (Jvm.ClassFile.FieldType.array (Jvm.ClassFile.FieldType.object "java/lang/Object")))) ∈ lw_all := lw_g (lw_at lw_m3 161 rfl) rfl
theorem q753 : (Jvm.Cond.methodLink "java/util/Arrays" (86 : Nat) ({ cls := "java/lang/Object", name := "getClass", desc := "()Ljava/lang/Class;" } : Jvm.MethodName)) ∈ lw_all := lw_g (lw_at lw_m3 162 rfl) rfl
theorem q754 : (Jvm.Cond.instanceMethod ({ cls := "java/lang/Object", name := "getClass", desc := "()Ljava/lang/Class;" } : Jvm.MethodName)) ∈ lw_all := lw_g (lw_at lw_m3 163 rfl) rfl
theorem q788 : (Jvm.Cond.native ({ cls := "java/lang/Object", name := "getClass", desc := "()Ljava/lang/Class;" } : Jvm.MethodName)) ∈ lw_all := lw_g (lw_at lw_m3 197 rfl) rfl
theorem q789 : (Jvm.Cond.methodLink "java/util/Arrays" (300 : Nat) ({ cls := "java/util/Arrays", name := "copyOf", desc := "([Ljava/lang/Object;ILjava/lang/Class;)[Ljava/lang/Object;" } : Jvm.MethodName)) ∈ lw_all := lw_g (lw_at lw_m3 198 rfl) rfl
theorem q790 : (Jvm.Cond.static ({ cls := "java/util/Arrays", name := "copyOf", desc := "([Ljava/lang/Object;ILjava/lang/Class;)[Ljava/lang/Object;" } : Jvm.MethodName)) ∈ lw_all := lw_g (lw_at lw_m3 199 rfl) rfl
theorem q791 : (Jvm.Cond.code ({ cls := "java/util/Arrays", name := "copyOf", desc := "([Ljava/lang/Object;ILjava/lang/Class;)[Ljava/lang/Object;" } : Jvm.MethodName) prog_57_method_120_code (4 : Nat) (Option.some (Jvm.ClassFile.FieldType.array (Jvm.ClassFile.FieldType.object "java/lang/Object")))) ∈ lw_all := lw_g (lw_at lw_m3 200 rfl) rfl
theorem q792 : (Jvm.Cond.classLink "java/util/Arrays" (110 : Nat) "[Ljava/lang/Object;") ∈ lw_all := lw_g (lw_at lw_m3 201 rfl) rfl
theorem q793 : (Jvm.Cond.classLink "java/util/Arrays" (2 : Nat) "java/lang/Object") ∈ lw_all := lw_g (lw_at lw_m3 202 rfl) rfl
theorem q794 : (Jvm.Cond.methodLink "java/util/Arrays" (304 : Nat) ({ cls := "java/lang/Math", name := "min", desc := "(II)I" } : Jvm.MethodName)) ∈ lw_all := lw_g (lw_at lw_m3 203 rfl) rfl
theorem q795 : (Jvm.Cond.methodLink "java/util/Arrays" (150 : Nat) ({ cls := "java/lang/System", name := "arraycopy", desc := "(Ljava/lang/Object;ILjava/lang/Object;II)V" } : Jvm.MethodName)) ∈ lw_all := lw_g (lw_at lw_m3 204 rfl) rfl
theorem q796 : (Jvm.Cond.static ({ cls := "java/lang/System", name := "arraycopy", desc := "(Ljava/lang/Object;ILjava/lang/Object;II)V" } : Jvm.MethodName)) ∈ lw_all := lw_g (lw_at lw_m3 205 rfl) rfl
theorem q797 : (Jvm.Cond.native ({ cls := "java/lang/System", name := "arraycopy", desc := "(Ljava/lang/Object;ILjava/lang/Object;II)V" } : Jvm.MethodName)) ∈ lw_all := lw_g (lw_at lw_m3 206 rfl) rfl
theorem q798 : (Jvm.Cond.methodLink "java/util/ArrayList" (79 : Nat) ({ cls := "java/lang/Math", name := "max", desc := "(II)I" } : Jvm.MethodName)) ∈ lw_all := lw_g (lw_at lw_m3 207 rfl) rfl
theorem q799 : (Jvm.Cond.methodLink "WornSkin$Reader" (218 : Nat) ({ cls := "java/lang/Integer", name := "valueOf", desc := "(I)Ljava/lang/Integer;" } : Jvm.MethodName)) ∈ lw_all := lw_g (lw_at lw_m3 208 rfl) rfl
theorem q800 : (Jvm.Cond.static ({ cls := "java/lang/Integer", name := "valueOf", desc := "(I)Ljava/lang/Integer;" } : Jvm.MethodName)) ∈ lw_all := lw_g (lw_at lw_m3 209 rfl) rfl
theorem q801 : (Jvm.Cond.code ({ cls := "java/lang/Integer", name := "valueOf", desc := "(I)Ljava/lang/Integer;" } : Jvm.MethodName) prog_39_method_22_code (1 : Nat) (Option.some (Jvm.ClassFile.FieldType.object "java/lang/Integer"))) ∈ lw_all := lw_g (lw_at lw_m3 210 rfl) rfl
theorem q802 : (Jvm.Cond.fieldLink "java/lang/Integer" (191 : Nat) "java/lang/Integer$IntegerCache" "high" "I") ∈ lw_all := lw_g (lw_at lw_m3 211 rfl) rfl
theorem q804 : (Jvm.Cond.fieldLink "java/lang/Integer" (195 : Nat) "java/lang/Integer$IntegerCache" "cache" "[Ljava/lang/Integer;") ∈ lw_all := lw_g (lw_at lw_m3 213 rfl) rfl
theorem q806 : (Jvm.Cond.classLink "java/lang/Integer" (1 : Nat) "java/lang/Integer") ∈ lw_all := lw_g (lw_at lw_m3 215 rfl) rfl
theorem q807 : (Jvm.Cond.instantiable "java/lang/Integer" (1 : Nat)) ∈ lw_all := lw_g (lw_at lw_m3 216 rfl) rfl
theorem q808 : (Jvm.Cond.methodLink "java/lang/Integer" (199 : Nat) ({ cls := "java/lang/Integer", name := "<init>", desc := "(I)V" } : Jvm.MethodName)) ∈ lw_all := lw_g (lw_at lw_m3 217 rfl) rfl
theorem q809 : (Jvm.Cond.instanceMethod ({ cls := "java/lang/Integer", name := "<init>", desc := "(I)V" } : Jvm.MethodName)) ∈ lw_all := lw_g (lw_at lw_m3 218 rfl) rfl
theorem q810 : (Jvm.Cond.code ({ cls := "java/lang/Integer", name := "<init>", desc := "(I)V" } : Jvm.MethodName) prog_39_method_23_code (2 : Nat) (Option.none : Option Jvm.ClassFile.FieldType)) ∈ lw_all := lw_g (lw_at lw_m3 219 rfl) rfl
theorem q811 : (Jvm.Cond.methodLink "java/lang/Integer" (202 : Nat) ({ cls := "java/lang/Number", name := "<init>", desc := "()V" } : Jvm.MethodName)) ∈ lw_all := lw_g (lw_at lw_m3 220 rfl) rfl
theorem q812 : (Jvm.Cond.fieldLink "java/lang/Integer" (205 : Nat) "java/lang/Integer" "value" "I") ∈ lw_all := lw_g (lw_at lw_m3 221 rfl) rfl
theorem q816 : (Jvm.Cond.methodLink "WornSkin$Reader" (233 : Nat) ({ cls := "WornSkin$Reader", name := "number", desc := "(Ljava/lang/String;II)I" } : Jvm.MethodName)) ∈ lw_all := lw_g (lw_at lw_m3 225 rfl) rfl
theorem q818 : (Jvm.Cond.instanceMethod ({ cls := "WornSkin$Reader", name := "number", desc := "(Ljava/lang/String;II)I" } : Jvm.MethodName)) ∈ lw_all := lw_g (lw_at lw_m3 227 rfl) rfl
theorem q819 : (Jvm.Cond.code ({ cls := "WornSkin$Reader", name := "number", desc := "(Ljava/lang/String;II)I" } : Jvm.MethodName) prog_20_method_17_code (4 : Nat) (Option.some Jvm.ClassFile.FieldType.int)) ∈ lw_all := lw_g (lw_at lw_m3 228 rfl) rfl
theorem q820 : (Jvm.Cond.methodLink "WornSkin$Reader" (183 : Nat) ({ cls := "WornSkin$Reader", name := "takeWord", desc := "(Ljava/lang/String;)V" } : Jvm.MethodName)) ∈ lw_all := lw_g (lw_at lw_m3 229 rfl) rfl
theorem q822 : (Jvm.Cond.instanceMethod ({ cls := "WornSkin$Reader", name := "takeWord", desc := "(Ljava/lang/String;)V" } : Jvm.MethodName)) ∈ lw_all := lw_g (lw_at lw_m3 231 rfl) rfl
theorem q823 : (Jvm.Cond.code ({ cls := "WornSkin$Reader", name := "takeWord", desc := "(Ljava/lang/String;)V" } : Jvm.MethodName) prog_20_method_28_code (2 : Nat) (Option.none : Option Jvm.ClassFile.FieldType)) ∈ lw_all := lw_g (lw_at lw_m3 232 rfl) rfl
theorem q824 : (Jvm.Cond.methodLink "WornSkin$Reader" (298 : Nat) ({ cls := "WornSkin$Reader", name := "hasWord", desc := "(Ljava/lang/String;)Z" } : Jvm.MethodName)) ∈ lw_all := lw_g (lw_at lw_m3 233 rfl) rfl
theorem q826 : (Jvm.Cond.instanceMethod ({ cls := "WornSkin$Reader", name := "hasWord", desc := "(Ljava/lang/String;)Z" } : Jvm.MethodName)) ∈ lw_all := lw_g (lw_at lw_m3 235 rfl) rfl
theorem q827 : (Jvm.Cond.code ({ cls := "WornSkin$Reader", name := "hasWord", desc := "(Ljava/lang/String;)Z" } : Jvm.MethodName) prog_20_method_9_code (3 : Nat) (Option.some Jvm.ClassFile.FieldType.boolean)) ∈ lw_all := lw_g (lw_at lw_m3 236 rfl) rfl
theorem q828 : (Jvm.Cond.methodLink "WornSkin$Reader" (187 : Nat) ({ cls := "WornSkin$Reader", name := "number", desc := "(II)I" } : Jvm.MethodName)) ∈ lw_all := lw_g (lw_at lw_m3 237 rfl) rfl
theorem q830 : (Jvm.Cond.instanceMethod ({ cls := "WornSkin$Reader", name := "number", desc := "(II)I" } : Jvm.MethodName)) ∈ lw_all := lw_g (lw_at lw_m3 239 rfl) rfl
theorem q831 : (Jvm.Cond.code ({ cls := "WornSkin$Reader", name := "number", desc := "(II)I" } : Jvm.MethodName) prog_20_method_14_code (3 : Nat) (Option.some Jvm.ClassFile.FieldType.int)) ∈ lw_all := lw_g (lw_at lw_m4 0 rfl) rfl
theorem q832 : (Jvm.Cond.classLink "WornSkin$Reader" (236 : Nat) "WornSkin$Skin") ∈ lw_all := lw_g (lw_at lw_m4 1 rfl) rfl
theorem q833 : (Jvm.Cond.instantiable "WornSkin$Skin" (3 : Nat)) ∈ lw_all := lw_g (lw_at lw_m4 2 rfl) rfl
theorem q834 : (Jvm.Cond.methodLink "WornSkin$Reader" (238 : Nat) ({ cls := "WornSkin$Skin", name := "<init>", desc := "(II)V" } : Jvm.MethodName)) ∈ lw_all := lw_g (lw_at lw_m4 3 rfl) rfl
theorem q835 : (Jvm.Cond.instanceMethod ({ cls := "WornSkin$Skin", name := "<init>", desc := "(II)V" } : Jvm.MethodName)) ∈ lw_all := lw_g (lw_at lw_m4 4 rfl) rfl
theorem q836 : (Jvm.Cond.code ({ cls := "WornSkin$Skin", name := "<init>", desc := "(II)V" } : Jvm.MethodName) prog_25_method_1_code (3 : Nat) (Option.none : Option Jvm.ClassFile.FieldType)) ∈ lw_all := lw_g (lw_at lw_m4 5 rfl) rfl
theorem q837 : (Jvm.Cond.methodLink "WornSkin$Skin" (1 : Nat) ({ cls := "java/lang/Object", name := "<init>", desc := "()V" } : Jvm.MethodName)) ∈ lw_all := lw_g (lw_at lw_m4 6 rfl) rfl
theorem q838 : (Jvm.Cond.fieldLink "WornSkin$Skin" (7 : Nat) "WornSkin$Skin" "lines" "I") ∈ lw_all := lw_g (lw_at lw_m4 7 rfl) rfl
theorem q839 : (Jvm.Cond.fieldLink "WornSkin" (134 : Nat) "WornSkin$Skin" "lines" "I") ∈ lw_all := lw_g (lw_at lw_m4 8 rfl) rfl
theorem q840 : (Jvm.Cond.fieldLink "WornSkin$Shelf" (90 : Nat) "WornSkin$Skin" "lines" "I") ∈ lw_all := lw_g (lw_at lw_m4 9 rfl) rfl
theorem q841 : (Jvm.Cond.fieldLink "WornSkin$Reader" (248 : Nat) "WornSkin$Skin" "lines" "I") ∈ lw_all := lw_g (lw_at lw_m4 10 rfl) rfl
theorem q842 : (Jvm.Cond.fieldLink "WornSkin$Skin" (13 : Nat) "WornSkin$Skin" "thick" "I") ∈ lw_all := lw_g (lw_at lw_m4 11 rfl) rfl
theorem q843 : (Jvm.Cond.fieldLink "WornSkin$Shelf" (44 : Nat) "WornSkin$Skin" "thick" "I") ∈ lw_all := lw_g (lw_at lw_m4 12 rfl) rfl
theorem q844 : (Jvm.Cond.fieldLink "WornSkin" (142 : Nat) "WornSkin$Skin" "holes" "I") ∈ lw_all := lw_g (lw_at lw_m4 13 rfl) rfl
theorem q845 : (Jvm.Cond.fieldLink "WornSkin$Shelf" (93 : Nat) "WornSkin$Skin" "holes" "I") ∈ lw_all := lw_g (lw_at lw_m4 14 rfl) rfl
theorem q846 : (Jvm.Cond.fieldLink "WornSkin$Reader" (250 : Nat) "WornSkin$Skin" "holes" "I") ∈ lw_all := lw_g (lw_at lw_m4 15 rfl) rfl
theorem q854 : (Jvm.Cond.methodLink "WornSkin$Reader" (172 : Nat) ({ cls := "WornSkin$Reader", name := "hole", desc := "()V" } : Jvm.MethodName)) ∈ lw_all := lw_g (lw_at lw_m4 23 rfl) rfl
theorem q856 : (Jvm.Cond.instanceMethod ({ cls := "WornSkin$Reader", name := "hole", desc := "()V" } : Jvm.MethodName)) ∈ lw_all := lw_g (lw_at lw_m4 25 rfl) rfl
theorem q857 : (Jvm.Cond.code ({ cls := "WornSkin$Reader", name := "hole", desc := "()V" } : Jvm.MethodName) prog_20_method_21_code (3 : Nat) (Option.none : Option Jvm.ClassFile.FieldType)) ∈ lw_all := lw_g (lw_at lw_m4 26 rfl) rfl
theorem q858 : (Jvm.Cond.methodLink "WornSkin$Reader" (241 : Nat) ({ cls := "WornSkin$Reader", name := "told", desc := "(I)I" } : Jvm.MethodName)) ∈ lw_all := lw_g (lw_at lw_m4 27 rfl) rfl
theorem q860 : (Jvm.Cond.instanceMethod ({ cls := "WornSkin$Reader", name := "told", desc := "(I)I" } : Jvm.MethodName)) ∈ lw_all := lw_g (lw_at lw_m4 29 rfl) rfl
theorem q861 : (Jvm.Cond.code ({ cls := "WornSkin$Reader", name := "told", desc := "(I)I" } : Jvm.MethodName) prog_20_method_19_code (3 : Nat) (Option.some Jvm.ClassFile.FieldType.int)) ∈ lw_all := lw_g (lw_at lw_m4 30 rfl) rfl
theorem q862 : (Jvm.Cond.methodLink "WornSkin$Reader" (244 : Nat) ({ cls := "java/util/ArrayList", name := "get", desc := "(I)Ljava/lang/Object;" } : Jvm.MethodName)) ∈ lw_all := lw_g (lw_at lw_m4 31 rfl) rfl
theorem q863 : (Jvm.Cond.methodLinkNest "WornSkin$Reader" (253 : Nat) ({ cls := "WornSkin", name := "has", desc := "(II)Z" } : Jvm.MethodName) "WornSkin") ∈ lw_tbl := lw_at lw_m4 32 rfl
theorem q864 : (Jvm.Cond.static ({ cls := "WornSkin", name := "has", desc := "(II)Z" } : Jvm.MethodName)) ∈ lw_all := lw_g (lw_at lw_m4 33 rfl) rfl
theorem q865 : (Jvm.Cond.code ({ cls := "WornSkin", name := "has", desc := "(II)Z" } : Jvm.MethodName) prog_1_method_2_code (2 : Nat) (Option.some Jvm.ClassFile.FieldType.boolean)) ∈ lw_all := lw_g (lw_at lw_m4 34 rfl) rfl
theorem q866 : (Jvm.Cond.methodLink "WornSkin$Reader" (174 : Nat) ({ cls := "WornSkin$Reader", name := "text", desc := "()V" } : Jvm.MethodName)) ∈ lw_all := lw_g (lw_at lw_m4 35 rfl) rfl
theorem q868 : (Jvm.Cond.instanceMethod ({ cls := "WornSkin$Reader", name := "text", desc := "()V" } : Jvm.MethodName)) ∈ lw_all := lw_g (lw_at lw_m4 37 rfl) rfl
theorem q869 : (Jvm.Cond.code ({ cls := "WornSkin$Reader", name := "text", desc := "()V" } : Jvm.MethodName) prog_20_method_23_code (4 : Nat) (Option.none : Option Jvm.ClassFile.FieldType)) ∈ lw_all := lw_g (lw_at lw_m4 38 rfl) rfl
theorem q870 : (Jvm.Cond.methodLink "WornSkin$Reader" (260 : Nat) ({ cls := "WornSkin$Reader", name := "one", desc := "([Ljava/lang/String;)I" } : Jvm.MethodName)) ∈ lw_all := lw_g (lw_at lw_m4 39 rfl) rfl
theorem q872 : (Jvm.Cond.instanceMethod ({ cls := "WornSkin$Reader", name := "one", desc := "([Ljava/lang/String;)I" } : Jvm.MethodName)) ∈ lw_all := lw_g (lw_at lw_m4 41 rfl) rfl
theorem q873 : (Jvm.Cond.code ({ cls := "WornSkin$Reader", name := "one", desc := "([Ljava/lang/String;)I" } : Jvm.MethodName) prog_20_method_22_code (3 : Nat) (Option.some Jvm.ClassFile.FieldType.int)) ∈ lw_all := lw_g (lw_at lw_m4 42 rfl) rfl
theorem q874 : (Jvm.Cond.methodLinkNest "WornSkin$Reader" (263 : Nat) ({ cls := "WornSkin", name := "made", desc := "(IZI)LWornSkin$Text;" } : Jvm.MethodName) "WornSkin") ∈ lw_tbl := lw_at lw_m4 43 rfl
theorem q875 : (Jvm.Cond.static ({ cls := "WornSkin", name := "made", desc := "(IZI)LWornSkin$Text;" } : Jvm.MethodName)) ∈ lw_all := lw_g (lw_at lw_m4 44 rfl) rfl
theorem q876 : (Jvm.Cond.code ({ cls := "WornSkin", name := "made", desc := "(IZI)LWornSkin$Text;" } : Jvm.MethodName) prog_1_method_4_code (3 : Nat) (Option.some (Jvm.ClassFile.FieldType.object "WornSkin$Text"))) ∈ lw_all := lw_g (lw_at lw_m4 45 rfl) rfl
theorem q877 : (Jvm.Cond.classLink "WornSkin" (1 : Nat) "WornSkin$Psalm") ∈ lw_all := lw_g (lw_at lw_m4 46 rfl) rfl
theorem q878 : (Jvm.Cond.instantiable "WornSkin$Psalm" (2 : Nat)) ∈ lw_all := lw_g (lw_at lw_m4 47 rfl) rfl
theorem q879 : (Jvm.Cond.methodLink "WornSkin" (3 : Nat) ({ cls := "WornSkin$Psalm", name := "<init>", desc := "(ZI)V" } : Jvm.MethodName)) ∈ lw_all := lw_g (lw_at lw_m4 48 rfl) rfl
theorem q880 : (Jvm.Cond.instanceMethod ({ cls := "WornSkin$Psalm", name := "<init>", desc := "(ZI)V" } : Jvm.MethodName)) ∈ lw_all := lw_g (lw_at lw_m4 49 rfl) rfl
theorem q881 : (Jvm.Cond.code ({ cls := "WornSkin$Psalm", name := "<init>", desc := "(ZI)V" } : Jvm.MethodName) prog_19_method_1_code (3 : Nat) (Option.none : Option Jvm.ClassFile.FieldType)) ∈ lw_all := lw_g (lw_at lw_m4 50 rfl) rfl
theorem q882 : (Jvm.Cond.methodLink "WornSkin$Psalm" (1 : Nat) ({ cls := "WornSkin$Text", name := "<init>", desc := "(ZI)V" } : Jvm.MethodName)) ∈ lw_all := lw_g (lw_at lw_m4 51 rfl) rfl
theorem q883 : (Jvm.Cond.instanceMethod ({ cls := "WornSkin$Text", name := "<init>", desc := "(ZI)V" } : Jvm.MethodName)) ∈ lw_all := lw_g (lw_at lw_m4 52 rfl) rfl
theorem q884 : (Jvm.Cond.code ({ cls := "WornSkin$Text", name := "<init>", desc := "(ZI)V" } : Jvm.MethodName) prog_26_method_1_code (3 : Nat) (Option.none : Option Jvm.ClassFile.FieldType)) ∈ lw_all := lw_g (lw_at lw_m4 53 rfl) rfl
theorem q885 : (Jvm.Cond.methodLink "WornSkin$Text" (1 : Nat) ({ cls := "java/lang/Object", name := "<init>", desc := "()V" } : Jvm.MethodName)) ∈ lw_all := lw_g (lw_at lw_m4 54 rfl) rfl
theorem q886 : (Jvm.Cond.fieldLink "WornSkin$Text" (7 : Nat) "WornSkin$Text" "gall" "Z") ∈ lw_all := lw_g (lw_at lw_m4 55 rfl) rfl
theorem q887 : (Jvm.Cond.fieldLink "WornSkin$Library" (72 : Nat) "WornSkin$Text" "gall" "Z") ∈ lw_all := lw_g (lw_at lw_m4 56 rfl) rfl
theorem q888 : (Jvm.Cond.fieldLink "WornSkin" (169 : Nat) "WornSkin$Text" "gall" "Z") ∈ lw_all := lw_g (lw_at lw_m4 57 rfl) rfl
theorem q889 : (Jvm.Cond.fieldLink "WornSkin$Shelf" (124 : Nat) "WornSkin$Text" "gall" "Z") ∈ lw_all := lw_g (lw_at lw_m4 58 rfl) rfl
theorem q890 : (Jvm.Cond.fieldLink "WornSkin$Text" (13 : Nat) "WornSkin$Text" "lines" "I") ∈ lw_all := lw_g (lw_at lw_m4 59 rfl) rfl
theorem q891 : (Jvm.Cond.fieldLink "WornSkin$Lays" (71 : Nat) "WornSkin$Text" "lines" "I") ∈ lw_all := lw_g (lw_at lw_m4 60 rfl) rfl
theorem q892 : (Jvm.Cond.fieldLink "WornSkin" (173 : Nat) "WornSkin$Text" "lines" "I") ∈ lw_all := lw_g (lw_at lw_m4 61 rfl) rfl
theorem q893 : (Jvm.Cond.fieldLink "WornSkin$Shelf" (107 : Nat) "WornSkin$Text" "lines" "I") ∈ lw_all := lw_g (lw_at lw_m4 62 rfl) rfl
theorem q899 : (Jvm.Cond.classLink "WornSkin" (7 : Nat) "WornSkin$Recipe") ∈ lw_all := lw_g (lw_at lw_m4 68 rfl) rfl
theorem q900 : (Jvm.Cond.instantiable "WornSkin$Recipe" (2 : Nat)) ∈ lw_all := lw_g (lw_at lw_m4 69 rfl) rfl
theorem q901 : (Jvm.Cond.methodLink "WornSkin" (9 : Nat) ({ cls := "WornSkin$Recipe", name := "<init>", desc := "(ZI)V" } : Jvm.MethodName)) ∈ lw_all := lw_g (lw_at lw_m4 70 rfl) rfl
theorem q902 : (Jvm.Cond.instanceMethod ({ cls := "WornSkin$Recipe", name := "<init>", desc := "(ZI)V" } : Jvm.MethodName)) ∈ lw_all := lw_g (lw_at lw_m4 71 rfl) rfl
theorem q903 : (Jvm.Cond.code ({ cls := "WornSkin$Recipe", name := "<init>", desc := "(ZI)V" } : Jvm.MethodName) prog_21_method_1_code (3 : Nat) (Option.none : Option Jvm.ClassFile.FieldType)) ∈ lw_all := lw_g (lw_at lw_m4 72 rfl) rfl
theorem q904 : (Jvm.Cond.methodLink "WornSkin$Recipe" (1 : Nat) ({ cls := "WornSkin$Text", name := "<init>", desc := "(ZI)V" } : Jvm.MethodName)) ∈ lw_all := lw_g (lw_at lw_m4 73 rfl) rfl
theorem q908 : (Jvm.Cond.classLink "WornSkin" (10 : Nat) "WornSkin$Oath") ∈ lw_all := lw_g (lw_at lw_m4 77 rfl) rfl
theorem q909 : (Jvm.Cond.instantiable "WornSkin$Oath" (2 : Nat)) ∈ lw_all := lw_g (lw_at lw_m4 78 rfl) rfl
theorem q910 : (Jvm.Cond.methodLink "WornSkin" (12 : Nat) ({ cls := "WornSkin$Oath", name := "<init>", desc := "(ZI)V" } : Jvm.MethodName)) ∈ lw_all := lw_g (lw_at lw_m4 79 rfl) rfl
theorem q911 : (Jvm.Cond.instanceMethod ({ cls := "WornSkin$Oath", name := "<init>", desc := "(ZI)V" } : Jvm.MethodName)) ∈ lw_all := lw_g (lw_at lw_m4 80 rfl) rfl
theorem q912 : (Jvm.Cond.code ({ cls := "WornSkin$Oath", name := "<init>", desc := "(ZI)V" } : Jvm.MethodName) prog_15_method_1_code (3 : Nat) (Option.none : Option Jvm.ClassFile.FieldType)) ∈ lw_all := lw_g (lw_at lw_m4 81 rfl) rfl
theorem q913 : (Jvm.Cond.methodLink "WornSkin$Oath" (1 : Nat) ({ cls := "WornSkin$Text", name := "<init>", desc := "(ZI)V" } : Jvm.MethodName)) ∈ lw_all := lw_g (lw_at lw_m4 82 rfl) rfl
theorem q917 : (Jvm.Cond.classLink "WornSkin" (13 : Nat) "WornSkin$Text") ∈ lw_all := lw_g (lw_at lw_m4 86 rfl) rfl
theorem q918 : (Jvm.Cond.instantiable "WornSkin$Text" (2 : Nat)) ∈ lw_all := lw_g (lw_at lw_m4 87 rfl) rfl
theorem q919 : (Jvm.Cond.methodLink "WornSkin" (15 : Nat) ({ cls := "WornSkin$Text", name := "<init>", desc := "(ZI)V" } : Jvm.MethodName)) ∈ lw_all := lw_g (lw_at lw_m4 88 rfl) rfl
theorem q923 : (Jvm.Cond.methodLink "WornSkin$Reader" (176 : Nat) ({ cls := "WornSkin$Reader", name := "damp", desc := "()V" } : Jvm.MethodName)) ∈ lw_all := lw_g (lw_at lw_m4 92 rfl) rfl
theorem q925 : (Jvm.Cond.instanceMethod ({ cls := "WornSkin$Reader", name := "damp", desc := "()V" } : Jvm.MethodName)) ∈ lw_all := lw_g (lw_at lw_m4 94 rfl) rfl
theorem q926 : (Jvm.Cond.code ({ cls := "WornSkin$Reader", name := "damp", desc := "()V" } : Jvm.MethodName) prog_20_method_24_code (2 : Nat) (Option.none : Option Jvm.ClassFile.FieldType)) ∈ lw_all := lw_g (lw_at lw_m4 95 rfl) rfl
theorem q927 : (Jvm.Cond.methodLink "WornSkin$Reader" (270 : Nat) ({ cls := "WornSkin$Library", name := "wets", desc := "(I)V" } : Jvm.MethodName)) ∈ lw_all := lw_g (lw_at lw_m4 96 rfl) rfl
theorem q928 : (Jvm.Cond.instanceMethod ({ cls := "WornSkin$Library", name := "wets", desc := "(I)V" } : Jvm.MethodName)) ∈ lw_all := lw_g (lw_at lw_m4 97 rfl) rfl
theorem q929 : (Jvm.Cond.selects "WornSkin$Library" ({ cls := "WornSkin$Library", name := "wets", desc := "(I)V" } : Jvm.MethodName) ({ cls := "WornSkin$Library", name := "wets", desc := "(I)V" } : Jvm.MethodName)) ∈ lw_all := lw_g (lw_at lw_m4 98 rfl) rfl
theorem q930 : (Jvm.Cond.code ({ cls := "WornSkin$Library", name := "wets", desc := "(I)V" } : Jvm.MethodName) prog_9_method_3_code (2 : Nat) (Option.none : Option Jvm.ClassFile.FieldType)) ∈ lw_all := lw_g (lw_at lw_m4 99 rfl) rfl
theorem q931 : (Jvm.Cond.methodLink "WornSkin$Reader" (178 : Nat) ({ cls := "WornSkin$Reader", name := "shows", desc := "()V" } : Jvm.MethodName)) ∈ lw_all := lw_g (lw_at lw_m4 100 rfl) rfl
theorem q933 : (Jvm.Cond.instanceMethod ({ cls := "WornSkin$Reader", name := "shows", desc := "()V" } : Jvm.MethodName)) ∈ lw_all := lw_g (lw_at lw_m4 102 rfl) rfl
theorem q934 : (Jvm.Cond.code ({ cls := "WornSkin$Reader", name := "shows", desc := "()V" } : Jvm.MethodName) prog_20_method_25_code (1 : Nat) (Option.none : Option Jvm.ClassFile.FieldType)) ∈ lw_all := lw_g (lw_at lw_m4 103 rfl) rfl
theorem q935 : (Jvm.Cond.methodLink "WornSkin$Reader" (276 : Nat) ({ cls := "WornSkin$Reader", name := "whole", desc := "()LWornSkin$Expression;" } : Jvm.MethodName)) ∈ lw_all := lw_g (lw_at lw_m4 104 rfl) rfl
theorem q937 : (Jvm.Cond.instanceMethod ({ cls := "WornSkin$Reader", name := "whole", desc := "()LWornSkin$Expression;" } : Jvm.MethodName)) ∈ lw_all := lw_g (lw_at lw_m4 106 rfl) rfl
theorem q938 : (Jvm.Cond.code ({ cls := "WornSkin$Reader", name := "whole", desc := "()LWornSkin$Expression;" } : Jvm.MethodName) prog_20_method_29_code (1 : Nat) (Option.some (Jvm.ClassFile.FieldType.object "WornSkin$Expression"))) ∈ lw_all := lw_g (lw_at lw_m4 107 rfl) rfl
theorem q939 : (Jvm.Cond.methodLink "WornSkin$Reader" (303 : Nat) ({ cls := "WornSkin$Reader", name := "all", desc := "()LWornSkin$Expression;" } : Jvm.MethodName)) ∈ lw_all := lw_g (lw_at lw_m4 108 rfl) rfl
theorem q941 : (Jvm.Cond.instanceMethod ({ cls := "WornSkin$Reader", name := "all", desc := "()LWornSkin$Expression;" } : Jvm.MethodName)) ∈ lw_all := lw_g (lw_at lw_m4 110 rfl) rfl
theorem q942 : (Jvm.Cond.code ({ cls := "WornSkin$Reader", name := "all", desc := "()LWornSkin$Expression;" } : Jvm.MethodName) prog_20_method_31_code (5 : Nat) (Option.some (Jvm.ClassFile.FieldType.object "WornSkin$Expression"))) ∈ lw_all := lw_g (lw_at lw_m4 111 rfl) rfl
theorem q943 : (Jvm.Cond.methodLink "WornSkin$Reader" (311 : Nat) ({ cls := "WornSkin$Reader", name := "test", desc := "()LWornSkin$Expression;" } : Jvm.MethodName)) ∈ lw_all := lw_g (lw_at lw_m4 112 rfl) rfl
theorem q945 : (Jvm.Cond.instanceMethod ({ cls := "WornSkin$Reader", name := "test", desc := "()LWornSkin$Expression;" } : Jvm.MethodName)) ∈ lw_all := lw_g (lw_at lw_m4 114 rfl) rfl
theorem q946 : (Jvm.Cond.code ({ cls := "WornSkin$Reader", name := "test", desc := "()LWornSkin$Expression;" } : Jvm.MethodName) prog_20_method_32_code (5 : Nat) (Option.some (Jvm.ClassFile.FieldType.object "WornSkin$Expression"))) ∈ lw_all := lw_g (lw_at lw_m4 115 rfl) rfl
theorem q947 : (Jvm.Cond.methodLink "WornSkin$Reader" (327 : Nat) ({ cls := "WornSkin$Reader", name := "sum", desc := "()LWornSkin$Expression;" } : Jvm.MethodName)) ∈ lw_all := lw_g (lw_at lw_m4 116 rfl) rfl
theorem q949 : (Jvm.Cond.instanceMethod ({ cls := "WornSkin$Reader", name := "sum", desc := "()LWornSkin$Expression;" } : Jvm.MethodName)) ∈ lw_all := lw_g (lw_at lw_m4 118 rfl) rfl
theorem q950 : (Jvm.Cond.code ({ cls := "WornSkin$Reader", name := "sum", desc := "()LWornSkin$Expression;" } : Jvm.MethodName) prog_20_method_33_code (5 : Nat) (Option.some (Jvm.ClassFile.FieldType.object "WornSkin$Expression"))) ∈ lw_all := lw_g (lw_at lw_m4 119 rfl) rfl
theorem q951 : (Jvm.Cond.methodLink "WornSkin$Reader" (336 : Nat) ({ cls := "WornSkin$Reader", name := "term", desc := "()LWornSkin$Expression;" } : Jvm.MethodName)) ∈ lw_all := lw_g (lw_at lw_m4 120 rfl) rfl
theorem q953 : (Jvm.Cond.instanceMethod ({ cls := "WornSkin$Reader", name := "term", desc := "()LWornSkin$Expression;" } : Jvm.MethodName)) ∈ lw_all := lw_g (lw_at lw_m4 122 rfl) rfl
theorem q954 : (Jvm.Cond.code ({ cls := "WornSkin$Reader", name := "term", desc := "()LWornSkin$Expression;" } : Jvm.MethodName) prog_20_method_34_code (4 : Nat) (Option.some (Jvm.ClassFile.FieldType.object "WornSkin$Expression"))) ∈ lw_all := lw_g (lw_at lw_m4 123 rfl) rfl
theorem q955 : (Jvm.Cond.methodLink "WornSkin$Reader" (345 : Nat) ({ cls := "WornSkin$Reader", name := "part", desc := "()LWornSkin$Expression;" } : Jvm.MethodName)) ∈ lw_all := lw_g (lw_at lw_m4 124 rfl) rfl
theorem q957 : (Jvm.Cond.instanceMethod ({ cls := "WornSkin$Reader", name := "part", desc := "()LWornSkin$Expression;" } : Jvm.MethodName)) ∈ lw_all := lw_g (lw_at lw_m4 126 rfl) rfl
theorem q958 : (Jvm.Cond.code ({ cls := "WornSkin$Reader", name := "part", desc := "()LWornSkin$Expression;" } : Jvm.MethodName) prog_20_method_35_code (4 : Nat) (Option.some (Jvm.ClassFile.FieldType.object "WornSkin$Expression"))) ∈ lw_all := lw_g (lw_at lw_m4 127 rfl) rfl
theorem q959 : (Jvm.Cond.methodLink "WornSkin$Reader" (146 : Nat) ({ cls := "WornSkin$Reader", name := "isSign", desc := "(I)Z" } : Jvm.MethodName)) ∈ lw_all := lw_g (lw_at lw_m4 128 rfl) rfl
theorem q961 : (Jvm.Cond.instanceMethod ({ cls := "WornSkin$Reader", name := "isSign", desc := "(I)Z" } : Jvm.MethodName)) ∈ lw_all := lw_g (lw_at lw_m4 130 rfl) rfl
theorem q962 : (Jvm.Cond.code ({ cls := "WornSkin$Reader", name := "isSign", desc := "(I)Z" } : Jvm.MethodName) prog_20_method_11_code (2 : Nat) (Option.some Jvm.ClassFile.FieldType.boolean)) ∈ lw_all := lw_g (lw_at lw_m4 131 rfl) rfl
theorem q963 : (Jvm.Cond.classLink "WornSkin$Reader" (351 : Nat) "WornSkin$Fact") ∈ lw_all := lw_g (lw_at lw_m4 132 rfl) rfl
theorem q964 : (Jvm.Cond.instantiable "WornSkin$Fact" (1 : Nat)) ∈ lw_all := lw_g (lw_at lw_m4 133 rfl) rfl
theorem q965 : (Jvm.Cond.methodLink "WornSkin$Reader" (353 : Nat) ({ cls := "WornSkin$Fact", name := "<init>", desc := "(I)V" } : Jvm.MethodName)) ∈ lw_all := lw_g (lw_at lw_m4 134 rfl) rfl
theorem q966 : (Jvm.Cond.instanceMethod ({ cls := "WornSkin$Fact", name := "<init>", desc := "(I)V" } : Jvm.MethodName)) ∈ lw_all := lw_g (lw_at lw_m4 135 rfl) rfl
theorem q967 : (Jvm.Cond.code ({ cls := "WornSkin$Fact", name := "<init>", desc := "(I)V" } : Jvm.MethodName) prog_5_method_1_code (2 : Nat) (Option.none : Option Jvm.ClassFile.FieldType)) ∈ lw_all := lw_g (lw_at lw_m4 136 rfl) rfl
theorem q968 : (Jvm.Cond.methodLinkNest "WornSkin$Fact" (1 : Nat) ({ cls := "WornSkin$Expression", name := "<init>", desc := "()V" } : Jvm.MethodName) "WornSkin") ∈ lw_tbl := lw_at lw_m4 137 rfl
theorem q969 : (Jvm.Cond.instanceMethod ({ cls := "WornSkin$Expression", name := "<init>", desc := "()V" } : Jvm.MethodName)) ∈ lw_all := lw_g (lw_at lw_m4 138 rfl) rfl
theorem q970 : (Jvm.Cond.code ({ cls := "WornSkin$Expression", name := "<init>", desc := "()V" } : Jvm.MethodName) prog_4_method_1_code (1 : Nat) (Option.none : Option Jvm.ClassFile.FieldType)) ∈ lw_all := lw_g (lw_at lw_m4 139 rfl) rfl
theorem q971 : (Jvm.Cond.methodLink "WornSkin$Expression" (1 : Nat) ({ cls := "java/lang/Object", name := "<init>", desc := "()V" } : Jvm.MethodName)) ∈ lw_all := lw_g (lw_at lw_m4 140 rfl) rfl
theorem q972 : (Jvm.Cond.fieldLink "WornSkin$Fact" (7 : Nat) "WornSkin$Fact" "which" "I") ∈ lw_all := lw_g (lw_at lw_m4 141 rfl) rfl
theorem q976 : (Jvm.Cond.classLink "WornSkin$Reader" (354 : Nat) "WornSkin$Plain") ∈ lw_all := lw_g (lw_at lw_m4 145 rfl) rfl
theorem q977 : (Jvm.Cond.instantiable "WornSkin$Plain" (1 : Nat)) ∈ lw_all := lw_g (lw_at lw_m4 146 rfl) rfl
theorem q978 : (Jvm.Cond.methodLink "WornSkin$Reader" (356 : Nat) ({ cls := "WornSkin$Plain", name := "<init>", desc := "(I)V" } : Jvm.MethodName)) ∈ lw_all := lw_g (lw_at lw_m4 147 rfl) rfl
theorem q979 : (Jvm.Cond.instanceMethod ({ cls := "WornSkin$Plain", name := "<init>", desc := "(I)V" } : Jvm.MethodName)) ∈ lw_all := lw_g (lw_at lw_m4 148 rfl) rfl
theorem q980 : (Jvm.Cond.code ({ cls := "WornSkin$Plain", name := "<init>", desc := "(I)V" } : Jvm.MethodName) prog_17_method_1_code (2 : Nat) (Option.none : Option Jvm.ClassFile.FieldType)) ∈ lw_all := lw_g (lw_at lw_m4 149 rfl) rfl
theorem q981 : (Jvm.Cond.methodLinkNest "WornSkin$Plain" (1 : Nat) ({ cls := "WornSkin$Expression", name := "<init>", desc := "()V" } : Jvm.MethodName) "WornSkin") ∈ lw_tbl := lw_at lw_m4 150 rfl
theorem q982 : (Jvm.Cond.fieldLink "WornSkin$Plain" (7 : Nat) "WornSkin$Plain" "n" "I") ∈ lw_all := lw_g (lw_at lw_m4 151 rfl) rfl
theorem q986 : (Jvm.Cond.classLink "WornSkin$Reader" (357 : Nat) "WornSkin$Not") ∈ lw_all := lw_g (lw_at lw_m4 155 rfl) rfl
theorem q987 : (Jvm.Cond.instantiable "WornSkin$Not" (1 : Nat)) ∈ lw_all := lw_g (lw_at lw_m4 156 rfl) rfl
theorem q988 : (Jvm.Cond.methodLink "WornSkin$Reader" (359 : Nat) ({ cls := "WornSkin$Not", name := "<init>", desc := "(LWornSkin$Expression;)V" } : Jvm.MethodName)) ∈ lw_all := lw_g (lw_at lw_m4 157 rfl) rfl
theorem q989 : (Jvm.Cond.instanceMethod ({ cls := "WornSkin$Not", name := "<init>", desc := "(LWornSkin$Expression;)V" } : Jvm.MethodName)) ∈ lw_all := lw_g (lw_at lw_m4 158 rfl) rfl
theorem q990 : (Jvm.Cond.code ({ cls := "WornSkin$Not", name := "<init>", desc := "(LWornSkin$Expression;)V" } : Jvm.MethodName) prog_14_method_1_code (2 : Nat) (Option.none : Option Jvm.ClassFile.FieldType)) ∈ lw_all := lw_g (lw_at lw_m4 159 rfl) rfl
theorem q991 : (Jvm.Cond.methodLinkNest "WornSkin$Not" (1 : Nat) ({ cls := "WornSkin$Expression", name := "<init>", desc := "()V" } : Jvm.MethodName) "WornSkin") ∈ lw_tbl := lw_at lw_m4 160 rfl
theorem q992 : (Jvm.Cond.fieldLink "WornSkin$Not" (7 : Nat) "WornSkin$Not" "e" "LWornSkin$Expression;") ∈ lw_all := lw_g (lw_at lw_m4 161 rfl) rfl
theorem q996 : (Jvm.Cond.methodLink "WornSkin$Reader" (180 : Nat) ({ cls := "WornSkin$Reader", name := "sign", desc := "(I)V" } : Jvm.MethodName)) ∈ lw_all := lw_g (lw_at lw_m4 165 rfl) rfl
theorem q998 : (Jvm.Cond.instanceMethod ({ cls := "WornSkin$Reader", name := "sign", desc := "(I)V" } : Jvm.MethodName)) ∈ lw_all := lw_g (lw_at lw_m4 167 rfl) rfl
theorem q999 : (Jvm.Cond.code ({ cls := "WornSkin$Reader", name := "sign", desc := "(I)V" } : Jvm.MethodName) prog_20_method_13_code (2 : Nat) (Option.none : Option Jvm.ClassFile.FieldType)) ∈ lw_all := lw_g (lw_at lw_m4 168 rfl) rfl
theorem q1000 : (Jvm.Cond.methodLink "WornSkin$Reader" (149 : Nat) ({ cls := "WornSkin$Reader", name := "hasSign", desc := "(I)Z" } : Jvm.MethodName)) ∈ lw_all := lw_g (lw_at lw_m4 169 rfl) rfl
theorem q1002 : (Jvm.Cond.instanceMethod ({ cls := "WornSkin$Reader", name := "hasSign", desc := "(I)Z" } : Jvm.MethodName)) ∈ lw_all := lw_g (lw_at lw_m4 171 rfl) rfl
theorem q1003 : (Jvm.Cond.code ({ cls := "WornSkin$Reader", name := "hasSign", desc := "(I)Z" } : Jvm.MethodName) prog_20_method_12_code (3 : Nat) (Option.some Jvm.ClassFile.FieldType.boolean)) ∈ lw_all := lw_g (lw_at lw_m4 172 rfl) rfl
theorem q1004 : (Jvm.Cond.methodLink "WornSkin$Reader" (314 : Nat) ({ cls := "WornSkin$Reader", name := "chain", desc := "(LWornSkin$Expression;LWornSkin$Chain;)LWornSkin$Chain;" } : Jvm.MethodName)) ∈ lw_all := lw_g (lw_at lw_m4 173 rfl) rfl
theorem q1005 : (Jvm.Cond.static ({ cls := "WornSkin$Reader", name := "chain", desc := "(LWornSkin$Expression;LWornSkin$Chain;)LWornSkin$Chain;" } : Jvm.MethodName)) ∈ lw_all := lw_g (lw_at lw_m4 174 rfl) rfl
theorem q1006 : (Jvm.Cond.code ({ cls := "WornSkin$Reader", name := "chain", desc := "(LWornSkin$Expression;LWornSkin$Chain;)LWornSkin$Chain;" } : Jvm.MethodName) prog_20_method_30_code (2 : Nat) (Option.some (Jvm.ClassFile.FieldType.object "WornSkin$Chain"))) ∈ lw_all := lw_g (lw_at lw_m4 175 rfl) rfl
theorem q1007 : (Jvm.Cond.classLink "WornSkin$Reader" (306 : Nat) "WornSkin$Chain") ∈ lw_all := lw_g (lw_at lw_m4 176 rfl) rfl
theorem q1008 : (Jvm.Cond.instantiable "WornSkin$Chain" (2 : Nat)) ∈ lw_all := lw_g (lw_at lw_m4 177 rfl) rfl
theorem q1009 : (Jvm.Cond.methodLink "WornSkin$Reader" (308 : Nat) ({ cls := "WornSkin$Chain", name := "<init>", desc := "(LWornSkin$Expression;)V" } : Jvm.MethodName)) ∈ lw_all := lw_g (lw_at lw_m4 178 rfl) rfl
theorem q1010 : (Jvm.Cond.instanceMethod ({ cls := "WornSkin$Chain", name := "<init>", desc := "(LWornSkin$Expression;)V" } : Jvm.MethodName)) ∈ lw_all := lw_g (lw_at lw_m4 179 rfl) rfl
theorem q1011 : (Jvm.Cond.code ({ cls := "WornSkin$Chain", name := "<init>", desc := "(LWornSkin$Expression;)V" } : Jvm.MethodName) prog_3_method_1_code (2 : Nat) (Option.none : Option Jvm.ClassFile.FieldType)) ∈ lw_all := lw_g (lw_at lw_m4 180 rfl) rfl
theorem q1012 : (Jvm.Cond.methodLinkNest "WornSkin$Chain" (1 : Nat) ({ cls := "WornSkin$Expression", name := "<init>", desc := "()V" } : Jvm.MethodName) "WornSkin") ∈ lw_tbl := lw_at lw_m4 181 rfl
theorem q1013 : (Jvm.Cond.classLink "WornSkin$Chain" (7 : Nat) "java/util/ArrayList") ∈ lw_all := lw_g (lw_at lw_m4 182 rfl) rfl
theorem q1014 : (Jvm.Cond.methodLink "WornSkin$Chain" (9 : Nat) ({ cls := "java/util/ArrayList", name := "<init>", desc := "(I)V" } : Jvm.MethodName)) ∈ lw_all := lw_g (lw_at lw_m4 183 rfl) rfl
theorem q1015 : (Jvm.Cond.fieldLink "WornSkin$Chain" (18 : Nat) "WornSkin$Chain" "first" "LWornSkin$Expression;") ∈ lw_all := lw_g (lw_at lw_m4 184 rfl) rfl
theorem q1016 : (Jvm.Cond.fieldLink "WornSkin$Chain" (12 : Nat) "WornSkin$Chain" "links" "Ljava/util/ArrayList;") ∈ lw_all := lw_g (lw_at lw_m4 185 rfl) rfl
theorem q1017 : (Jvm.Cond.fieldLink "WornSkin$Reader" (318 : Nat) "WornSkin$Chain" "links" "Ljava/util/ArrayList;") ∈ lw_all := lw_g (lw_at lw_m4 186 rfl) rfl
theorem q1023 : (Jvm.Cond.classLink "WornSkin$Reader" (348 : Nat) "WornSkin$Times") ∈ lw_all := lw_g (lw_at lw_m4 192 rfl) rfl
theorem q1024 : (Jvm.Cond.instantiable "WornSkin$Times" (1 : Nat)) ∈ lw_all := lw_g (lw_at lw_m4 193 rfl) rfl
theorem q1025 : (Jvm.Cond.methodLink "WornSkin$Reader" (350 : Nat) ({ cls := "WornSkin$Times", name := "<init>", desc := "(LWornSkin$Expression;)V" } : Jvm.MethodName)) ∈ lw_all := lw_g (lw_at lw_m4 194 rfl) rfl
theorem q1026 : (Jvm.Cond.instanceMethod ({ cls := "WornSkin$Times", name := "<init>", desc := "(LWornSkin$Expression;)V" } : Jvm.MethodName)) ∈ lw_all := lw_g (lw_at lw_m4 195 rfl) rfl
theorem q1027 : (Jvm.Cond.code ({ cls := "WornSkin$Times", name := "<init>", desc := "(LWornSkin$Expression;)V" } : Jvm.MethodName) prog_27_method_1_code (2 : Nat) (Option.none : Option Jvm.ClassFile.FieldType)) ∈ lw_all := lw_g (lw_at lw_m4 196 rfl) rfl
theorem q1028 : (Jvm.Cond.methodLink "WornSkin$Times" (1 : Nat) ({ cls := "WornSkin$Link", name := "<init>", desc := "(LWornSkin$Expression;)V" } : Jvm.MethodName)) ∈ lw_all := lw_g (lw_at lw_m4 197 rfl) rfl
theorem q1029 : (Jvm.Cond.instanceMethod ({ cls := "WornSkin$Link", name := "<init>", desc := "(LWornSkin$Expression;)V" } : Jvm.MethodName)) ∈ lw_all := lw_g (lw_at lw_m4 198 rfl) rfl
theorem q1030 : (Jvm.Cond.code ({ cls := "WornSkin$Link", name := "<init>", desc := "(LWornSkin$Expression;)V" } : Jvm.MethodName) prog_11_method_1_code (2 : Nat) (Option.none : Option Jvm.ClassFile.FieldType)) ∈ lw_all := lw_g (lw_at lw_m4 199 rfl) rfl
theorem q1031 : (Jvm.Cond.methodLink "WornSkin$Link" (1 : Nat) ({ cls := "java/lang/Object", name := "<init>", desc := "()V" } : Jvm.MethodName)) ∈ lw_all := lw_g (lw_at lw_m4 200 rfl) rfl
theorem q1032 : (Jvm.Cond.fieldLink "WornSkin$Link" (7 : Nat) "WornSkin$Link" "e" "LWornSkin$Expression;") ∈ lw_all := lw_g (lw_at lw_m4 201 rfl) rfl
theorem q1036 : (Jvm.Cond.classLink "WornSkin$Reader" (339 : Nat) "WornSkin$Plus") ∈ lw_all := lw_g (lw_at lw_m4 205 rfl) rfl
theorem q1037 : (Jvm.Cond.instantiable "WornSkin$Plus" (1 : Nat)) ∈ lw_all := lw_g (lw_at lw_m4 206 rfl) rfl
theorem q1038 : (Jvm.Cond.methodLink "WornSkin$Reader" (341 : Nat) ({ cls := "WornSkin$Plus", name := "<init>", desc := "(LWornSkin$Expression;)V" } : Jvm.MethodName)) ∈ lw_all := lw_g (lw_at lw_m4 207 rfl) rfl
theorem q1039 : (Jvm.Cond.instanceMethod ({ cls := "WornSkin$Plus", name := "<init>", desc := "(LWornSkin$Expression;)V" } : Jvm.MethodName)) ∈ lw_all := lw_g (lw_at lw_m4 208 rfl) rfl
theorem q1040 : (Jvm.Cond.code ({ cls := "WornSkin$Plus", name := "<init>", desc := "(LWornSkin$Expression;)V" } : Jvm.MethodName) prog_18_method_1_code (2 : Nat) (Option.none : Option Jvm.ClassFile.FieldType)) ∈ lw_all := lw_g (lw_at lw_m4 209 rfl) rfl
theorem q1041 : (Jvm.Cond.methodLink "WornSkin$Plus" (1 : Nat) ({ cls := "WornSkin$Link", name := "<init>", desc := "(LWornSkin$Expression;)V" } : Jvm.MethodName)) ∈ lw_all := lw_g (lw_at lw_m4 210 rfl) rfl
theorem q1044 : (Jvm.Cond.classLink "WornSkin$Reader" (342 : Nat) "WornSkin$Minus") ∈ lw_all := lw_g (lw_at lw_m4 213 rfl) rfl
theorem q1045 : (Jvm.Cond.instantiable "WornSkin$Minus" (1 : Nat)) ∈ lw_all := lw_g (lw_at lw_m4 214 rfl) rfl
theorem q1046 : (Jvm.Cond.methodLink "WornSkin$Reader" (344 : Nat) ({ cls := "WornSkin$Minus", name := "<init>", desc := "(LWornSkin$Expression;)V" } : Jvm.MethodName)) ∈ lw_all := lw_g (lw_at lw_m4 215 rfl) rfl
theorem q1047 : (Jvm.Cond.instanceMethod ({ cls := "WornSkin$Minus", name := "<init>", desc := "(LWornSkin$Expression;)V" } : Jvm.MethodName)) ∈ lw_all := lw_g (lw_at lw_m4 216 rfl) rfl
theorem q1048 : (Jvm.Cond.code ({ cls := "WornSkin$Minus", name := "<init>", desc := "(LWornSkin$Expression;)V" } : Jvm.MethodName) prog_13_method_1_code (2 : Nat) (Option.none : Option Jvm.ClassFile.FieldType)) ∈ lw_all := lw_g (lw_at lw_m4 217 rfl) rfl
theorem q1049 : (Jvm.Cond.methodLink "WornSkin$Minus" (1 : Nat) ({ cls := "WornSkin$Link", name := "<init>", desc := "(LWornSkin$Expression;)V" } : Jvm.MethodName)) ∈ lw_all := lw_g (lw_at lw_m4 218 rfl) rfl
theorem q1052 : (Jvm.Cond.classLink "WornSkin$Reader" (330 : Nat) "WornSkin$Less") ∈ lw_all := lw_g (lw_at lw_m4 221 rfl) rfl
theorem q1053 : (Jvm.Cond.instantiable "WornSkin$Less" (1 : Nat)) ∈ lw_all := lw_g (lw_at lw_m4 222 rfl) rfl
theorem q1054 : (Jvm.Cond.methodLink "WornSkin$Reader" (332 : Nat) ({ cls := "WornSkin$Less", name := "<init>", desc := "(LWornSkin$Expression;)V" } : Jvm.MethodName)) ∈ lw_all := lw_g (lw_at lw_m4 223 rfl) rfl
theorem q1055 : (Jvm.Cond.instanceMethod ({ cls := "WornSkin$Less", name := "<init>", desc := "(LWornSkin$Expression;)V" } : Jvm.MethodName)) ∈ lw_all := lw_g (lw_at lw_m4 224 rfl) rfl
theorem q1056 : (Jvm.Cond.code ({ cls := "WornSkin$Less", name := "<init>", desc := "(LWornSkin$Expression;)V" } : Jvm.MethodName) prog_8_method_1_code (2 : Nat) (Option.none : Option Jvm.ClassFile.FieldType)) ∈ lw_all := lw_g (lw_at lw_m4 225 rfl) rfl
theorem q1057 : (Jvm.Cond.methodLink "WornSkin$Less" (1 : Nat) ({ cls := "WornSkin$Link", name := "<init>", desc := "(LWornSkin$Expression;)V" } : Jvm.MethodName)) ∈ lw_all := lw_g (lw_at lw_m4 226 rfl) rfl
theorem q1060 : (Jvm.Cond.classLink "WornSkin$Reader" (333 : Nat) "WornSkin$Same") ∈ lw_all := lw_g (lw_at lw_m4 229 rfl) rfl
theorem q1061 : (Jvm.Cond.instantiable "WornSkin$Same" (1 : Nat)) ∈ lw_all := lw_g (lw_at lw_m4 230 rfl) rfl
theorem q1062 : (Jvm.Cond.methodLink "WornSkin$Reader" (335 : Nat) ({ cls := "WornSkin$Same", name := "<init>", desc := "(LWornSkin$Expression;)V" } : Jvm.MethodName)) ∈ lw_all := lw_g (lw_at lw_m4 231 rfl) rfl
theorem q1063 : (Jvm.Cond.instanceMethod ({ cls := "WornSkin$Same", name := "<init>", desc := "(LWornSkin$Expression;)V" } : Jvm.MethodName)) ∈ lw_all := lw_g (lw_at lw_m4 232 rfl) rfl
theorem q1064 : (Jvm.Cond.code ({ cls := "WornSkin$Same", name := "<init>", desc := "(LWornSkin$Expression;)V" } : Jvm.MethodName) prog_22_method_1_code (2 : Nat) (Option.none : Option Jvm.ClassFile.FieldType)) ∈ lw_all := lw_g (lw_at lw_m4 233 rfl) rfl
theorem q1065 : (Jvm.Cond.methodLink "WornSkin$Same" (1 : Nat) ({ cls := "WornSkin$Link", name := "<init>", desc := "(LWornSkin$Expression;)V" } : Jvm.MethodName)) ∈ lw_all := lw_g (lw_at lw_m4 234 rfl) rfl
theorem q1068 : (Jvm.Cond.classLink "WornSkin$Reader" (321 : Nat) "WornSkin$And") ∈ lw_all := lw_g (lw_at lw_m4 237 rfl) rfl
theorem q1069 : (Jvm.Cond.instantiable "WornSkin$And" (1 : Nat)) ∈ lw_all := lw_g (lw_at lw_m4 238 rfl) rfl
theorem q1070 : (Jvm.Cond.methodLink "WornSkin$Reader" (323 : Nat) ({ cls := "WornSkin$And", name := "<init>", desc := "(LWornSkin$Expression;)V" } : Jvm.MethodName)) ∈ lw_all := lw_g (lw_at lw_m4 239 rfl) rfl
theorem q1071 : (Jvm.Cond.instanceMethod ({ cls := "WornSkin$And", name := "<init>", desc := "(LWornSkin$Expression;)V" } : Jvm.MethodName)) ∈ lw_all := lw_g (lw_at lw_m5 0 rfl) rfl
theorem q1072 : (Jvm.Cond.code ({ cls := "WornSkin$And", name := "<init>", desc := "(LWornSkin$Expression;)V" } : Jvm.MethodName) prog_2_method_1_code (2 : Nat) (Option.none : Option Jvm.ClassFile.FieldType)) ∈ lw_all := lw_g (lw_at lw_m5 1 rfl) rfl
theorem q1073 : (Jvm.Cond.methodLink "WornSkin$And" (1 : Nat) ({ cls := "WornSkin$Link", name := "<init>", desc := "(LWornSkin$Expression;)V" } : Jvm.MethodName)) ∈ lw_all := lw_g (lw_at lw_m5 2 rfl) rfl
theorem q1076 : (Jvm.Cond.classLink "WornSkin$Reader" (324 : Nat) "WornSkin$Or") ∈ lw_all := lw_g (lw_at lw_m5 5 rfl) rfl
theorem q1077 : (Jvm.Cond.instantiable "WornSkin$Or" (1 : Nat)) ∈ lw_all := lw_g (lw_at lw_m5 6 rfl) rfl
theorem q1078 : (Jvm.Cond.methodLink "WornSkin$Reader" (326 : Nat) ({ cls := "WornSkin$Or", name := "<init>", desc := "(LWornSkin$Expression;)V" } : Jvm.MethodName)) ∈ lw_all := lw_g (lw_at lw_m5 7 rfl) rfl
theorem q1079 : (Jvm.Cond.instanceMethod ({ cls := "WornSkin$Or", name := "<init>", desc := "(LWornSkin$Expression;)V" } : Jvm.MethodName)) ∈ lw_all := lw_g (lw_at lw_m5 8 rfl) rfl
theorem q1080 : (Jvm.Cond.code ({ cls := "WornSkin$Or", name := "<init>", desc := "(LWornSkin$Expression;)V" } : Jvm.MethodName) prog_16_method_1_code (2 : Nat) (Option.none : Option Jvm.ClassFile.FieldType)) ∈ lw_all := lw_g (lw_at lw_m5 9 rfl) rfl
theorem q1081 : (Jvm.Cond.methodLink "WornSkin$Or" (1 : Nat) ({ cls := "WornSkin$Link", name := "<init>", desc := "(LWornSkin$Expression;)V" } : Jvm.MethodName)) ∈ lw_all := lw_g (lw_at lw_m5 10 rfl) rfl
theorem q1084 : (Jvm.Cond.methodLink "WornSkin" (90 : Nat) ({ cls := "java/util/ArrayList", name := "clear", desc := "()V" } : Jvm.MethodName)) ∈ lw_all := lw_g (lw_at lw_m5 13 rfl) rfl
theorem q1085 : (Jvm.Cond.instanceMethod ({ cls := "java/util/ArrayList", name := "clear", desc := "()V" } : Jvm.MethodName)) ∈ lw_all := lw_g (lw_at lw_m5 14 rfl) rfl
theorem q1086 : (Jvm.Cond.selects "java/util/ArrayList" ({ cls := "java/util/ArrayList", name := "clear", desc := "()V" } : Jvm.MethodName) ({ cls := "java/util/ArrayList", name := "clear", desc := "()V" } : Jvm.MethodName)) ∈ lw_all := lw_g (lw_at lw_m5 15 rfl) rfl
theorem q1087 : (Jvm.Cond.code ({ cls := "java/util/ArrayList", name := "clear", desc := "()V" } : Jvm.MethodName) prog_56_method_40_code (4 : Nat) (Option.none : Option Jvm.ClassFile.FieldType)) ∈ lw_all := lw_g (lw_at lw_m5 16 rfl) rfl
theorem q1088 : (Jvm.Cond.methodLink "WornSkinLaw" (31 : Nat) ({ cls := "WornSkin", name := "year", desc := "()I" } : Jvm.MethodName)) ∈ lw_all := lw_g (lw_at lw_m5 17 rfl) rfl
theorem q1089 : (Jvm.Cond.instanceMethod ({ cls := "WornSkin", name := "year", desc := "()I" } : Jvm.MethodName)) ∈ lw_all := lw_g (lw_at lw_m5 18 rfl) rfl
theorem q1090 : (Jvm.Cond.selects "WornSkin" ({ cls := "WornSkin", name := "year", desc := "()I" } : Jvm.MethodName) ({ cls := "WornSkin", name := "year", desc := "()I" } : Jvm.MethodName)) ∈ lw_all := lw_g (lw_at lw_m5 19 rfl) rfl
theorem q1091 : (Jvm.Cond.codeWith ({ cls := "WornSkin", name := "year", desc := "()I" } : Jvm.MethodName) prog_1_method_8_code (2 : Nat) (Option.some Jvm.ClassFile.FieldType.int) [((0 : Nat), (16 : Nat), (17 : Nat), (93 : Nat))]) ∈ lw_all := lw_g (lw_at lw_m5 20 rfl) rfl
theorem q1092 : (Jvm.Cond.methodLink "WornSkin" (98 : Nat) ({ cls := "WornSkin", name := "now", desc := "()LWornSkin$Library;" } : Jvm.MethodName)) ∈ lw_all := lw_g (lw_at lw_m5 21 rfl) rfl
theorem q1094 : (Jvm.Cond.instanceMethod ({ cls := "WornSkin", name := "now", desc := "()LWornSkin$Library;" } : Jvm.MethodName)) ∈ lw_all := lw_g (lw_at lw_m5 23 rfl) rfl
theorem q1095 : (Jvm.Cond.code ({ cls := "WornSkin", name := "now", desc := "()LWornSkin$Library;" } : Jvm.MethodName) prog_1_method_9_code (1 : Nat) (Option.some (Jvm.ClassFile.FieldType.object "WornSkin$Library"))) ∈ lw_all := lw_g (lw_at lw_m5 24 rfl) rfl
theorem q1096 : (Jvm.Cond.methodLink "WornSkin" (101 : Nat) ({ cls := "WornSkin$Reader", name := "year", desc := "(LWornSkin$Library;)Ljava/util/ArrayList;" } : Jvm.MethodName)) ∈ lw_all := lw_g (lw_at lw_m5 25 rfl) rfl
theorem q1097 : (Jvm.Cond.instanceMethod ({ cls := "WornSkin$Reader", name := "year", desc := "(LWornSkin$Library;)Ljava/util/ArrayList;" } : Jvm.MethodName)) ∈ lw_all := lw_g (lw_at lw_m5 26 rfl) rfl
theorem q1098 : (Jvm.Cond.selects "WornSkin$Reader" ({ cls := "WornSkin$Reader", name := "year", desc := "(LWornSkin$Library;)Ljava/util/ArrayList;" } : Jvm.MethodName) ({ cls := "WornSkin$Reader", name := "year", desc := "(LWornSkin$Library;)Ljava/util/ArrayList;" } : Jvm.MethodName)) ∈ lw_all := lw_g (lw_at lw_m5 27 rfl) rfl
theorem q1099 : (Jvm.Cond.code ({ cls := "WornSkin$Reader", name := "year", desc := "(LWornSkin$Library;)Ljava/util/ArrayList;" } : Jvm.MethodName) prog_20_method_26_code (4 : Nat) (Option.some (Jvm.ClassFile.FieldType.object "java/util/ArrayList"))) ∈ lw_all := lw_g (lw_at lw_m5 28 rfl) rfl
theorem q1100 : (Jvm.Cond.classLink "WornSkin$Reader" (210 : Nat) "java/util/ArrayList") ∈ lw_all := lw_g (lw_at lw_m5 29 rfl) rfl
theorem q1101 : (Jvm.Cond.methodLink "WornSkin$Reader" (280 : Nat) ({ cls := "java/util/ArrayList", name := "<init>", desc := "(I)V" } : Jvm.MethodName)) ∈ lw_all := lw_g (lw_at lw_m5 30 rfl) rfl
theorem q1102 : (Jvm.Cond.methodLink "WornSkin$Reader" (281 : Nat) ({ cls := "WornSkin$Reader", name := "line", desc := "(I)LWornSkin$Line;" } : Jvm.MethodName)) ∈ lw_all := lw_g (lw_at lw_m5 31 rfl) rfl
theorem q1104 : (Jvm.Cond.instanceMethod ({ cls := "WornSkin$Reader", name := "line", desc := "(I)LWornSkin$Line;" } : Jvm.MethodName)) ∈ lw_all := lw_g (lw_at lw_m5 33 rfl) rfl
theorem q1105 : (Jvm.Cond.code ({ cls := "WornSkin$Reader", name := "line", desc := "(I)LWornSkin$Line;" } : Jvm.MethodName) prog_20_method_27_code (4 : Nat) (Option.some (Jvm.ClassFile.FieldType.object "WornSkin$Line"))) ∈ lw_all := lw_g (lw_at lw_m5 34 rfl) rfl
theorem q1106 : (Jvm.Cond.classLink "WornSkin$Reader" (285 : Nat) "WornSkin$Weeks") ∈ lw_all := lw_g (lw_at lw_m5 35 rfl) rfl
theorem q1107 : (Jvm.Cond.instantiable "WornSkin$Weeks" (0 : Nat)) ∈ lw_all := lw_g (lw_at lw_m5 36 rfl) rfl
theorem q1108 : (Jvm.Cond.methodLinkNest "WornSkin$Reader" (287 : Nat) ({ cls := "WornSkin$Weeks", name := "<init>", desc := "()V" } : Jvm.MethodName) "WornSkin") ∈ lw_tbl := lw_at lw_m5 37 rfl
theorem q1109 : (Jvm.Cond.instanceMethod ({ cls := "WornSkin$Weeks", name := "<init>", desc := "()V" } : Jvm.MethodName)) ∈ lw_all := lw_g (lw_at lw_m5 38 rfl) rfl
theorem q1110 : (Jvm.Cond.code ({ cls := "WornSkin$Weeks", name := "<init>", desc := "()V" } : Jvm.MethodName) prog_28_method_1_code (1 : Nat) (Option.none : Option Jvm.ClassFile.FieldType)) ∈ lw_all := lw_g (lw_at lw_m5 39 rfl) rfl
theorem q1111 : (Jvm.Cond.methodLinkNest "WornSkin$Weeks" (1 : Nat) ({ cls := "WornSkin$Line", name := "<init>", desc := "()V" } : Jvm.MethodName) "WornSkin") ∈ lw_tbl := lw_at lw_m5 40 rfl
theorem q1112 : (Jvm.Cond.instanceMethod ({ cls := "WornSkin$Line", name := "<init>", desc := "()V" } : Jvm.MethodName)) ∈ lw_all := lw_g (lw_at lw_m5 41 rfl) rfl
theorem q1113 : (Jvm.Cond.code ({ cls := "WornSkin$Line", name := "<init>", desc := "()V" } : Jvm.MethodName) prog_10_method_1_code (1 : Nat) (Option.none : Option Jvm.ClassFile.FieldType)) ∈ lw_all := lw_g (lw_at lw_m5 42 rfl) rfl
theorem q1114 : (Jvm.Cond.methodLink "WornSkin$Line" (1 : Nat) ({ cls := "java/lang/Object", name := "<init>", desc := "()V" } : Jvm.MethodName)) ∈ lw_all := lw_g (lw_at lw_m5 43 rfl) rfl
theorem q1116 : (Jvm.Cond.classLink "WornSkin$Reader" (288 : Nat) "WornSkin$Scrapes") ∈ lw_all := lw_g (lw_at lw_m5 45 rfl) rfl
theorem q1117 : (Jvm.Cond.instantiable "WornSkin$Scrapes" (2 : Nat)) ∈ lw_all := lw_g (lw_at lw_m5 46 rfl) rfl
theorem q1118 : (Jvm.Cond.methodLink "WornSkin$Reader" (290 : Nat) ({ cls := "WornSkin$Scrapes", name := "<init>", desc := "(IZ)V" } : Jvm.MethodName)) ∈ lw_all := lw_g (lw_at lw_m5 47 rfl) rfl
theorem q1119 : (Jvm.Cond.instanceMethod ({ cls := "WornSkin$Scrapes", name := "<init>", desc := "(IZ)V" } : Jvm.MethodName)) ∈ lw_all := lw_g (lw_at lw_m5 48 rfl) rfl
theorem q1120 : (Jvm.Cond.code ({ cls := "WornSkin$Scrapes", name := "<init>", desc := "(IZ)V" } : Jvm.MethodName) prog_23_method_1_code (3 : Nat) (Option.none : Option Jvm.ClassFile.FieldType)) ∈ lw_all := lw_g (lw_at lw_m5 49 rfl) rfl
theorem q1121 : (Jvm.Cond.methodLinkNest "WornSkin$Scrapes" (1 : Nat) ({ cls := "WornSkin$Line", name := "<init>", desc := "()V" } : Jvm.MethodName) "WornSkin") ∈ lw_tbl := lw_at lw_m5 50 rfl
theorem q1122 : (Jvm.Cond.fieldLink "WornSkin$Scrapes" (7 : Nat) "WornSkin$Scrapes" "skin" "I") ∈ lw_all := lw_g (lw_at lw_m5 51 rfl) rfl
theorem q1123 : (Jvm.Cond.fieldLink "WornSkin$Scrapes" (13 : Nat) "WornSkin$Scrapes" "third" "Z") ∈ lw_all := lw_g (lw_at lw_m5 52 rfl) rfl
theorem q1129 : (Jvm.Cond.classLink "WornSkin$Reader" (293 : Nat) "WornSkin$Writes") ∈ lw_all := lw_g (lw_at lw_m5 58 rfl) rfl
theorem q1130 : (Jvm.Cond.instantiable "WornSkin$Writes" (3 : Nat)) ∈ lw_all := lw_g (lw_at lw_m5 59 rfl) rfl
theorem q1131 : (Jvm.Cond.methodLink "WornSkin$Reader" (295 : Nat) ({ cls := "WornSkin$Writes", name := "<init>", desc := "(III)V" } : Jvm.MethodName)) ∈ lw_all := lw_g (lw_at lw_m5 60 rfl) rfl
theorem q1132 : (Jvm.Cond.instanceMethod ({ cls := "WornSkin$Writes", name := "<init>", desc := "(III)V" } : Jvm.MethodName)) ∈ lw_all := lw_g (lw_at lw_m5 61 rfl) rfl
theorem q1133 : (Jvm.Cond.code ({ cls := "WornSkin$Writes", name := "<init>", desc := "(III)V" } : Jvm.MethodName) prog_29_method_1_code (4 : Nat) (Option.none : Option Jvm.ClassFile.FieldType)) ∈ lw_all := lw_g (lw_at lw_m5 62 rfl) rfl
theorem q1134 : (Jvm.Cond.methodLinkNest "WornSkin$Writes" (1 : Nat) ({ cls := "WornSkin$Line", name := "<init>", desc := "()V" } : Jvm.MethodName) "WornSkin") ∈ lw_tbl := lw_at lw_m5 63 rfl
theorem q1135 : (Jvm.Cond.fieldLink "WornSkin$Writes" (7 : Nat) "WornSkin$Writes" "text" "I") ∈ lw_all := lw_g (lw_at lw_m5 64 rfl) rfl
theorem q1136 : (Jvm.Cond.fieldLink "WornSkin$Writes" (13 : Nat) "WornSkin$Writes" "skin" "I") ∈ lw_all := lw_g (lw_at lw_m5 65 rfl) rfl
theorem q1137 : (Jvm.Cond.fieldLink "WornSkin$Writes" (16 : Nat) "WornSkin$Writes" "line" "I") ∈ lw_all := lw_g (lw_at lw_m5 66 rfl) rfl
theorem q1145 : (Jvm.Cond.methodLink "WornSkinLaw" (35 : Nat) ({ cls := "WornSkin", name := "skin", desc := "(II)I" } : Jvm.MethodName)) ∈ lw_all := lw_g (lw_at lw_m5 74 rfl) rfl
theorem q1146 : (Jvm.Cond.instanceMethod ({ cls := "WornSkin", name := "skin", desc := "(II)I" } : Jvm.MethodName)) ∈ lw_all := lw_g (lw_at lw_m5 75 rfl) rfl
theorem q1147 : (Jvm.Cond.selects "WornSkin" ({ cls := "WornSkin", name := "skin", desc := "(II)I" } : Jvm.MethodName) ({ cls := "WornSkin", name := "skin", desc := "(II)I" } : Jvm.MethodName)) ∈ lw_all := lw_g (lw_at lw_m5 76 rfl) rfl
theorem q1148 : (Jvm.Cond.code ({ cls := "WornSkin", name := "skin", desc := "(II)I" } : Jvm.MethodName) prog_1_method_15_code (3 : Nat) (Option.some Jvm.ClassFile.FieldType.int)) ∈ lw_all := lw_g (lw_at lw_m5 77 rfl) rfl
theorem q1149 : (Jvm.Cond.methodLink "WornSkin" (126 : Nat) ({ cls := "WornSkin", name := "isSkin", desc := "(I)Z" } : Jvm.MethodName)) ∈ lw_all := lw_g (lw_at lw_m5 78 rfl) rfl
theorem q1151 : (Jvm.Cond.instanceMethod ({ cls := "WornSkin", name := "isSkin", desc := "(I)Z" } : Jvm.MethodName)) ∈ lw_all := lw_g (lw_at lw_m5 80 rfl) rfl
theorem q1152 : (Jvm.Cond.code ({ cls := "WornSkin", name := "isSkin", desc := "(I)Z" } : Jvm.MethodName) prog_1_method_12_code (2 : Nat) (Option.some Jvm.ClassFile.FieldType.boolean)) ∈ lw_all := lw_g (lw_at lw_m5 81 rfl) rfl
theorem q1153 : (Jvm.Cond.methodLink "WornSkin" (118 : Nat) ({ cls := "WornSkin", name := "skins", desc := "()I" } : Jvm.MethodName)) ∈ lw_all := lw_g (lw_at lw_m5 82 rfl) rfl
theorem q1155 : (Jvm.Cond.instanceMethod ({ cls := "WornSkin", name := "skins", desc := "()I" } : Jvm.MethodName)) ∈ lw_all := lw_g (lw_at lw_m5 84 rfl) rfl
theorem q1156 : (Jvm.Cond.code ({ cls := "WornSkin", name := "skins", desc := "()I" } : Jvm.MethodName) prog_1_method_10_code (1 : Nat) (Option.some Jvm.ClassFile.FieldType.int)) ∈ lw_all := lw_g (lw_at lw_m5 85 rfl) rfl
theorem q1157 : (Jvm.Cond.methodLink "WornSkin" (111 : Nat) ({ cls := "java/util/ArrayList", name := "size", desc := "()I" } : Jvm.MethodName)) ∈ lw_all := lw_g (lw_at lw_m5 86 rfl) rfl
theorem q1158 : (Jvm.Cond.methodLink "WornSkin" (120 : Nat) ({ cls := "WornSkin", name := "within", desc := "(III)Z" } : Jvm.MethodName)) ∈ lw_all := lw_g (lw_at lw_m5 87 rfl) rfl
theorem q1159 : (Jvm.Cond.methodLink "WornSkin" (130 : Nat) ({ cls := "WornSkin$Shelf", name := "skin", desc := "(I)LWornSkin$Skin;" } : Jvm.MethodName)) ∈ lw_all := lw_g (lw_at lw_m5 88 rfl) rfl
theorem q1160 : (Jvm.Cond.methodLink "WornSkin" (145 : Nat) ({ cls := "WornSkin$Shelf", name := "open", desc := "(I)I" } : Jvm.MethodName)) ∈ lw_all := lw_g (lw_at lw_m5 89 rfl) rfl
theorem q1161 : (Jvm.Cond.instanceMethod ({ cls := "WornSkin$Shelf", name := "open", desc := "(I)I" } : Jvm.MethodName)) ∈ lw_all := lw_g (lw_at lw_m5 90 rfl) rfl
theorem q1162 : (Jvm.Cond.selects "WornSkin$Shelf" ({ cls := "WornSkin$Shelf", name := "open", desc := "(I)I" } : Jvm.MethodName) ({ cls := "WornSkin$Shelf", name := "open", desc := "(I)I" } : Jvm.MethodName)) ∈ lw_all := lw_g (lw_at lw_m5 91 rfl) rfl
theorem q1163 : (Jvm.Cond.code ({ cls := "WornSkin$Shelf", name := "open", desc := "(I)I" } : Jvm.MethodName) prog_24_method_21_code (2 : Nat) (Option.some Jvm.ClassFile.FieldType.int)) ∈ lw_all := lw_g (lw_at lw_m5 92 rfl) rfl
theorem q1164 : (Jvm.Cond.methodLink "WornSkin" (149 : Nat) ({ cls := "WornSkin", name := "readIn", desc := "(I)I" } : Jvm.MethodName)) ∈ lw_all := lw_g (lw_at lw_m5 93 rfl) rfl
theorem q1166 : (Jvm.Cond.instanceMethod ({ cls := "WornSkin", name := "readIn", desc := "(I)I" } : Jvm.MethodName)) ∈ lw_all := lw_g (lw_at lw_m5 95 rfl) rfl
theorem q1167 : (Jvm.Cond.code ({ cls := "WornSkin", name := "readIn", desc := "(I)I" } : Jvm.MethodName) prog_1_method_16_code (4 : Nat) (Option.some Jvm.ClassFile.FieldType.int)) ∈ lw_all := lw_g (lw_at lw_m5 96 rfl) rfl
theorem q1168 : (Jvm.Cond.methodLink "WornSkin" (152 : Nat) ({ cls := "WornSkin$Shelf", name := "damp", desc := "()I" } : Jvm.MethodName)) ∈ lw_all := lw_g (lw_at lw_m5 97 rfl) rfl
theorem q1169 : (Jvm.Cond.instanceMethod ({ cls := "WornSkin$Shelf", name := "damp", desc := "()I" } : Jvm.MethodName)) ∈ lw_all := lw_g (lw_at lw_m5 98 rfl) rfl
theorem q1170 : (Jvm.Cond.selects "WornSkin$Shelf" ({ cls := "WornSkin$Shelf", name := "damp", desc := "()I" } : Jvm.MethodName) ({ cls := "WornSkin$Shelf", name := "damp", desc := "()I" } : Jvm.MethodName)) ∈ lw_all := lw_g (lw_at lw_m5 99 rfl) rfl
theorem q1171 : (Jvm.Cond.code ({ cls := "WornSkin$Shelf", name := "damp", desc := "()I" } : Jvm.MethodName) prog_24_method_9_code (1 : Nat) (Option.some Jvm.ClassFile.FieldType.int)) ∈ lw_all := lw_g (lw_at lw_m5 100 rfl) rfl
theorem q1172 : (Jvm.Cond.methodLink "WornSkin$Shelf" (78 : Nat) ({ cls := "WornSkin$Library", name := "damp", desc := "(I)I" } : Jvm.MethodName)) ∈ lw_all := lw_g (lw_at lw_m5 101 rfl) rfl
theorem q1173 : (Jvm.Cond.instanceMethod ({ cls := "WornSkin$Library", name := "damp", desc := "(I)I" } : Jvm.MethodName)) ∈ lw_all := lw_g (lw_at lw_m5 102 rfl) rfl
theorem q1174 : (Jvm.Cond.selects "WornSkin$Library" ({ cls := "WornSkin$Library", name := "damp", desc := "(I)I" } : Jvm.MethodName) ({ cls := "WornSkin$Library", name := "damp", desc := "(I)I" } : Jvm.MethodName)) ∈ lw_all := lw_g (lw_at lw_m5 103 rfl) rfl
theorem q1175 : (Jvm.Cond.code ({ cls := "WornSkin$Library", name := "damp", desc := "(I)I" } : Jvm.MethodName) prog_9_method_4_code (2 : Nat) (Option.some Jvm.ClassFile.FieldType.int)) ∈ lw_all := lw_g (lw_at lw_m5 104 rfl) rfl
theorem q1176 : (Jvm.Cond.methodLink "WornSkin" (155 : Nat) ({ cls := "WornSkin$Shelf", name := "read", desc := "(III)I" } : Jvm.MethodName)) ∈ lw_all := lw_g (lw_at lw_m5 105 rfl) rfl
theorem q1177 : (Jvm.Cond.instanceMethod ({ cls := "WornSkin$Shelf", name := "read", desc := "(III)I" } : Jvm.MethodName)) ∈ lw_all := lw_g (lw_at lw_m5 106 rfl) rfl
theorem q1178 : (Jvm.Cond.selects "WornSkin$Shelf" ({ cls := "WornSkin$Shelf", name := "read", desc := "(III)I" } : Jvm.MethodName) ({ cls := "WornSkin$Shelf", name := "read", desc := "(III)I" } : Jvm.MethodName)) ∈ lw_all := lw_g (lw_at lw_m5 107 rfl) rfl
theorem q1179 : (Jvm.Cond.code ({ cls := "WornSkin$Shelf", name := "read", desc := "(III)I" } : Jvm.MethodName) prog_24_method_25_code (6 : Nat) (Option.some Jvm.ClassFile.FieldType.int)) ∈ lw_all := lw_g (lw_at lw_m5 108 rfl) rfl
theorem q1180 : (Jvm.Cond.methodLink "WornSkin$Shelf" (96 : Nat) ({ cls := "WornSkin$Shelf", name := "isOpen", desc := "(I)Z" } : Jvm.MethodName)) ∈ lw_all := lw_g (lw_at lw_m5 109 rfl) rfl
theorem q1181 : (Jvm.Cond.instanceMethod ({ cls := "WornSkin$Shelf", name := "isOpen", desc := "(I)Z" } : Jvm.MethodName)) ∈ lw_all := lw_g (lw_at lw_m5 110 rfl) rfl
theorem q1182 : (Jvm.Cond.selects "WornSkin$Shelf" ({ cls := "WornSkin$Shelf", name := "isOpen", desc := "(I)Z" } : Jvm.MethodName) ({ cls := "WornSkin$Shelf", name := "isOpen", desc := "(I)Z" } : Jvm.MethodName)) ∈ lw_all := lw_g (lw_at lw_m5 111 rfl) rfl
theorem q1183 : (Jvm.Cond.code ({ cls := "WornSkin$Shelf", name := "isOpen", desc := "(I)Z" } : Jvm.MethodName) prog_24_method_14_code (2 : Nat) (Option.some Jvm.ClassFile.FieldType.boolean)) ∈ lw_all := lw_g (lw_at lw_m5 112 rfl) rfl
theorem q1184 : (Jvm.Cond.methodLinkNest "WornSkin$Shelf" (86 : Nat) ({ cls := "WornSkin", name := "has", desc := "(II)Z" } : Jvm.MethodName) "WornSkin") ∈ lw_tbl := lw_at lw_m5 113 rfl
theorem q1185 : (Jvm.Cond.methodLink "WornSkin$Shelf" (121 : Nat) ({ cls := "WornSkin$Shelf", name := "top", desc := "(I)I" } : Jvm.MethodName)) ∈ lw_all := lw_g (lw_at lw_m5 114 rfl) rfl
theorem q1186 : (Jvm.Cond.instanceMethod ({ cls := "WornSkin$Shelf", name := "top", desc := "(I)I" } : Jvm.MethodName)) ∈ lw_all := lw_g (lw_at lw_m5 115 rfl) rfl
theorem q1187 : (Jvm.Cond.selects "WornSkin$Shelf" ({ cls := "WornSkin$Shelf", name := "top", desc := "(I)I" } : Jvm.MethodName) ({ cls := "WornSkin$Shelf", name := "top", desc := "(I)I" } : Jvm.MethodName)) ∈ lw_all := lw_g (lw_at lw_m5 116 rfl) rfl
theorem q1188 : (Jvm.Cond.code ({ cls := "WornSkin$Shelf", name := "top", desc := "(I)I" } : Jvm.MethodName) prog_24_method_13_code (2 : Nat) (Option.some Jvm.ClassFile.FieldType.int)) ∈ lw_all := lw_g (lw_at lw_m5 117 rfl) rfl
theorem q1189 : (Jvm.Cond.methodLink "WornSkin$Shelf" (82 : Nat) ({ cls := "WornSkin$Shelf", name := "layer", desc := "(II)I" } : Jvm.MethodName)) ∈ lw_all := lw_g (lw_at lw_m5 118 rfl) rfl
theorem q1190 : (Jvm.Cond.instanceMethod ({ cls := "WornSkin$Shelf", name := "layer", desc := "(II)I" } : Jvm.MethodName)) ∈ lw_all := lw_g (lw_at lw_m5 119 rfl) rfl
theorem q1191 : (Jvm.Cond.selects "WornSkin$Shelf" ({ cls := "WornSkin$Shelf", name := "layer", desc := "(II)I" } : Jvm.MethodName) ({ cls := "WornSkin$Shelf", name := "layer", desc := "(II)I" } : Jvm.MethodName)) ∈ lw_all := lw_g (lw_at lw_m5 120 rfl) rfl
theorem q1192 : (Jvm.Cond.code ({ cls := "WornSkin$Shelf", name := "layer", desc := "(II)I" } : Jvm.MethodName) prog_24_method_12_code (3 : Nat) (Option.some Jvm.ClassFile.FieldType.int)) ∈ lw_all := lw_g (lw_at lw_m5 121 rfl) rfl
theorem q1193 : (Jvm.Cond.methodLink "WornSkin$Shelf" (103 : Nat) ({ cls := "WornSkin$Shelf", name := "text", desc := "(I)LWornSkin$Text;" } : Jvm.MethodName)) ∈ lw_all := lw_g (lw_at lw_m5 122 rfl) rfl
theorem q1194 : (Jvm.Cond.instanceMethod ({ cls := "WornSkin$Shelf", name := "text", desc := "(I)LWornSkin$Text;" } : Jvm.MethodName)) ∈ lw_all := lw_g (lw_at lw_m5 123 rfl) rfl
theorem q1195 : (Jvm.Cond.selects "WornSkin$Shelf" ({ cls := "WornSkin$Shelf", name := "text", desc := "(I)LWornSkin$Text;" } : Jvm.MethodName) ({ cls := "WornSkin$Shelf", name := "text", desc := "(I)LWornSkin$Text;" } : Jvm.MethodName)) ∈ lw_all := lw_g (lw_at lw_m5 124 rfl) rfl
theorem q1196 : (Jvm.Cond.code ({ cls := "WornSkin$Shelf", name := "text", desc := "(I)LWornSkin$Text;" } : Jvm.MethodName) prog_24_method_8_code (2 : Nat) (Option.some (Jvm.ClassFile.FieldType.object "WornSkin$Text"))) ∈ lw_all := lw_g (lw_at lw_m5 125 rfl) rfl
theorem q1197 : (Jvm.Cond.classLink "WornSkin$Shelf" (76 : Nat) "WornSkin$Text") ∈ lw_all := lw_g (lw_at lw_m5 126 rfl) rfl
theorem q1198 : (Jvm.Cond.methodLink "WornSkin$Shelf" (137 : Nat) ({ cls := "WornSkin$Library", name := "shows", desc := "(LWornSkin$Text;III)Z" } : Jvm.MethodName)) ∈ lw_all := lw_g (lw_at lw_m5 127 rfl) rfl
theorem q1199 : (Jvm.Cond.instanceMethod ({ cls := "WornSkin$Library", name := "shows", desc := "(LWornSkin$Text;III)Z" } : Jvm.MethodName)) ∈ lw_all := lw_g (lw_at lw_m5 128 rfl) rfl
theorem q1200 : (Jvm.Cond.selects "WornSkin$Library" ({ cls := "WornSkin$Library", name := "shows", desc := "(LWornSkin$Text;III)Z" } : Jvm.MethodName) ({ cls := "WornSkin$Library", name := "shows", desc := "(LWornSkin$Text;III)Z" } : Jvm.MethodName)) ∈ lw_all := lw_g (lw_at lw_m5 129 rfl) rfl
theorem q1201 : (Jvm.Cond.code ({ cls := "WornSkin$Library", name := "shows", desc := "(LWornSkin$Text;III)Z" } : Jvm.MethodName) prog_9_method_5_code (8 : Nat) (Option.some Jvm.ClassFile.FieldType.boolean)) ∈ lw_all := lw_g (lw_at lw_m5 130 rfl) rfl
theorem q1202 : (Jvm.Cond.methodLink "WornSkin$Library" (63 : Nat) ({ cls := "WornSkin$Text", name := "wet", desc := "(I)I" } : Jvm.MethodName)) ∈ lw_all := lw_g (lw_at lw_m5 131 rfl) rfl
theorem q1203 : (Jvm.Cond.instanceMethod ({ cls := "WornSkin$Text", name := "wet", desc := "(I)I" } : Jvm.MethodName)) ∈ lw_all := lw_g (lw_at lw_m5 132 rfl) rfl
theorem q1204 : (Jvm.Cond.selects "WornSkin$Text" ({ cls := "WornSkin$Text", name := "wet", desc := "(I)I" } : Jvm.MethodName) ({ cls := "WornSkin$Text", name := "wet", desc := "(I)I" } : Jvm.MethodName)) ∈ lw_all := lw_g (lw_at lw_m5 133 rfl) rfl
theorem q1205 : (Jvm.Cond.sameMethod "WornSkin$Text" "WornSkin$Text" "wet" "(I)I") ∈ lw_all := lw_g (lw_at lw_m5 134 rfl) rfl
theorem q1206 : (Jvm.Cond.selects "WornSkin$Oath" ({ cls := "WornSkin$Text", name := "wet", desc := "(I)I" } : Jvm.MethodName) ({ cls := "WornSkin$Text", name := "wet", desc := "(I)I" } : Jvm.MethodName)) ∈ lw_all := lw_g (lw_at lw_m5 135 rfl) rfl
theorem q1207 : (Jvm.Cond.selects "WornSkin$Psalm" ({ cls := "WornSkin$Text", name := "wet", desc := "(I)I" } : Jvm.MethodName) ({ cls := "WornSkin$Psalm", name := "wet", desc := "(I)I" } : Jvm.MethodName)) ∈ lw_all := lw_g (lw_at lw_m5 136 rfl) rfl
theorem q1208 : (Jvm.Cond.instanceMethod ({ cls := "WornSkin$Psalm", name := "wet", desc := "(I)I" } : Jvm.MethodName)) ∈ lw_all := lw_g (lw_at lw_m5 137 rfl) rfl
theorem q1209 : (Jvm.Cond.code ({ cls := "WornSkin$Psalm", name := "wet", desc := "(I)I" } : Jvm.MethodName) prog_19_method_3_code (2 : Nat) (Option.some Jvm.ClassFile.FieldType.int)) ∈ lw_all := lw_g (lw_at lw_m5 138 rfl) rfl
theorem q1210 : (Jvm.Cond.selects "WornSkin$Recipe" ({ cls := "WornSkin$Text", name := "wet", desc := "(I)I" } : Jvm.MethodName) ({ cls := "WornSkin$Text", name := "wet", desc := "(I)I" } : Jvm.MethodName)) ∈ lw_all := lw_g (lw_at lw_m5 139 rfl) rfl
theorem q1211 : (Jvm.Cond.code ({ cls := "WornSkin$Text", name := "wet", desc := "(I)I" } : Jvm.MethodName) prog_26_method_3_code (2 : Nat) (Option.some Jvm.ClassFile.FieldType.int)) ∈ lw_all := lw_g (lw_at lw_m5 140 rfl) rfl
theorem q1212 : (Jvm.Cond.methodLink "WornSkin$Library" (69 : Nat) ({ cls := "WornSkin$Text", name := "deep", desc := "(I)I" } : Jvm.MethodName)) ∈ lw_all := lw_g (lw_at lw_m5 141 rfl) rfl
theorem q1213 : (Jvm.Cond.instanceMethod ({ cls := "WornSkin$Text", name := "deep", desc := "(I)I" } : Jvm.MethodName)) ∈ lw_all := lw_g (lw_at lw_m5 142 rfl) rfl
theorem q1214 : (Jvm.Cond.selects "WornSkin$Text" ({ cls := "WornSkin$Text", name := "deep", desc := "(I)I" } : Jvm.MethodName) ({ cls := "WornSkin$Text", name := "deep", desc := "(I)I" } : Jvm.MethodName)) ∈ lw_all := lw_g (lw_at lw_m5 143 rfl) rfl
theorem q1215 : (Jvm.Cond.sameMethod "WornSkin$Text" "WornSkin$Text" "deep" "(I)I") ∈ lw_all := lw_g (lw_at lw_m5 144 rfl) rfl
theorem q1216 : (Jvm.Cond.selects "WornSkin$Oath" ({ cls := "WornSkin$Text", name := "deep", desc := "(I)I" } : Jvm.MethodName) ({ cls := "WornSkin$Text", name := "deep", desc := "(I)I" } : Jvm.MethodName)) ∈ lw_all := lw_g (lw_at lw_m5 145 rfl) rfl
theorem q1217 : (Jvm.Cond.selects "WornSkin$Psalm" ({ cls := "WornSkin$Text", name := "deep", desc := "(I)I" } : Jvm.MethodName) ({ cls := "WornSkin$Text", name := "deep", desc := "(I)I" } : Jvm.MethodName)) ∈ lw_all := lw_g (lw_at lw_m5 146 rfl) rfl
theorem q1218 : (Jvm.Cond.selects "WornSkin$Recipe" ({ cls := "WornSkin$Text", name := "deep", desc := "(I)I" } : Jvm.MethodName) ({ cls := "WornSkin$Recipe", name := "deep", desc := "(I)I" } : Jvm.MethodName)) ∈ lw_all := lw_g (lw_at lw_m5 147 rfl) rfl
theorem q1219 : (Jvm.Cond.instanceMethod ({ cls := "WornSkin$Recipe", name := "deep", desc := "(I)I" } : Jvm.MethodName)) ∈ lw_all := lw_g (lw_at lw_m5 148 rfl) rfl
theorem q1220 : (Jvm.Cond.code ({ cls := "WornSkin$Recipe", name := "deep", desc := "(I)I" } : Jvm.MethodName) prog_21_method_3_code (2 : Nat) (Option.some Jvm.ClassFile.FieldType.int)) ∈ lw_all := lw_g (lw_at lw_m5 149 rfl) rfl
theorem q1221 : (Jvm.Cond.code ({ cls := "WornSkin$Text", name := "deep", desc := "(I)I" } : Jvm.MethodName) prog_26_method_4_code (2 : Nat) (Option.some Jvm.ClassFile.FieldType.int)) ∈ lw_all := lw_g (lw_at lw_m5 150 rfl) rfl
theorem q1222 : (Jvm.Cond.methodLink "WornSkin$Library" (83 : Nat) ({ cls := "WornSkin$Expression", name := "of", desc := "(LWornSkin$Facts;)I" } : Jvm.MethodName)) ∈ lw_all := lw_g (lw_at lw_m5 151 rfl) rfl
theorem q1223 : (Jvm.Cond.declares ({ cls := "WornSkin$Expression", name := "of", desc := "(LWornSkin$Facts;)I" } : Jvm.MethodName)) ∈ lw_tbl := lw_at lw_m5 152 rfl
theorem q1224 : (Jvm.Cond.sameMethod "WornSkin$Expression" "WornSkin$Expression" "of" "(LWornSkin$Facts;)I") ∈ lw_all := lw_g (lw_at lw_m5 153 rfl) rfl
theorem q1225 : (Jvm.Cond.selects "WornSkin$Chain" ({ cls := "WornSkin$Expression", name := "of", desc := "(LWornSkin$Facts;)I" } : Jvm.MethodName) ({ cls := "WornSkin$Chain", name := "of", desc := "(LWornSkin$Facts;)I" } : Jvm.MethodName)) ∈ lw_all := lw_g (lw_at lw_m5 154 rfl) rfl
theorem q1226 : (Jvm.Cond.instanceMethod ({ cls := "WornSkin$Chain", name := "of", desc := "(LWornSkin$Facts;)I" } : Jvm.MethodName)) ∈ lw_all := lw_g (lw_at lw_m5 155 rfl) rfl
theorem q1227 : (Jvm.Cond.code ({ cls := "WornSkin$Chain", name := "of", desc := "(LWornSkin$Facts;)I" } : Jvm.MethodName) prog_3_method_2_code (4 : Nat) (Option.some Jvm.ClassFile.FieldType.int)) ∈ lw_all := lw_g (lw_at lw_m5 156 rfl) rfl
theorem q1228 : (Jvm.Cond.methodLink "WornSkin$Chain" (22 : Nat) ({ cls := "WornSkin$Expression", name := "of", desc := "(LWornSkin$Facts;)I" } : Jvm.MethodName)) ∈ lw_all := lw_g (lw_at lw_m5 157 rfl) rfl
theorem q1229 : (Jvm.Cond.instanceMethod ({ cls := "WornSkin$Fact", name := "of", desc := "(LWornSkin$Facts;)I" } : Jvm.MethodName)) ∈ lw_all := lw_g (lw_at lw_m5 158 rfl) rfl
theorem q1230 : (Jvm.Cond.code ({ cls := "WornSkin$Fact", name := "of", desc := "(LWornSkin$Facts;)I" } : Jvm.MethodName) prog_5_method_2_code (2 : Nat) (Option.some Jvm.ClassFile.FieldType.int)) ∈ lw_all := lw_g (lw_at lw_m5 159 rfl) rfl
theorem q1231 : (Jvm.Cond.instanceMethod ({ cls := "WornSkin$Not", name := "of", desc := "(LWornSkin$Facts;)I" } : Jvm.MethodName)) ∈ lw_all := lw_g (lw_at lw_m5 160 rfl) rfl
theorem q1232 : (Jvm.Cond.code ({ cls := "WornSkin$Not", name := "of", desc := "(LWornSkin$Facts;)I" } : Jvm.MethodName) prog_14_method_2_code (2 : Nat) (Option.some Jvm.ClassFile.FieldType.int)) ∈ lw_all := lw_g (lw_at lw_m5 161 rfl) rfl
theorem q1233 : (Jvm.Cond.methodLink "WornSkin$Not" (13 : Nat) ({ cls := "WornSkin$Expression", name := "of", desc := "(LWornSkin$Facts;)I" } : Jvm.MethodName)) ∈ lw_all := lw_g (lw_at lw_m5 162 rfl) rfl
theorem q1234 : (Jvm.Cond.instanceMethod ({ cls := "WornSkin$Plain", name := "of", desc := "(LWornSkin$Facts;)I" } : Jvm.MethodName)) ∈ lw_all := lw_g (lw_at lw_m5 163 rfl) rfl
theorem q1235 : (Jvm.Cond.code ({ cls := "WornSkin$Plain", name := "of", desc := "(LWornSkin$Facts;)I" } : Jvm.MethodName) prog_17_method_2_code (2 : Nat) (Option.some Jvm.ClassFile.FieldType.int)) ∈ lw_all := lw_g (lw_at lw_m5 164 rfl) rfl
theorem q1236 : (Jvm.Cond.methodLink "WornSkin$Chain" (26 : Nat) ({ cls := "java/util/ArrayList", name := "size", desc := "()I" } : Jvm.MethodName)) ∈ lw_all := lw_g (lw_at lw_m5 165 rfl) rfl
theorem q1237 : (Jvm.Cond.methodLink "WornSkin$Chain" (30 : Nat) ({ cls := "java/util/ArrayList", name := "get", desc := "(I)Ljava/lang/Object;" } : Jvm.MethodName)) ∈ lw_all := lw_g (lw_at lw_m5 166 rfl) rfl
theorem q1238 : (Jvm.Cond.classLink "WornSkin$Chain" (34 : Nat) "WornSkin$Link") ∈ lw_all := lw_g (lw_at lw_m5 167 rfl) rfl
theorem q1239 : (Jvm.Cond.methodLink "WornSkin$Chain" (36 : Nat) ({ cls := "WornSkin$Link", name := "on", desc := "(ILWornSkin$Facts;)I" } : Jvm.MethodName)) ∈ lw_all := lw_g (lw_at lw_m5 168 rfl) rfl
theorem q1240 : (Jvm.Cond.instanceMethod ({ cls := "WornSkin$Link", name := "on", desc := "(ILWornSkin$Facts;)I" } : Jvm.MethodName)) ∈ lw_all := lw_g (lw_at lw_m5 169 rfl) rfl
theorem q1241 : (Jvm.Cond.sameMethod "WornSkin$Link" "WornSkin$Link" "on" "(ILWornSkin$Facts;)I") ∈ lw_all := lw_g (lw_at lw_m5 170 rfl) rfl
theorem q1242 : (Jvm.Cond.selects "WornSkin$And" ({ cls := "WornSkin$Link", name := "on", desc := "(ILWornSkin$Facts;)I" } : Jvm.MethodName) ({ cls := "WornSkin$Link", name := "on", desc := "(ILWornSkin$Facts;)I" } : Jvm.MethodName)) ∈ lw_all := lw_g (lw_at lw_m5 171 rfl) rfl
theorem q1243 : (Jvm.Cond.selects "WornSkin$Less" ({ cls := "WornSkin$Link", name := "on", desc := "(ILWornSkin$Facts;)I" } : Jvm.MethodName) ({ cls := "WornSkin$Link", name := "on", desc := "(ILWornSkin$Facts;)I" } : Jvm.MethodName)) ∈ lw_all := lw_g (lw_at lw_m5 172 rfl) rfl
theorem q1244 : (Jvm.Cond.selects "WornSkin$Minus" ({ cls := "WornSkin$Link", name := "on", desc := "(ILWornSkin$Facts;)I" } : Jvm.MethodName) ({ cls := "WornSkin$Link", name := "on", desc := "(ILWornSkin$Facts;)I" } : Jvm.MethodName)) ∈ lw_all := lw_g (lw_at lw_m5 173 rfl) rfl
theorem q1245 : (Jvm.Cond.selects "WornSkin$Or" ({ cls := "WornSkin$Link", name := "on", desc := "(ILWornSkin$Facts;)I" } : Jvm.MethodName) ({ cls := "WornSkin$Link", name := "on", desc := "(ILWornSkin$Facts;)I" } : Jvm.MethodName)) ∈ lw_all := lw_g (lw_at lw_m5 174 rfl) rfl
theorem q1246 : (Jvm.Cond.selects "WornSkin$Plus" ({ cls := "WornSkin$Link", name := "on", desc := "(ILWornSkin$Facts;)I" } : Jvm.MethodName) ({ cls := "WornSkin$Link", name := "on", desc := "(ILWornSkin$Facts;)I" } : Jvm.MethodName)) ∈ lw_all := lw_g (lw_at lw_m5 175 rfl) rfl
theorem q1247 : (Jvm.Cond.selects "WornSkin$Same" ({ cls := "WornSkin$Link", name := "on", desc := "(ILWornSkin$Facts;)I" } : Jvm.MethodName) ({ cls := "WornSkin$Link", name := "on", desc := "(ILWornSkin$Facts;)I" } : Jvm.MethodName)) ∈ lw_all := lw_g (lw_at lw_m5 176 rfl) rfl
theorem q1248 : (Jvm.Cond.selects "WornSkin$Times" ({ cls := "WornSkin$Link", name := "on", desc := "(ILWornSkin$Facts;)I" } : Jvm.MethodName) ({ cls := "WornSkin$Link", name := "on", desc := "(ILWornSkin$Facts;)I" } : Jvm.MethodName)) ∈ lw_all := lw_g (lw_at lw_m5 177 rfl) rfl
theorem q1249 : (Jvm.Cond.code ({ cls := "WornSkin$Link", name := "on", desc := "(ILWornSkin$Facts;)I" } : Jvm.MethodName) prog_11_method_3_code (3 : Nat) (Option.some Jvm.ClassFile.FieldType.int)) ∈ lw_all := lw_g (lw_at lw_m5 178 rfl) rfl
theorem q1250 : (Jvm.Cond.methodLink "WornSkin$Link" (13 : Nat) ({ cls := "WornSkin$Expression", name := "of", desc := "(LWornSkin$Facts;)I" } : Jvm.MethodName)) ∈ lw_all := lw_g (lw_at lw_m5 179 rfl) rfl
theorem q1251 : (Jvm.Cond.methodLink "WornSkin$Link" (19 : Nat) ({ cls := "WornSkin$Link", name := "with", desc := "(II)I" } : Jvm.MethodName)) ∈ lw_all := lw_g (lw_at lw_m5 180 rfl) rfl
theorem q1252 : (Jvm.Cond.declares ({ cls := "WornSkin$Link", name := "with", desc := "(II)I" } : Jvm.MethodName)) ∈ lw_tbl := lw_at lw_m5 181 rfl
theorem q1253 : (Jvm.Cond.sameMethod "WornSkin$Link" "WornSkin$Link" "with" "(II)I") ∈ lw_all := lw_g (lw_at lw_m5 182 rfl) rfl
theorem q1254 : (Jvm.Cond.selects "WornSkin$And" ({ cls := "WornSkin$Link", name := "with", desc := "(II)I" } : Jvm.MethodName) ({ cls := "WornSkin$And", name := "with", desc := "(II)I" } : Jvm.MethodName)) ∈ lw_all := lw_g (lw_at lw_m5 183 rfl) rfl
theorem q1255 : (Jvm.Cond.instanceMethod ({ cls := "WornSkin$And", name := "with", desc := "(II)I" } : Jvm.MethodName)) ∈ lw_all := lw_g (lw_at lw_m5 184 rfl) rfl
theorem q1256 : (Jvm.Cond.code ({ cls := "WornSkin$And", name := "with", desc := "(II)I" } : Jvm.MethodName) prog_2_method_2_code (3 : Nat) (Option.some Jvm.ClassFile.FieldType.int)) ∈ lw_all := lw_g (lw_at lw_m5 185 rfl) rfl
theorem q1257 : (Jvm.Cond.selects "WornSkin$Less" ({ cls := "WornSkin$Link", name := "with", desc := "(II)I" } : Jvm.MethodName) ({ cls := "WornSkin$Less", name := "with", desc := "(II)I" } : Jvm.MethodName)) ∈ lw_all := lw_g (lw_at lw_m5 186 rfl) rfl
theorem q1258 : (Jvm.Cond.instanceMethod ({ cls := "WornSkin$Less", name := "with", desc := "(II)I" } : Jvm.MethodName)) ∈ lw_all := lw_g (lw_at lw_m5 187 rfl) rfl
theorem q1259 : (Jvm.Cond.code ({ cls := "WornSkin$Less", name := "with", desc := "(II)I" } : Jvm.MethodName) prog_8_method_2_code (3 : Nat) (Option.some Jvm.ClassFile.FieldType.int)) ∈ lw_all := lw_g (lw_at lw_m5 188 rfl) rfl
theorem q1260 : (Jvm.Cond.selects "WornSkin$Minus" ({ cls := "WornSkin$Link", name := "with", desc := "(II)I" } : Jvm.MethodName) ({ cls := "WornSkin$Minus", name := "with", desc := "(II)I" } : Jvm.MethodName)) ∈ lw_all := lw_g (lw_at lw_m5 189 rfl) rfl
theorem q1261 : (Jvm.Cond.instanceMethod ({ cls := "WornSkin$Minus", name := "with", desc := "(II)I" } : Jvm.MethodName)) ∈ lw_all := lw_g (lw_at lw_m5 190 rfl) rfl
theorem q1262 : (Jvm.Cond.code ({ cls := "WornSkin$Minus", name := "with", desc := "(II)I" } : Jvm.MethodName) prog_13_method_2_code (3 : Nat) (Option.some Jvm.ClassFile.FieldType.int)) ∈ lw_all := lw_g (lw_at lw_m5 191 rfl) rfl
theorem q1263 : (Jvm.Cond.selects "WornSkin$Or" ({ cls := "WornSkin$Link", name := "with", desc := "(II)I" } : Jvm.MethodName) ({ cls := "WornSkin$Or", name := "with", desc := "(II)I" } : Jvm.MethodName)) ∈ lw_all := lw_g (lw_at lw_m5 192 rfl) rfl
theorem q1264 : (Jvm.Cond.instanceMethod ({ cls := "WornSkin$Or", name := "with", desc := "(II)I" } : Jvm.MethodName)) ∈ lw_all := lw_g (lw_at lw_m5 193 rfl) rfl
theorem q1265 : (Jvm.Cond.code ({ cls := "WornSkin$Or", name := "with", desc := "(II)I" } : Jvm.MethodName) prog_16_method_2_code (3 : Nat) (Option.some Jvm.ClassFile.FieldType.int)) ∈ lw_all := lw_g (lw_at lw_m5 194 rfl) rfl
theorem q1266 : (Jvm.Cond.selects "WornSkin$Plus" ({ cls := "WornSkin$Link", name := "with", desc := "(II)I" } : Jvm.MethodName) ({ cls := "WornSkin$Plus", name := "with", desc := "(II)I" } : Jvm.MethodName)) ∈ lw_all := lw_g (lw_at lw_m5 195 rfl) rfl
theorem q1267 : (Jvm.Cond.instanceMethod ({ cls := "WornSkin$Plus", name := "with", desc := "(II)I" } : Jvm.MethodName)) ∈ lw_all := lw_g (lw_at lw_m5 196 rfl) rfl
theorem q1268 : (Jvm.Cond.code ({ cls := "WornSkin$Plus", name := "with", desc := "(II)I" } : Jvm.MethodName) prog_18_method_2_code (3 : Nat) (Option.some Jvm.ClassFile.FieldType.int)) ∈ lw_all := lw_g (lw_at lw_m5 197 rfl) rfl
theorem q1269 : (Jvm.Cond.selects "WornSkin$Same" ({ cls := "WornSkin$Link", name := "with", desc := "(II)I" } : Jvm.MethodName) ({ cls := "WornSkin$Same", name := "with", desc := "(II)I" } : Jvm.MethodName)) ∈ lw_all := lw_g (lw_at lw_m5 198 rfl) rfl
theorem q1270 : (Jvm.Cond.instanceMethod ({ cls := "WornSkin$Same", name := "with", desc := "(II)I" } : Jvm.MethodName)) ∈ lw_all := lw_g (lw_at lw_m5 199 rfl) rfl
theorem q1271 : (Jvm.Cond.code ({ cls := "WornSkin$Same", name := "with", desc := "(II)I" } : Jvm.MethodName) prog_22_method_2_code (3 : Nat) (Option.some Jvm.ClassFile.FieldType.int)) ∈ lw_all := lw_g (lw_at lw_m5 200 rfl) rfl
theorem q1272 : (Jvm.Cond.selects "WornSkin$Times" ({ cls := "WornSkin$Link", name := "with", desc := "(II)I" } : Jvm.MethodName) ({ cls := "WornSkin$Times", name := "with", desc := "(II)I" } : Jvm.MethodName)) ∈ lw_all := lw_g (lw_at lw_m5 201 rfl) rfl
theorem q1273 : (Jvm.Cond.instanceMethod ({ cls := "WornSkin$Times", name := "with", desc := "(II)I" } : Jvm.MethodName)) ∈ lw_all := lw_g (lw_at lw_m5 202 rfl) rfl
theorem q1274 : (Jvm.Cond.code ({ cls := "WornSkin$Times", name := "with", desc := "(II)I" } : Jvm.MethodName) prog_27_method_2_code (3 : Nat) (Option.some Jvm.ClassFile.FieldType.int)) ∈ lw_all := lw_g (lw_at lw_m5 203 rfl) rfl
theorem q1275 : (Jvm.Cond.selects "WornSkin$Fact" ({ cls := "WornSkin$Expression", name := "of", desc := "(LWornSkin$Facts;)I" } : Jvm.MethodName) ({ cls := "WornSkin$Fact", name := "of", desc := "(LWornSkin$Facts;)I" } : Jvm.MethodName)) ∈ lw_all := lw_g (lw_at lw_m5 204 rfl) rfl
theorem q1276 : (Jvm.Cond.selects "WornSkin$Not" ({ cls := "WornSkin$Expression", name := "of", desc := "(LWornSkin$Facts;)I" } : Jvm.MethodName) ({ cls := "WornSkin$Not", name := "of", desc := "(LWornSkin$Facts;)I" } : Jvm.MethodName)) ∈ lw_all := lw_g (lw_at lw_m5 205 rfl) rfl
theorem q1277 : (Jvm.Cond.selects "WornSkin$Plain" ({ cls := "WornSkin$Expression", name := "of", desc := "(LWornSkin$Facts;)I" } : Jvm.MethodName) ({ cls := "WornSkin$Plain", name := "of", desc := "(LWornSkin$Facts;)I" } : Jvm.MethodName)) ∈ lw_all := lw_g (lw_at lw_m5 206 rfl) rfl
theorem q1278 : (Jvm.Cond.methodLink "WornSkinLaw" (40 : Nat) ({ cls := "WornSkin", name := "text", desc := "(II)I" } : Jvm.MethodName)) ∈ lw_all := lw_g (lw_at lw_m5 207 rfl) rfl
theorem q1279 : (Jvm.Cond.instanceMethod ({ cls := "WornSkin", name := "text", desc := "(II)I" } : Jvm.MethodName)) ∈ lw_all := lw_g (lw_at lw_m5 208 rfl) rfl
theorem q1280 : (Jvm.Cond.selects "WornSkin" ({ cls := "WornSkin", name := "text", desc := "(II)I" } : Jvm.MethodName) ({ cls := "WornSkin", name := "text", desc := "(II)I" } : Jvm.MethodName)) ∈ lw_all := lw_g (lw_at lw_m5 209 rfl) rfl
theorem q1281 : (Jvm.Cond.code ({ cls := "WornSkin", name := "text", desc := "(II)I" } : Jvm.MethodName) prog_1_method_17_code (4 : Nat) (Option.some Jvm.ClassFile.FieldType.int)) ∈ lw_all := lw_g (lw_at lw_m5 210 rfl) rfl
theorem q1282 : (Jvm.Cond.methodLink "WornSkin" (159 : Nat) ({ cls := "WornSkin", name := "isText", desc := "(I)Z" } : Jvm.MethodName)) ∈ lw_all := lw_g (lw_at lw_m5 211 rfl) rfl
theorem q1284 : (Jvm.Cond.instanceMethod ({ cls := "WornSkin", name := "isText", desc := "(I)Z" } : Jvm.MethodName)) ∈ lw_all := lw_g (lw_at lw_m5 213 rfl) rfl
theorem q1285 : (Jvm.Cond.code ({ cls := "WornSkin", name := "isText", desc := "(I)Z" } : Jvm.MethodName) prog_1_method_13_code (2 : Nat) (Option.some Jvm.ClassFile.FieldType.boolean)) ∈ lw_all := lw_g (lw_at lw_m5 214 rfl) rfl
theorem q1286 : (Jvm.Cond.methodLink "WornSkin" (124 : Nat) ({ cls := "WornSkin", name := "texts", desc := "()I" } : Jvm.MethodName)) ∈ lw_all := lw_g (lw_at lw_m5 215 rfl) rfl
theorem q1288 : (Jvm.Cond.instanceMethod ({ cls := "WornSkin", name := "texts", desc := "()I" } : Jvm.MethodName)) ∈ lw_all := lw_g (lw_at lw_m5 217 rfl) rfl
theorem q1289 : (Jvm.Cond.code ({ cls := "WornSkin", name := "texts", desc := "()I" } : Jvm.MethodName) prog_1_method_11_code (1 : Nat) (Option.some Jvm.ClassFile.FieldType.int)) ∈ lw_all := lw_g (lw_at lw_m5 218 rfl) rfl
theorem q1290 : (Jvm.Cond.methodLink "WornSkin" (162 : Nat) ({ cls := "WornSkin$Shelf", name := "text", desc := "(I)LWornSkin$Text;" } : Jvm.MethodName)) ∈ lw_all := lw_g (lw_at lw_m5 219 rfl) rfl
theorem q1291 : (Jvm.Cond.methodLink "WornSkin" (166 : Nat) ({ cls := "WornSkin$Text", name := "kind", desc := "()I" } : Jvm.MethodName)) ∈ lw_all := lw_g (lw_at lw_m5 220 rfl) rfl
theorem q1292 : (Jvm.Cond.instanceMethod ({ cls := "WornSkin$Text", name := "kind", desc := "()I" } : Jvm.MethodName)) ∈ lw_all := lw_g (lw_at lw_m5 221 rfl) rfl
theorem q1293 : (Jvm.Cond.selects "WornSkin$Text" ({ cls := "WornSkin$Text", name := "kind", desc := "()I" } : Jvm.MethodName) ({ cls := "WornSkin$Text", name := "kind", desc := "()I" } : Jvm.MethodName)) ∈ lw_all := lw_g (lw_at lw_m5 222 rfl) rfl
theorem q1294 : (Jvm.Cond.sameMethod "WornSkin$Text" "WornSkin$Text" "kind" "()I") ∈ lw_all := lw_g (lw_at lw_m5 223 rfl) rfl
theorem q1295 : (Jvm.Cond.selects "WornSkin$Oath" ({ cls := "WornSkin$Text", name := "kind", desc := "()I" } : Jvm.MethodName) ({ cls := "WornSkin$Oath", name := "kind", desc := "()I" } : Jvm.MethodName)) ∈ lw_all := lw_g (lw_at lw_m5 224 rfl) rfl
theorem q1296 : (Jvm.Cond.instanceMethod ({ cls := "WornSkin$Oath", name := "kind", desc := "()I" } : Jvm.MethodName)) ∈ lw_all := lw_g (lw_at lw_m5 225 rfl) rfl
theorem q1297 : (Jvm.Cond.code ({ cls := "WornSkin$Oath", name := "kind", desc := "()I" } : Jvm.MethodName) prog_15_method_2_code (1 : Nat) (Option.some Jvm.ClassFile.FieldType.int)) ∈ lw_all := lw_g (lw_at lw_m5 226 rfl) rfl
theorem q1298 : (Jvm.Cond.selects "WornSkin$Psalm" ({ cls := "WornSkin$Text", name := "kind", desc := "()I" } : Jvm.MethodName) ({ cls := "WornSkin$Psalm", name := "kind", desc := "()I" } : Jvm.MethodName)) ∈ lw_all := lw_g (lw_at lw_m5 227 rfl) rfl
theorem q1299 : (Jvm.Cond.instanceMethod ({ cls := "WornSkin$Psalm", name := "kind", desc := "()I" } : Jvm.MethodName)) ∈ lw_all := lw_g (lw_at lw_m5 228 rfl) rfl
theorem q1300 : (Jvm.Cond.code ({ cls := "WornSkin$Psalm", name := "kind", desc := "()I" } : Jvm.MethodName) prog_19_method_2_code (1 : Nat) (Option.some Jvm.ClassFile.FieldType.int)) ∈ lw_all := lw_g (lw_at lw_m5 229 rfl) rfl
theorem q1301 : (Jvm.Cond.selects "WornSkin$Recipe" ({ cls := "WornSkin$Text", name := "kind", desc := "()I" } : Jvm.MethodName) ({ cls := "WornSkin$Recipe", name := "kind", desc := "()I" } : Jvm.MethodName)) ∈ lw_all := lw_g (lw_at lw_m5 230 rfl) rfl
theorem q1302 : (Jvm.Cond.instanceMethod ({ cls := "WornSkin$Recipe", name := "kind", desc := "()I" } : Jvm.MethodName)) ∈ lw_all := lw_g (lw_at lw_m5 231 rfl) rfl
theorem q1303 : (Jvm.Cond.code ({ cls := "WornSkin$Recipe", name := "kind", desc := "()I" } : Jvm.MethodName) prog_21_method_2_code (1 : Nat) (Option.some Jvm.ClassFile.FieldType.int)) ∈ lw_all := lw_g (lw_at lw_m5 232 rfl) rfl
theorem q1304 : (Jvm.Cond.code ({ cls := "WornSkin$Text", name := "kind", desc := "()I" } : Jvm.MethodName) prog_26_method_2_code (1 : Nat) (Option.some Jvm.ClassFile.FieldType.int)) ∈ lw_all := lw_g (lw_at lw_m5 233 rfl) rfl
theorem q1305 : (Jvm.Cond.methodLink "WornSkin" (174 : Nat) ({ cls := "WornSkin$Shelf", name := "isWhole", desc := "(II)Z" } : Jvm.MethodName)) ∈ lw_all := lw_g (lw_at lw_m5 234 rfl) rfl
theorem q1306 : (Jvm.Cond.instanceMethod ({ cls := "WornSkin$Shelf", name := "isWhole", desc := "(II)Z" } : Jvm.MethodName)) ∈ lw_all := lw_g (lw_at lw_m5 235 rfl) rfl
theorem q1307 : (Jvm.Cond.selects "WornSkin$Shelf" ({ cls := "WornSkin$Shelf", name := "isWhole", desc := "(II)Z" } : Jvm.MethodName) ({ cls := "WornSkin$Shelf", name := "isWhole", desc := "(II)Z" } : Jvm.MethodName)) ∈ lw_all := lw_g (lw_at lw_m5 236 rfl) rfl
theorem q1308 : (Jvm.Cond.code ({ cls := "WornSkin$Shelf", name := "isWhole", desc := "(II)Z" } : Jvm.MethodName) prog_24_method_26_code (6 : Nat) (Option.some Jvm.ClassFile.FieldType.boolean)) ∈ lw_all := lw_g (lw_at lw_m5 237 rfl) rfl
theorem q1309 : (Jvm.Cond.methodLink "WornSkin$Shelf" (141 : Nat) ({ cls := "WornSkin$Shelf", name := "read", desc := "(III)I" } : Jvm.MethodName)) ∈ lw_all := lw_g (lw_at lw_m5 238 rfl) rfl
theorem q1310 : (Jvm.Cond.methodLink "WornSkin" (178 : Nat) ({ cls := "WornSkin", name := "made", desc := "(II)I" } : Jvm.MethodName)) ∈ lw_all := lw_g (lw_at lw_m5 239 rfl) rfl
theorem q1312 : (Jvm.Cond.instanceMethod ({ cls := "WornSkin", name := "made", desc := "(II)I" } : Jvm.MethodName)) ∈ lw_all := lw_g (lw_at lw_m6 1 rfl) rfl
theorem q1313 : (Jvm.Cond.code ({ cls := "WornSkin", name := "made", desc := "(II)I" } : Jvm.MethodName) prog_1_method_18_code (6 : Nat) (Option.some Jvm.ClassFile.FieldType.int)) ∈ lw_all := lw_g (lw_at lw_m6 2 rfl) rfl
theorem q1314 : (Jvm.Cond.methodLink "WornSkinLaw" (44 : Nat) ({ cls := "WornSkin", name := "layers", desc := "(II)I" } : Jvm.MethodName)) ∈ lw_all := lw_g (lw_at lw_m6 3 rfl) rfl
theorem q1315 : (Jvm.Cond.instanceMethod ({ cls := "WornSkin", name := "layers", desc := "(II)I" } : Jvm.MethodName)) ∈ lw_all := lw_g (lw_at lw_m6 4 rfl) rfl
theorem q1316 : (Jvm.Cond.selects "WornSkin" ({ cls := "WornSkin", name := "layers", desc := "(II)I" } : Jvm.MethodName) ({ cls := "WornSkin", name := "layers", desc := "(II)I" } : Jvm.MethodName)) ∈ lw_all := lw_g (lw_at lw_m6 5 rfl) rfl
theorem q1317 : (Jvm.Cond.code ({ cls := "WornSkin", name := "layers", desc := "(II)I" } : Jvm.MethodName) prog_1_method_19_code (3 : Nat) (Option.some Jvm.ClassFile.FieldType.int)) ∈ lw_all := lw_g (lw_at lw_m6 6 rfl) rfl
theorem q1318 : (Jvm.Cond.methodLink "WornSkin" (182 : Nat) ({ cls := "WornSkin", name := "isLine", desc := "(II)Z" } : Jvm.MethodName)) ∈ lw_all := lw_g (lw_at lw_m6 7 rfl) rfl
theorem q1320 : (Jvm.Cond.instanceMethod ({ cls := "WornSkin", name := "isLine", desc := "(II)Z" } : Jvm.MethodName)) ∈ lw_all := lw_g (lw_at lw_m6 9 rfl) rfl
theorem q1321 : (Jvm.Cond.code ({ cls := "WornSkin", name := "isLine", desc := "(II)Z" } : Jvm.MethodName) prog_1_method_14_code (3 : Nat) (Option.some Jvm.ClassFile.FieldType.boolean)) ∈ lw_all := lw_g (lw_at lw_m6 10 rfl) rfl
theorem q1322 : (Jvm.Cond.methodLink "WornSkinLaw" (48 : Nat) ({ cls := "WornSkin", name := "layer", desc := "(III)I" } : Jvm.MethodName)) ∈ lw_all := lw_g (lw_at lw_m6 11 rfl) rfl
theorem q1323 : (Jvm.Cond.instanceMethod ({ cls := "WornSkin", name := "layer", desc := "(III)I" } : Jvm.MethodName)) ∈ lw_all := lw_g (lw_at lw_m6 12 rfl) rfl
theorem q1324 : (Jvm.Cond.selects "WornSkin" ({ cls := "WornSkin", name := "layer", desc := "(III)I" } : Jvm.MethodName) ({ cls := "WornSkin", name := "layer", desc := "(III)I" } : Jvm.MethodName)) ∈ lw_all := lw_g (lw_at lw_m6 13 rfl) rfl
theorem q1325 : (Jvm.Cond.code ({ cls := "WornSkin", name := "layer", desc := "(III)I" } : Jvm.MethodName) prog_1_method_20_code (4 : Nat) (Option.some Jvm.ClassFile.FieldType.int)) ∈ lw_all := lw_g (lw_at lw_m6 14 rfl) rfl
theorem q1326 : (Jvm.Cond.methodLink "WornSkin" (188 : Nat) ({ cls := "WornSkin", name := "layers", desc := "(II)I" } : Jvm.MethodName)) ∈ lw_all := lw_g (lw_at lw_m6 15 rfl) rfl
theorem q1327 : (Jvm.Cond.methodLink "WornSkin" (191 : Nat) ({ cls := "WornSkin$Shelf", name := "layer", desc := "(II)I" } : Jvm.MethodName)) ∈ lw_all := lw_g (lw_at lw_m6 16 rfl) rfl
theorem q1328 : (Jvm.Cond.methodLink "WornSkinLaw" (53 : Nat) ({ cls := "WornSkin", name := "read", desc := "(II)I" } : Jvm.MethodName)) ∈ lw_all := lw_g (lw_at lw_m6 17 rfl) rfl
theorem q1329 : (Jvm.Cond.instanceMethod ({ cls := "WornSkin", name := "read", desc := "(II)I" } : Jvm.MethodName)) ∈ lw_all := lw_g (lw_at lw_m6 18 rfl) rfl
theorem q1330 : (Jvm.Cond.selects "WornSkin" ({ cls := "WornSkin", name := "read", desc := "(II)I" } : Jvm.MethodName) ({ cls := "WornSkin", name := "read", desc := "(II)I" } : Jvm.MethodName)) ∈ lw_all := lw_g (lw_at lw_m6 19 rfl) rfl
theorem q1331 : (Jvm.Cond.code ({ cls := "WornSkin", name := "read", desc := "(II)I" } : Jvm.MethodName) prog_1_method_21_code (3 : Nat) (Option.some Jvm.ClassFile.FieldType.int)) ∈ lw_all := lw_g (lw_at lw_m6 20 rfl) rfl
theorem q1332 : (Jvm.Cond.methodLink "WornSkinLaw" (57 : Nat) ({ cls := "WornSkin", name := "write", desc := "(III)Z" } : Jvm.MethodName)) ∈ lw_all := lw_g (lw_at lw_m6 21 rfl) rfl
theorem q1333 : (Jvm.Cond.instanceMethod ({ cls := "WornSkin", name := "write", desc := "(III)Z" } : Jvm.MethodName)) ∈ lw_all := lw_g (lw_at lw_m6 22 rfl) rfl
theorem q1334 : (Jvm.Cond.selects "WornSkin" ({ cls := "WornSkin", name := "write", desc := "(III)Z" } : Jvm.MethodName) ({ cls := "WornSkin", name := "write", desc := "(III)Z" } : Jvm.MethodName)) ∈ lw_all := lw_g (lw_at lw_m6 23 rfl) rfl
theorem q1335 : (Jvm.Cond.code ({ cls := "WornSkin", name := "write", desc := "(III)Z" } : Jvm.MethodName) prog_1_method_23_code (4 : Nat) (Option.some Jvm.ClassFile.FieldType.boolean)) ∈ lw_all := lw_g (lw_at lw_m6 24 rfl) rfl
theorem q1336 : (Jvm.Cond.methodLink "WornSkin" (206 : Nat) ({ cls := "WornSkin$Shelf", name := "mayWrite", desc := "(III)Z" } : Jvm.MethodName)) ∈ lw_all := lw_g (lw_at lw_m6 25 rfl) rfl
theorem q1337 : (Jvm.Cond.instanceMethod ({ cls := "WornSkin$Shelf", name := "mayWrite", desc := "(III)Z" } : Jvm.MethodName)) ∈ lw_all := lw_g (lw_at lw_m6 26 rfl) rfl
theorem q1338 : (Jvm.Cond.selects "WornSkin$Shelf" ({ cls := "WornSkin$Shelf", name := "mayWrite", desc := "(III)Z" } : Jvm.MethodName) ({ cls := "WornSkin$Shelf", name := "mayWrite", desc := "(III)Z" } : Jvm.MethodName)) ∈ lw_all := lw_g (lw_at lw_m6 27 rfl) rfl
theorem q1339 : (Jvm.Cond.code ({ cls := "WornSkin$Shelf", name := "mayWrite", desc := "(III)Z" } : Jvm.MethodName) prog_24_method_18_code (5 : Nat) (Option.some Jvm.ClassFile.FieldType.boolean)) ∈ lw_all := lw_g (lw_at lw_m6 28 rfl) rfl
theorem q1340 : (Jvm.Cond.methodLink "WornSkin$Shelf" (100 : Nat) ({ cls := "WornSkin$Shelf", name := "isGone", desc := "(I)Z" } : Jvm.MethodName)) ∈ lw_all := lw_g (lw_at lw_m6 29 rfl) rfl
theorem q1341 : (Jvm.Cond.instanceMethod ({ cls := "WornSkin$Shelf", name := "isGone", desc := "(I)Z" } : Jvm.MethodName)) ∈ lw_all := lw_g (lw_at lw_m6 30 rfl) rfl
theorem q1342 : (Jvm.Cond.selects "WornSkin$Shelf" ({ cls := "WornSkin$Shelf", name := "isGone", desc := "(I)Z" } : Jvm.MethodName) ({ cls := "WornSkin$Shelf", name := "isGone", desc := "(I)Z" } : Jvm.MethodName)) ∈ lw_all := lw_g (lw_at lw_m6 31 rfl) rfl
theorem q1343 : (Jvm.Cond.code ({ cls := "WornSkin$Shelf", name := "isGone", desc := "(I)Z" } : Jvm.MethodName) prog_24_method_10_code (2 : Nat) (Option.some Jvm.ClassFile.FieldType.boolean)) ∈ lw_all := lw_g (lw_at lw_m6 32 rfl) rfl
theorem q1344 : (Jvm.Cond.methodLink "WornSkin$Shelf" (108 : Nat) ({ cls := "WornSkin$Shelf", name := "isFree", desc := "(II)Z" } : Jvm.MethodName)) ∈ lw_all := lw_g (lw_at lw_m6 33 rfl) rfl
theorem q1345 : (Jvm.Cond.instanceMethod ({ cls := "WornSkin$Shelf", name := "isFree", desc := "(II)Z" } : Jvm.MethodName)) ∈ lw_all := lw_g (lw_at lw_m6 34 rfl) rfl
theorem q1346 : (Jvm.Cond.selects "WornSkin$Shelf" ({ cls := "WornSkin$Shelf", name := "isFree", desc := "(II)Z" } : Jvm.MethodName) ({ cls := "WornSkin$Shelf", name := "isFree", desc := "(II)Z" } : Jvm.MethodName)) ∈ lw_all := lw_g (lw_at lw_m6 35 rfl) rfl
theorem q1347 : (Jvm.Cond.code ({ cls := "WornSkin$Shelf", name := "isFree", desc := "(II)Z" } : Jvm.MethodName) prog_24_method_17_code (4 : Nat) (Option.some Jvm.ClassFile.FieldType.boolean)) ∈ lw_all := lw_g (lw_at lw_m6 36 rfl) rfl
theorem q1348 : (Jvm.Cond.methodLink "WornSkin" (209 : Nat) ({ cls := "WornSkin", name := "keep", desc := "()V" } : Jvm.MethodName)) ∈ lw_all := lw_g (lw_at lw_m6 37 rfl) rfl
theorem q1350 : (Jvm.Cond.instanceMethod ({ cls := "WornSkin", name := "keep", desc := "()V" } : Jvm.MethodName)) ∈ lw_all := lw_g (lw_at lw_m6 39 rfl) rfl
theorem q1351 : (Jvm.Cond.code ({ cls := "WornSkin", name := "keep", desc := "()V" } : Jvm.MethodName) prog_1_method_22_code (1 : Nat) (Option.none : Option Jvm.ClassFile.FieldType)) ∈ lw_all := lw_g (lw_at lw_m6 40 rfl) rfl
theorem q1352 : (Jvm.Cond.methodLink "WornSkin" (194 : Nat) ({ cls := "java/util/ArrayList", name := "remove", desc := "(I)Ljava/lang/Object;" } : Jvm.MethodName)) ∈ lw_all := lw_g (lw_at lw_m6 41 rfl) rfl
theorem q1353 : (Jvm.Cond.instanceMethod ({ cls := "java/util/ArrayList", name := "remove", desc := "(I)Ljava/lang/Object;" } : Jvm.MethodName)) ∈ lw_all := lw_g (lw_at lw_m6 42 rfl) rfl
theorem q1354 : (Jvm.Cond.selects "java/util/ArrayList" ({ cls := "java/util/ArrayList", name := "remove", desc := "(I)Ljava/lang/Object;" } : Jvm.MethodName) ({ cls := "java/util/ArrayList", name := "remove", desc := "(I)Ljava/lang/Object;" } : Jvm.MethodName)) ∈ lw_all := lw_g (lw_at lw_m6 43 rfl) rfl
theorem q1355 : (Jvm.Cond.code ({ cls := "java/util/ArrayList", name := "remove", desc := "(I)Ljava/lang/Object;" } : Jvm.MethodName) prog_56_method_29_code (4 : Nat) (Option.some (Jvm.ClassFile.FieldType.object "java/lang/Object"))) ∈ lw_all := lw_g (lw_at lw_m6 44 rfl) rfl
theorem q1356 : (Jvm.Cond.methodLink "java/util/ArrayList" (144 : Nat) ({ cls := "java/util/ArrayList", name := "fastRemove", desc := "([Ljava/lang/Object;I)V" } : Jvm.MethodName)) ∈ lw_all := lw_g (lw_at lw_m6 45 rfl) rfl
theorem q1358 : (Jvm.Cond.instanceMethod ({ cls := "java/util/ArrayList", name := "fastRemove", desc := "([Ljava/lang/Object;I)V" } : Jvm.MethodName)) ∈ lw_all := lw_g (lw_at lw_m6 47 rfl) rfl
theorem q1359 : (Jvm.Cond.code ({ cls := "java/util/ArrayList", name := "fastRemove", desc := "([Ljava/lang/Object;I)V" } : Jvm.MethodName) prog_56_method_39_code (4 : Nat) (Option.none : Option Jvm.ClassFile.FieldType)) ∈ lw_all := lw_g (lw_at lw_m6 48 rfl) rfl
theorem q1360 : (Jvm.Cond.methodLink "java/util/ArrayList" (112 : Nat) ({ cls := "java/lang/System", name := "arraycopy", desc := "(Ljava/lang/Object;ILjava/lang/Object;II)V" } : Jvm.MethodName)) ∈ lw_all := lw_g (lw_at lw_m6 49 rfl) rfl
theorem q1361 : (Jvm.Cond.methodLink "WornSkin" (198 : Nat) ({ cls := "WornSkin$Shelf", name := "copied", desc := "()LWornSkin$Shelf;" } : Jvm.MethodName)) ∈ lw_all := lw_g (lw_at lw_m6 50 rfl) rfl
theorem q1362 : (Jvm.Cond.instanceMethod ({ cls := "WornSkin$Shelf", name := "copied", desc := "()LWornSkin$Shelf;" } : Jvm.MethodName)) ∈ lw_all := lw_g (lw_at lw_m6 51 rfl) rfl
theorem q1363 : (Jvm.Cond.selects "WornSkin$Shelf" ({ cls := "WornSkin$Shelf", name := "copied", desc := "()LWornSkin$Shelf;" } : Jvm.MethodName) ({ cls := "WornSkin$Shelf", name := "copied", desc := "()LWornSkin$Shelf;" } : Jvm.MethodName)) ∈ lw_all := lw_g (lw_at lw_m6 52 rfl) rfl
theorem q1364 : (Jvm.Cond.code ({ cls := "WornSkin$Shelf", name := "copied", desc := "()LWornSkin$Shelf;" } : Jvm.MethodName) prog_24_method_3_code (1 : Nat) (Option.some (Jvm.ClassFile.FieldType.object "WornSkin$Shelf"))) ∈ lw_all := lw_g (lw_at lw_m6 53 rfl) rfl
theorem q1365 : (Jvm.Cond.classLink "WornSkin$Shelf" (10 : Nat) "WornSkin$Shelf") ∈ lw_all := lw_g (lw_at lw_m6 54 rfl) rfl
theorem q1366 : (Jvm.Cond.methodLink "WornSkin$Shelf" (48 : Nat) ({ cls := "WornSkin$Shelf", name := "<init>", desc := "()V" } : Jvm.MethodName)) ∈ lw_all := lw_g (lw_at lw_m6 55 rfl) rfl
theorem q1367 : (Jvm.Cond.methodLink "WornSkin$Shelf" (49 : Nat) ({ cls := "WornSkin$Shelf", name := "copies", desc := "(LWornSkin$Shelf;)LWornSkin$Shelf;" } : Jvm.MethodName)) ∈ lw_all := lw_g (lw_at lw_m6 56 rfl) rfl
theorem q1368 : (Jvm.Cond.instanceMethod ({ cls := "WornSkin$Shelf", name := "copies", desc := "(LWornSkin$Shelf;)LWornSkin$Shelf;" } : Jvm.MethodName)) ∈ lw_all := lw_g (lw_at lw_m6 57 rfl) rfl
theorem q1369 : (Jvm.Cond.selects "WornSkin$Shelf" ({ cls := "WornSkin$Shelf", name := "copies", desc := "(LWornSkin$Shelf;)LWornSkin$Shelf;" } : Jvm.MethodName) ({ cls := "WornSkin$Shelf", name := "copies", desc := "(LWornSkin$Shelf;)LWornSkin$Shelf;" } : Jvm.MethodName)) ∈ lw_all := lw_g (lw_at lw_m6 58 rfl) rfl
theorem q1370 : (Jvm.Cond.code ({ cls := "WornSkin$Shelf", name := "copies", desc := "(LWornSkin$Shelf;)LWornSkin$Shelf;" } : Jvm.MethodName) prog_24_method_4_code (2 : Nat) (Option.some (Jvm.ClassFile.FieldType.object "WornSkin$Shelf"))) ∈ lw_all := lw_g (lw_at lw_m6 59 rfl) rfl
theorem q1371 : (Jvm.Cond.methodLink "WornSkin$Shelf" (53 : Nat) ({ cls := "java/lang/System", name := "arraycopy", desc := "(Ljava/lang/Object;ILjava/lang/Object;II)V" } : Jvm.MethodName)) ∈ lw_all := lw_g (lw_at lw_m6 60 rfl) rfl
theorem q1372 : (Jvm.Cond.methodLink "WornSkin" (202 : Nat) ({ cls := "java/util/ArrayList", name := "add", desc := "(Ljava/lang/Object;)Z" } : Jvm.MethodName)) ∈ lw_all := lw_g (lw_at lw_m6 61 rfl) rfl
theorem q1373 : (Jvm.Cond.methodLink "WornSkin" (212 : Nat) ({ cls := "WornSkin$Shelf", name := "writes", desc := "(III)V" } : Jvm.MethodName)) ∈ lw_all := lw_g (lw_at lw_m6 62 rfl) rfl
theorem q1374 : (Jvm.Cond.instanceMethod ({ cls := "WornSkin$Shelf", name := "writes", desc := "(III)V" } : Jvm.MethodName)) ∈ lw_all := lw_g (lw_at lw_m6 63 rfl) rfl
theorem q1375 : (Jvm.Cond.selects "WornSkin$Shelf" ({ cls := "WornSkin$Shelf", name := "writes", desc := "(III)V" } : Jvm.MethodName) ({ cls := "WornSkin$Shelf", name := "writes", desc := "(III)V" } : Jvm.MethodName)) ∈ lw_all := lw_g (lw_at lw_m6 64 rfl) rfl
theorem q1376 : (Jvm.Cond.code ({ cls := "WornSkin$Shelf", name := "writes", desc := "(III)V" } : Jvm.MethodName) prog_24_method_19_code (5 : Nat) (Option.none : Option Jvm.ClassFile.FieldType)) ∈ lw_all := lw_g (lw_at lw_m6 65 rfl) rfl
theorem q1377 : (Jvm.Cond.methodLink "WornSkinLaw" (62 : Nat) ({ cls := "WornSkin", name := "scrape", desc := "(I)I" } : Jvm.MethodName)) ∈ lw_all := lw_g (lw_at lw_m6 66 rfl) rfl
theorem q1378 : (Jvm.Cond.instanceMethod ({ cls := "WornSkin", name := "scrape", desc := "(I)I" } : Jvm.MethodName)) ∈ lw_all := lw_g (lw_at lw_m6 67 rfl) rfl
theorem q1379 : (Jvm.Cond.selects "WornSkin" ({ cls := "WornSkin", name := "scrape", desc := "(I)I" } : Jvm.MethodName) ({ cls := "WornSkin", name := "scrape", desc := "(I)I" } : Jvm.MethodName)) ∈ lw_all := lw_g (lw_at lw_m6 68 rfl) rfl
theorem q1380 : (Jvm.Cond.code ({ cls := "WornSkin", name := "scrape", desc := "(I)I" } : Jvm.MethodName) prog_1_method_25_code (2 : Nat) (Option.some Jvm.ClassFile.FieldType.int)) ∈ lw_all := lw_g (lw_at lw_m6 69 rfl) rfl
theorem q1381 : (Jvm.Cond.methodLink "WornSkin" (224 : Nat) ({ cls := "WornSkin", name := "scrapes", desc := "(IZ)I" } : Jvm.MethodName)) ∈ lw_all := lw_g (lw_at lw_m6 70 rfl) rfl
theorem q1383 : (Jvm.Cond.instanceMethod ({ cls := "WornSkin", name := "scrapes", desc := "(IZ)I" } : Jvm.MethodName)) ∈ lw_all := lw_g (lw_at lw_m6 72 rfl) rfl
theorem q1384 : (Jvm.Cond.code ({ cls := "WornSkin", name := "scrapes", desc := "(IZ)I" } : Jvm.MethodName) prog_1_method_24_code (3 : Nat) (Option.some Jvm.ClassFile.FieldType.int)) ∈ lw_all := lw_g (lw_at lw_m6 73 rfl) rfl
theorem q1385 : (Jvm.Cond.methodLink "WornSkin" (216 : Nat) ({ cls := "WornSkin$Shelf", name := "mayScrape", desc := "(IZ)Z" } : Jvm.MethodName)) ∈ lw_all := lw_g (lw_at lw_m6 74 rfl) rfl
theorem q1386 : (Jvm.Cond.instanceMethod ({ cls := "WornSkin$Shelf", name := "mayScrape", desc := "(IZ)Z" } : Jvm.MethodName)) ∈ lw_all := lw_g (lw_at lw_m6 75 rfl) rfl
theorem q1387 : (Jvm.Cond.selects "WornSkin$Shelf" ({ cls := "WornSkin$Shelf", name := "mayScrape", desc := "(IZ)Z" } : Jvm.MethodName) ({ cls := "WornSkin$Shelf", name := "mayScrape", desc := "(IZ)Z" } : Jvm.MethodName)) ∈ lw_all := lw_g (lw_at lw_m6 76 rfl) rfl
theorem q1388 : (Jvm.Cond.code ({ cls := "WornSkin$Shelf", name := "mayScrape", desc := "(IZ)Z" } : Jvm.MethodName) prog_24_method_23_code (3 : Nat) (Option.some Jvm.ClassFile.FieldType.boolean)) ∈ lw_all := lw_g (lw_at lw_m6 77 rfl) rfl
theorem q1389 : (Jvm.Cond.methodLink "WornSkin$Shelf" (117 : Nat) ({ cls := "WornSkin$Shelf", name := "about", desc := "(IZ)I" } : Jvm.MethodName)) ∈ lw_all := lw_g (lw_at lw_m6 78 rfl) rfl
theorem q1391 : (Jvm.Cond.instanceMethod ({ cls := "WornSkin$Shelf", name := "about", desc := "(IZ)I" } : Jvm.MethodName)) ∈ lw_all := lw_g (lw_at lw_m6 80 rfl) rfl
theorem q1392 : (Jvm.Cond.code ({ cls := "WornSkin$Shelf", name := "about", desc := "(IZ)I" } : Jvm.MethodName) prog_24_method_22_code (3 : Nat) (Option.some Jvm.ClassFile.FieldType.int)) ∈ lw_all := lw_g (lw_at lw_m6 81 rfl) rfl
theorem q1393 : (Jvm.Cond.methodLink "WornSkin$Shelf" (115 : Nat) ({ cls := "WornSkin$Shelf", name := "open", desc := "(I)I" } : Jvm.MethodName)) ∈ lw_all := lw_g (lw_at lw_m6 82 rfl) rfl
theorem q1394 : (Jvm.Cond.methodLink "WornSkin" (220 : Nat) ({ cls := "WornSkin$Shelf", name := "scrapes", desc := "(IZ)V" } : Jvm.MethodName)) ∈ lw_all := lw_g (lw_at lw_m6 83 rfl) rfl
theorem q1395 : (Jvm.Cond.instanceMethod ({ cls := "WornSkin$Shelf", name := "scrapes", desc := "(IZ)V" } : Jvm.MethodName)) ∈ lw_all := lw_g (lw_at lw_m6 84 rfl) rfl
theorem q1396 : (Jvm.Cond.selects "WornSkin$Shelf" ({ cls := "WornSkin$Shelf", name := "scrapes", desc := "(IZ)V" } : Jvm.MethodName) ({ cls := "WornSkin$Shelf", name := "scrapes", desc := "(IZ)V" } : Jvm.MethodName)) ∈ lw_all := lw_g (lw_at lw_m6 85 rfl) rfl
theorem q1397 : (Jvm.Cond.code ({ cls := "WornSkin$Shelf", name := "scrapes", desc := "(IZ)V" } : Jvm.MethodName) prog_24_method_24_code (8 : Nat) (Option.none : Option Jvm.ClassFile.FieldType)) ∈ lw_all := lw_g (lw_at lw_m6 86 rfl) rfl
theorem q1398 : (Jvm.Cond.methodLink "WornSkin$Shelf" (128 : Nat) ({ cls := "WornSkin$Text", name := "isOath", desc := "()Z" } : Jvm.MethodName)) ∈ lw_all := lw_g (lw_at lw_m6 87 rfl) rfl
theorem q1399 : (Jvm.Cond.instanceMethod ({ cls := "WornSkin$Text", name := "isOath", desc := "()Z" } : Jvm.MethodName)) ∈ lw_all := lw_g (lw_at lw_m6 88 rfl) rfl
theorem q1400 : (Jvm.Cond.selects "WornSkin$Text" ({ cls := "WornSkin$Text", name := "isOath", desc := "()Z" } : Jvm.MethodName) ({ cls := "WornSkin$Text", name := "isOath", desc := "()Z" } : Jvm.MethodName)) ∈ lw_all := lw_g (lw_at lw_m6 89 rfl) rfl
theorem q1401 : (Jvm.Cond.sameMethod "WornSkin$Text" "WornSkin$Text" "isOath" "()Z") ∈ lw_all := lw_g (lw_at lw_m6 90 rfl) rfl
theorem q1402 : (Jvm.Cond.selects "WornSkin$Oath" ({ cls := "WornSkin$Text", name := "isOath", desc := "()Z" } : Jvm.MethodName) ({ cls := "WornSkin$Oath", name := "isOath", desc := "()Z" } : Jvm.MethodName)) ∈ lw_all := lw_g (lw_at lw_m6 91 rfl) rfl
theorem q1403 : (Jvm.Cond.instanceMethod ({ cls := "WornSkin$Oath", name := "isOath", desc := "()Z" } : Jvm.MethodName)) ∈ lw_all := lw_g (lw_at lw_m6 92 rfl) rfl
theorem q1404 : (Jvm.Cond.code ({ cls := "WornSkin$Oath", name := "isOath", desc := "()Z" } : Jvm.MethodName) prog_15_method_3_code (1 : Nat) (Option.some Jvm.ClassFile.FieldType.boolean)) ∈ lw_all := lw_g (lw_at lw_m6 93 rfl) rfl
theorem q1405 : (Jvm.Cond.selects "WornSkin$Psalm" ({ cls := "WornSkin$Text", name := "isOath", desc := "()Z" } : Jvm.MethodName) ({ cls := "WornSkin$Text", name := "isOath", desc := "()Z" } : Jvm.MethodName)) ∈ lw_all := lw_g (lw_at lw_m6 94 rfl) rfl
theorem q1406 : (Jvm.Cond.selects "WornSkin$Recipe" ({ cls := "WornSkin$Text", name := "isOath", desc := "()Z" } : Jvm.MethodName) ({ cls := "WornSkin$Text", name := "isOath", desc := "()Z" } : Jvm.MethodName)) ∈ lw_all := lw_g (lw_at lw_m6 95 rfl) rfl
theorem q1407 : (Jvm.Cond.code ({ cls := "WornSkin$Text", name := "isOath", desc := "()Z" } : Jvm.MethodName) prog_26_method_5_code (1 : Nat) (Option.some Jvm.ClassFile.FieldType.boolean)) ∈ lw_all := lw_g (lw_at lw_m6 96 rfl) rfl
theorem q1408 : (Jvm.Cond.methodLink "WornSkin$Shelf" (132 : Nat) ({ cls := "java/lang/Math", name := "max", desc := "(II)I" } : Jvm.MethodName)) ∈ lw_all := lw_g (lw_at lw_m6 97 rfl) rfl
theorem q1409 : (Jvm.Cond.methodLink "WornSkinLaw" (67 : Nat) ({ cls := "WornSkin", name := "third", desc := "(I)I" } : Jvm.MethodName)) ∈ lw_all := lw_g (lw_at lw_m6 98 rfl) rfl
theorem q1410 : (Jvm.Cond.instanceMethod ({ cls := "WornSkin", name := "third", desc := "(I)I" } : Jvm.MethodName)) ∈ lw_all := lw_g (lw_at lw_m6 99 rfl) rfl
theorem q1411 : (Jvm.Cond.selects "WornSkin" ({ cls := "WornSkin", name := "third", desc := "(I)I" } : Jvm.MethodName) ({ cls := "WornSkin", name := "third", desc := "(I)I" } : Jvm.MethodName)) ∈ lw_all := lw_g (lw_at lw_m6 100 rfl) rfl
theorem q1412 : (Jvm.Cond.code ({ cls := "WornSkin", name := "third", desc := "(I)I" } : Jvm.MethodName) prog_1_method_26_code (2 : Nat) (Option.some Jvm.ClassFile.FieldType.int)) ∈ lw_all := lw_g (lw_at lw_m6 101 rfl) rfl
theorem q1413 : (Jvm.Cond.methodLink "WornSkinLaw" (71 : Nat) ({ cls := "WornSkin", name := "week", desc := "()I" } : Jvm.MethodName)) ∈ lw_all := lw_g (lw_at lw_m6 102 rfl) rfl
theorem q1414 : (Jvm.Cond.instanceMethod ({ cls := "WornSkin", name := "week", desc := "()I" } : Jvm.MethodName)) ∈ lw_all := lw_g (lw_at lw_m6 103 rfl) rfl
theorem q1415 : (Jvm.Cond.selects "WornSkin" ({ cls := "WornSkin", name := "week", desc := "()I" } : Jvm.MethodName) ({ cls := "WornSkin", name := "week", desc := "()I" } : Jvm.MethodName)) ∈ lw_all := lw_g (lw_at lw_m6 104 rfl) rfl
theorem q1416 : (Jvm.Cond.code ({ cls := "WornSkin", name := "week", desc := "()I" } : Jvm.MethodName) prog_1_method_27_code (1 : Nat) (Option.some Jvm.ClassFile.FieldType.int)) ∈ lw_all := lw_g (lw_at lw_m6 105 rfl) rfl
theorem q1417 : (Jvm.Cond.methodLink "WornSkinLaw" (75 : Nat) ({ cls := "WornSkin", name := "undo", desc := "()Z" } : Jvm.MethodName)) ∈ lw_all := lw_g (lw_at lw_m6 106 rfl) rfl
theorem q1418 : (Jvm.Cond.instanceMethod ({ cls := "WornSkin", name := "undo", desc := "()Z" } : Jvm.MethodName)) ∈ lw_all := lw_g (lw_at lw_m6 107 rfl) rfl
theorem q1419 : (Jvm.Cond.selects "WornSkin" ({ cls := "WornSkin", name := "undo", desc := "()Z" } : Jvm.MethodName) ({ cls := "WornSkin", name := "undo", desc := "()Z" } : Jvm.MethodName)) ∈ lw_all := lw_g (lw_at lw_m6 108 rfl) rfl
theorem q1420 : (Jvm.Cond.code ({ cls := "WornSkin", name := "undo", desc := "()Z" } : Jvm.MethodName) prog_1_method_28_code (1 : Nat) (Option.some Jvm.ClassFile.FieldType.boolean)) ∈ lw_all := lw_g (lw_at lw_m6 109 rfl) rfl
theorem q1421 : (Jvm.Cond.methodLink "WornSkin" (230 : Nat) ({ cls := "java/util/ArrayList", name := "isEmpty", desc := "()Z" } : Jvm.MethodName)) ∈ lw_all := lw_g (lw_at lw_m6 110 rfl) rfl
theorem q1422 : (Jvm.Cond.instanceMethod ({ cls := "java/util/ArrayList", name := "isEmpty", desc := "()Z" } : Jvm.MethodName)) ∈ lw_all := lw_g (lw_at lw_m6 111 rfl) rfl
theorem q1423 : (Jvm.Cond.selects "java/util/ArrayList" ({ cls := "java/util/ArrayList", name := "isEmpty", desc := "()Z" } : Jvm.MethodName) ({ cls := "java/util/ArrayList", name := "isEmpty", desc := "()Z" } : Jvm.MethodName)) ∈ lw_all := lw_g (lw_at lw_m6 112 rfl) rfl
theorem q1424 : (Jvm.Cond.code ({ cls := "java/util/ArrayList", name := "isEmpty", desc := "()Z" } : Jvm.MethodName) prog_56_method_9_code (1 : Nat) (Option.some Jvm.ClassFile.FieldType.boolean)) ∈ lw_all := lw_g (lw_at lw_m6 113 rfl) rfl
theorem q1425 : (Jvm.Cond.methodLink "WornSkinLaw" (80 : Nat) ({ cls := "WornSkin", name := "judged", desc := "(I)I" } : Jvm.MethodName)) ∈ lw_all := lw_g (lw_at lw_m6 114 rfl) rfl
theorem q1426 : (Jvm.Cond.instanceMethod ({ cls := "WornSkin", name := "judged", desc := "(I)I" } : Jvm.MethodName)) ∈ lw_all := lw_g (lw_at lw_m6 115 rfl) rfl
theorem q1427 : (Jvm.Cond.selects "WornSkin" ({ cls := "WornSkin", name := "judged", desc := "(I)I" } : Jvm.MethodName) ({ cls := "WornSkin", name := "judged", desc := "(I)I" } : Jvm.MethodName)) ∈ lw_all := lw_g (lw_at lw_m6 116 rfl) rfl
theorem q1428 : (Jvm.Cond.code ({ cls := "WornSkin", name := "judged", desc := "(I)I" } : Jvm.MethodName) prog_1_method_29_code (5 : Nat) (Option.some Jvm.ClassFile.FieldType.int)) ∈ lw_all := lw_g (lw_at lw_m6 117 rfl) rfl
theorem q1429 : (Jvm.Cond.methodLink "WornSkin" (234 : Nat) ({ cls := "java/util/ArrayList", name := "get", desc := "(I)Ljava/lang/Object;" } : Jvm.MethodName)) ∈ lw_all := lw_g (lw_at lw_m6 118 rfl) rfl
theorem q1430 : (Jvm.Cond.classLink "WornSkin" (237 : Nat) "WornSkin$Line") ∈ lw_all := lw_g (lw_at lw_m6 119 rfl) rfl
theorem q1431 : (Jvm.Cond.methodLink "WornSkin" (239 : Nat) ({ cls := "WornSkin$Line", name := "isDone", desc := "(LWornSkin$Shelf;)Z" } : Jvm.MethodName)) ∈ lw_all := lw_g (lw_at lw_m6 120 rfl) rfl
theorem q1432 : (Jvm.Cond.declares ({ cls := "WornSkin$Line", name := "isDone", desc := "(LWornSkin$Shelf;)Z" } : Jvm.MethodName)) ∈ lw_tbl := lw_at lw_m6 121 rfl
theorem q1433 : (Jvm.Cond.sameMethod "WornSkin$Line" "WornSkin$Line" "isDone" "(LWornSkin$Shelf;)Z") ∈ lw_all := lw_g (lw_at lw_m6 122 rfl) rfl
theorem q1434 : (Jvm.Cond.selects "WornSkin$Scrapes" ({ cls := "WornSkin$Line", name := "isDone", desc := "(LWornSkin$Shelf;)Z" } : Jvm.MethodName) ({ cls := "WornSkin$Scrapes", name := "isDone", desc := "(LWornSkin$Shelf;)Z" } : Jvm.MethodName)) ∈ lw_all := lw_g (lw_at lw_m6 123 rfl) rfl
theorem q1435 : (Jvm.Cond.instanceMethod ({ cls := "WornSkin$Scrapes", name := "isDone", desc := "(LWornSkin$Shelf;)Z" } : Jvm.MethodName)) ∈ lw_all := lw_g (lw_at lw_m6 124 rfl) rfl
theorem q1436 : (Jvm.Cond.code ({ cls := "WornSkin$Scrapes", name := "isDone", desc := "(LWornSkin$Shelf;)Z" } : Jvm.MethodName) prog_23_method_2_code (2 : Nat) (Option.some Jvm.ClassFile.FieldType.boolean)) ∈ lw_all := lw_g (lw_at lw_m6 125 rfl) rfl
theorem q1437 : (Jvm.Cond.methodLink "WornSkin$Scrapes" (17 : Nat) ({ cls := "WornSkin$Shelf", name := "mayScrape", desc := "(IZ)Z" } : Jvm.MethodName)) ∈ lw_all := lw_g (lw_at lw_m6 126 rfl) rfl
theorem q1438 : (Jvm.Cond.methodLink "WornSkin$Scrapes" (23 : Nat) ({ cls := "WornSkin$Shelf", name := "scrapes", desc := "(IZ)V" } : Jvm.MethodName)) ∈ lw_all := lw_g (lw_at lw_m6 127 rfl) rfl
theorem q1439 : (Jvm.Cond.selects "WornSkin$Weeks" ({ cls := "WornSkin$Line", name := "isDone", desc := "(LWornSkin$Shelf;)Z" } : Jvm.MethodName) ({ cls := "WornSkin$Weeks", name := "isDone", desc := "(LWornSkin$Shelf;)Z" } : Jvm.MethodName)) ∈ lw_all := lw_g (lw_at lw_m6 128 rfl) rfl
theorem q1440 : (Jvm.Cond.instanceMethod ({ cls := "WornSkin$Weeks", name := "isDone", desc := "(LWornSkin$Shelf;)Z" } : Jvm.MethodName)) ∈ lw_all := lw_g (lw_at lw_m6 129 rfl) rfl
theorem q1441 : (Jvm.Cond.code ({ cls := "WornSkin$Weeks", name := "isDone", desc := "(LWornSkin$Shelf;)Z" } : Jvm.MethodName) prog_28_method_2_code (2 : Nat) (Option.some Jvm.ClassFile.FieldType.boolean)) ∈ lw_all := lw_g (lw_at lw_m6 130 rfl) rfl
theorem q1442 : (Jvm.Cond.selects "WornSkin$Writes" ({ cls := "WornSkin$Line", name := "isDone", desc := "(LWornSkin$Shelf;)Z" } : Jvm.MethodName) ({ cls := "WornSkin$Writes", name := "isDone", desc := "(LWornSkin$Shelf;)Z" } : Jvm.MethodName)) ∈ lw_all := lw_g (lw_at lw_m6 131 rfl) rfl
theorem q1443 : (Jvm.Cond.instanceMethod ({ cls := "WornSkin$Writes", name := "isDone", desc := "(LWornSkin$Shelf;)Z" } : Jvm.MethodName)) ∈ lw_all := lw_g (lw_at lw_m6 132 rfl) rfl
theorem q1444 : (Jvm.Cond.code ({ cls := "WornSkin$Writes", name := "isDone", desc := "(LWornSkin$Shelf;)Z" } : Jvm.MethodName) prog_29_method_2_code (2 : Nat) (Option.some Jvm.ClassFile.FieldType.boolean)) ∈ lw_all := lw_g (lw_at lw_m6 133 rfl) rfl
theorem q1445 : (Jvm.Cond.methodLink "WornSkin$Writes" (19 : Nat) ({ cls := "WornSkin$Shelf", name := "mayWrite", desc := "(III)Z" } : Jvm.MethodName)) ∈ lw_all := lw_g (lw_at lw_m6 134 rfl) rfl
theorem q1446 : (Jvm.Cond.methodLink "WornSkin$Writes" (25 : Nat) ({ cls := "WornSkin$Shelf", name := "writes", desc := "(III)V" } : Jvm.MethodName)) ∈ lw_all := lw_g (lw_at lw_m6 135 rfl) rfl
theorem q1447 : (Jvm.Cond.methodLink "WornSkin" (243 : Nat) ({ cls := "WornSkin$Shelf", name := "gone", desc := "()I" } : Jvm.MethodName)) ∈ lw_all := lw_g (lw_at lw_m6 136 rfl) rfl
theorem q1448 : (Jvm.Cond.instanceMethod ({ cls := "WornSkin$Shelf", name := "gone", desc := "()I" } : Jvm.MethodName)) ∈ lw_all := lw_g (lw_at lw_m6 137 rfl) rfl
theorem q1449 : (Jvm.Cond.selects "WornSkin$Shelf" ({ cls := "WornSkin$Shelf", name := "gone", desc := "()I" } : Jvm.MethodName) ({ cls := "WornSkin$Shelf", name := "gone", desc := "()I" } : Jvm.MethodName)) ∈ lw_all := lw_g (lw_at lw_m6 138 rfl) rfl
theorem q1450 : (Jvm.Cond.code ({ cls := "WornSkin$Shelf", name := "gone", desc := "()I" } : Jvm.MethodName) prog_24_method_29_code (3 : Nat) (Option.some Jvm.ClassFile.FieldType.int)) ∈ lw_all := lw_g (lw_at lw_m6 139 rfl) rfl
theorem q1451 : (Jvm.Cond.methodLink "WornSkin" (246 : Nat) ({ cls := "WornSkin$Shelf", name := "whole", desc := "(I)I" } : Jvm.MethodName)) ∈ lw_all := lw_g (lw_at lw_m6 140 rfl) rfl
theorem q1452 : (Jvm.Cond.instanceMethod ({ cls := "WornSkin$Shelf", name := "whole", desc := "(I)I" } : Jvm.MethodName)) ∈ lw_all := lw_g (lw_at lw_m6 141 rfl) rfl
theorem q1453 : (Jvm.Cond.selects "WornSkin$Shelf" ({ cls := "WornSkin$Shelf", name := "whole", desc := "(I)I" } : Jvm.MethodName) ({ cls := "WornSkin$Shelf", name := "whole", desc := "(I)I" } : Jvm.MethodName)) ∈ lw_all := lw_g (lw_at lw_m6 142 rfl) rfl
theorem q1454 : (Jvm.Cond.code ({ cls := "WornSkin$Shelf", name := "whole", desc := "(I)I" } : Jvm.MethodName) prog_24_method_27_code (4 : Nat) (Option.some Jvm.ClassFile.FieldType.int)) ∈ lw_all := lw_g (lw_at lw_m6 143 rfl) rfl
theorem q1455 : (Jvm.Cond.methodLink "WornSkin$Shelf" (145 : Nat) ({ cls := "WornSkin$Shelf", name := "texts", desc := "()I" } : Jvm.MethodName)) ∈ lw_all := lw_g (lw_at lw_m6 144 rfl) rfl
theorem q1456 : (Jvm.Cond.instanceMethod ({ cls := "WornSkin$Shelf", name := "texts", desc := "()I" } : Jvm.MethodName)) ∈ lw_all := lw_g (lw_at lw_m6 145 rfl) rfl
theorem q1457 : (Jvm.Cond.selects "WornSkin$Shelf" ({ cls := "WornSkin$Shelf", name := "texts", desc := "()I" } : Jvm.MethodName) ({ cls := "WornSkin$Shelf", name := "texts", desc := "()I" } : Jvm.MethodName)) ∈ lw_all := lw_g (lw_at lw_m6 146 rfl) rfl
theorem q1458 : (Jvm.Cond.code ({ cls := "WornSkin$Shelf", name := "texts", desc := "()I" } : Jvm.MethodName) prog_24_method_6_code (1 : Nat) (Option.some Jvm.ClassFile.FieldType.int)) ∈ lw_all := lw_g (lw_at lw_m6 147 rfl) rfl
theorem q1459 : (Jvm.Cond.methodLink "WornSkin$Shelf" (147 : Nat) ({ cls := "WornSkin$Shelf", name := "isWhole", desc := "(II)Z" } : Jvm.MethodName)) ∈ lw_all := lw_g (lw_at lw_m6 148 rfl) rfl
theorem q1460 : (Jvm.Cond.methodLink "WornSkin" (249 : Nat) ({ cls := "WornSkin", name := "bits", desc := "(I)I" } : Jvm.MethodName)) ∈ lw_all := lw_g (lw_at lw_m6 149 rfl) rfl
theorem q1461 : (Jvm.Cond.static ({ cls := "WornSkin", name := "bits", desc := "(I)I" } : Jvm.MethodName)) ∈ lw_all := lw_g (lw_at lw_m6 150 rfl) rfl
theorem q1462 : (Jvm.Cond.code ({ cls := "WornSkin", name := "bits", desc := "(I)I" } : Jvm.MethodName) prog_1_method_3_code (3 : Nat) (Option.some Jvm.ClassFile.FieldType.int)) ∈ lw_all := lw_g (lw_at lw_m6 151 rfl) rfl
theorem q1463 : (Jvm.Cond.methodLink "WornSkinLaw" (84 : Nat) ({ cls := "WornSkin", name := "later", desc := "(III)I" } : Jvm.MethodName)) ∈ lw_all := lw_g (lw_at lw_m6 152 rfl) rfl
theorem q1464 : (Jvm.Cond.instanceMethod ({ cls := "WornSkin", name := "later", desc := "(III)I" } : Jvm.MethodName)) ∈ lw_all := lw_g (lw_at lw_m6 153 rfl) rfl
theorem q1465 : (Jvm.Cond.selects "WornSkin" ({ cls := "WornSkin", name := "later", desc := "(III)I" } : Jvm.MethodName) ({ cls := "WornSkin", name := "later", desc := "(III)I" } : Jvm.MethodName)) ∈ lw_all := lw_g (lw_at lw_m6 154 rfl) rfl
theorem q1466 : (Jvm.Cond.code ({ cls := "WornSkin", name := "later", desc := "(III)I" } : Jvm.MethodName) prog_1_method_30_code (4 : Nat) (Option.some Jvm.ClassFile.FieldType.int)) ∈ lw_all := lw_g (lw_at lw_m6 155 rfl) rfl
theorem q1467 : (Jvm.Cond.methodLink "WornSkin" (252 : Nat) ({ cls := "WornSkin$Library", name := "damp", desc := "(I)I" } : Jvm.MethodName)) ∈ lw_all := lw_g (lw_at lw_m6 156 rfl) rfl
theorem q1468 : (Jvm.Cond.methodLink "WornSkinLaw" (88 : Nat) ({ cls := "WornSkin", name := "when", desc := "(I)I" } : Jvm.MethodName)) ∈ lw_all := lw_g (lw_at lw_m6 157 rfl) rfl
theorem q1469 : (Jvm.Cond.instanceMethod ({ cls := "WornSkin", name := "when", desc := "(I)I" } : Jvm.MethodName)) ∈ lw_all := lw_g (lw_at lw_m6 158 rfl) rfl
theorem q1470 : (Jvm.Cond.selects "WornSkin" ({ cls := "WornSkin", name := "when", desc := "(I)I" } : Jvm.MethodName) ({ cls := "WornSkin", name := "when", desc := "(I)I" } : Jvm.MethodName)) ∈ lw_all := lw_g (lw_at lw_m6 159 rfl) rfl
theorem q1471 : (Jvm.Cond.code ({ cls := "WornSkin", name := "when", desc := "(I)I" } : Jvm.MethodName) prog_1_method_31_code (3 : Nat) (Option.some Jvm.ClassFile.FieldType.int)) ∈ lw_all := lw_g (lw_at lw_m6 160 rfl) rfl
theorem q1472 : (Jvm.Cond.methodLink "WornSkinLaw" (92 : Nat) ({ cls := "WornSkin", name := "need", desc := "(I)I" } : Jvm.MethodName)) ∈ lw_all := lw_g (lw_at lw_m6 161 rfl) rfl
theorem q1473 : (Jvm.Cond.instanceMethod ({ cls := "WornSkin", name := "need", desc := "(I)I" } : Jvm.MethodName)) ∈ lw_all := lw_g (lw_at lw_m6 162 rfl) rfl
theorem q1474 : (Jvm.Cond.selects "WornSkin" ({ cls := "WornSkin", name := "need", desc := "(I)I" } : Jvm.MethodName) ({ cls := "WornSkin", name := "need", desc := "(I)I" } : Jvm.MethodName)) ∈ lw_all := lw_g (lw_at lw_m6 163 rfl) rfl
theorem q1475 : (Jvm.Cond.code ({ cls := "WornSkin", name := "need", desc := "(I)I" } : Jvm.MethodName) prog_1_method_32_code (3 : Nat) (Option.some Jvm.ClassFile.FieldType.int)) ∈ lw_all := lw_g (lw_at lw_m6 164 rfl) rfl
theorem q1476 : (Jvm.Cond.methodLink "WornSkinLaw" (136 : Nat) ({ cls := "WornSkin", name := "psalter", desc := "(I)I" } : Jvm.MethodName)) ∈ lw_all := lw_g (lw_at lw_m6 165 rfl) rfl
theorem q1477 : (Jvm.Cond.instanceMethod ({ cls := "WornSkin", name := "psalter", desc := "(I)I" } : Jvm.MethodName)) ∈ lw_all := lw_g (lw_at lw_m6 166 rfl) rfl
theorem q1478 : (Jvm.Cond.selects "WornSkin" ({ cls := "WornSkin", name := "psalter", desc := "(I)I" } : Jvm.MethodName) ({ cls := "WornSkin", name := "psalter", desc := "(I)I" } : Jvm.MethodName)) ∈ lw_all := lw_g (lw_at lw_m6 167 rfl) rfl
theorem q1479 : (Jvm.Cond.code ({ cls := "WornSkin", name := "psalter", desc := "(I)I" } : Jvm.MethodName) prog_1_method_33_code (4 : Nat) (Option.some Jvm.ClassFile.FieldType.int)) ∈ lw_all := lw_g (lw_at lw_m6 168 rfl) rfl
theorem q1480 : (Jvm.Cond.methodLink "WornSkinLaw" (96 : Nat) ({ cls := "WornSkin", name := "lost", desc := "()I" } : Jvm.MethodName)) ∈ lw_all := lw_g (lw_at lw_m6 169 rfl) rfl
theorem q1481 : (Jvm.Cond.instanceMethod ({ cls := "WornSkin", name := "lost", desc := "()I" } : Jvm.MethodName)) ∈ lw_all := lw_g (lw_at lw_m6 170 rfl) rfl
theorem q1482 : (Jvm.Cond.selects "WornSkin" ({ cls := "WornSkin", name := "lost", desc := "()I" } : Jvm.MethodName) ({ cls := "WornSkin", name := "lost", desc := "()I" } : Jvm.MethodName)) ∈ lw_all := lw_g (lw_at lw_m6 171 rfl) rfl
theorem q1483 : (Jvm.Cond.code ({ cls := "WornSkin", name := "lost", desc := "()I" } : Jvm.MethodName) prog_1_method_35_code (5 : Nat) (Option.some Jvm.ClassFile.FieldType.int)) ∈ lw_all := lw_g (lw_at lw_m6 172 rfl) rfl
theorem q1484 : (Jvm.Cond.methodLink "WornSkin" (254 : Nat) ({ cls := "WornSkin", name := "isLayer", desc := "(I)Z" } : Jvm.MethodName)) ∈ lw_all := lw_g (lw_at lw_m6 173 rfl) rfl
theorem q1486 : (Jvm.Cond.instanceMethod ({ cls := "WornSkin", name := "isLayer", desc := "(I)Z" } : Jvm.MethodName)) ∈ lw_all := lw_g (lw_at lw_m6 175 rfl) rfl
theorem q1487 : (Jvm.Cond.code ({ cls := "WornSkin", name := "isLayer", desc := "(I)Z" } : Jvm.MethodName) prog_1_method_34_code (4 : Nat) (Option.some Jvm.ClassFile.FieldType.boolean)) ∈ lw_all := lw_g (lw_at lw_m6 176 rfl) rfl
theorem q1488 : (Jvm.Cond.methodLink "WornSkinLaw" (100 : Nat) ({ cls := "WornSkin", name := "place", desc := "(II)I" } : Jvm.MethodName)) ∈ lw_all := lw_g (lw_at lw_m6 177 rfl) rfl
theorem q1489 : (Jvm.Cond.instanceMethod ({ cls := "WornSkin", name := "place", desc := "(II)I" } : Jvm.MethodName)) ∈ lw_all := lw_g (lw_at lw_m6 178 rfl) rfl
theorem q1490 : (Jvm.Cond.selects "WornSkin" ({ cls := "WornSkin", name := "place", desc := "(II)I" } : Jvm.MethodName) ({ cls := "WornSkin", name := "place", desc := "(II)I" } : Jvm.MethodName)) ∈ lw_all := lw_g (lw_at lw_m6 179 rfl) rfl
theorem q1491 : (Jvm.Cond.code ({ cls := "WornSkin", name := "place", desc := "(II)I" } : Jvm.MethodName) prog_1_method_36_code (3 : Nat) (Option.some Jvm.ClassFile.FieldType.int)) ∈ lw_all := lw_g (lw_at lw_m6 180 rfl) rfl
theorem q1492 : (Jvm.Cond.methodLink "WornSkin" (257 : Nat) ({ cls := "WornSkin$Shelf", name := "place", desc := "(II)I" } : Jvm.MethodName)) ∈ lw_all := lw_g (lw_at lw_m6 181 rfl) rfl
theorem q1493 : (Jvm.Cond.instanceMethod ({ cls := "WornSkin$Shelf", name := "place", desc := "(II)I" } : Jvm.MethodName)) ∈ lw_all := lw_g (lw_at lw_m6 182 rfl) rfl
theorem q1494 : (Jvm.Cond.selects "WornSkin$Shelf" ({ cls := "WornSkin$Shelf", name := "place", desc := "(II)I" } : Jvm.MethodName) ({ cls := "WornSkin$Shelf", name := "place", desc := "(II)I" } : Jvm.MethodName)) ∈ lw_all := lw_g (lw_at lw_m6 183 rfl) rfl
theorem q1495 : (Jvm.Cond.code ({ cls := "WornSkin$Shelf", name := "place", desc := "(II)I" } : Jvm.MethodName) prog_24_method_20_code (4 : Nat) (Option.some Jvm.ClassFile.FieldType.int)) ∈ lw_all := lw_g (lw_at lw_m6 184 rfl) rfl
theorem q1496 : (Jvm.Cond.methodLink "WornSkin$Shelf" (111 : Nat) ({ cls := "WornSkin$Shelf", name := "mayWrite", desc := "(III)Z" } : Jvm.MethodName)) ∈ lw_all := lw_g (lw_at lw_m6 185 rfl) rfl
theorem q1497 : (Jvm.Cond.methodLink "WornSkinLaw" (104 : Nat) ({ cls := "WornSkin", name := "cost", desc := "(II)I" } : Jvm.MethodName)) ∈ lw_all := lw_g (lw_at lw_m6 186 rfl) rfl
theorem q1498 : (Jvm.Cond.instanceMethod ({ cls := "WornSkin", name := "cost", desc := "(II)I" } : Jvm.MethodName)) ∈ lw_all := lw_g (lw_at lw_m6 187 rfl) rfl
theorem q1499 : (Jvm.Cond.selects "WornSkin" ({ cls := "WornSkin", name := "cost", desc := "(II)I" } : Jvm.MethodName) ({ cls := "WornSkin", name := "cost", desc := "(II)I" } : Jvm.MethodName)) ∈ lw_all := lw_g (lw_at lw_m6 188 rfl) rfl
theorem q1500 : (Jvm.Cond.code ({ cls := "WornSkin", name := "cost", desc := "(II)I" } : Jvm.MethodName) prog_1_method_38_code (5 : Nat) (Option.some Jvm.ClassFile.FieldType.int)) ∈ lw_all := lw_g (lw_at lw_m6 189 rfl) rfl
theorem q1501 : (Jvm.Cond.methodLink "WornSkin" (264 : Nat) ({ cls := "WornSkin", name := "costBy", desc := "(IIZ)I" } : Jvm.MethodName)) ∈ lw_all := lw_g (lw_at lw_m6 190 rfl) rfl
theorem q1503 : (Jvm.Cond.instanceMethod ({ cls := "WornSkin", name := "costBy", desc := "(IIZ)I" } : Jvm.MethodName)) ∈ lw_all := lw_g (lw_at lw_m6 192 rfl) rfl
theorem q1504 : (Jvm.Cond.code ({ cls := "WornSkin", name := "costBy", desc := "(IIZ)I" } : Jvm.MethodName) prog_1_method_37_code (4 : Nat) (Option.some Jvm.ClassFile.FieldType.int)) ∈ lw_all := lw_g (lw_at lw_m6 193 rfl) rfl
theorem q1505 : (Jvm.Cond.methodLink "WornSkin" (260 : Nat) ({ cls := "WornSkin$Shelf", name := "copies", desc := "(LWornSkin$Shelf;)LWornSkin$Shelf;" } : Jvm.MethodName)) ∈ lw_all := lw_g (lw_at lw_m6 194 rfl) rfl
theorem q1506 : (Jvm.Cond.methodLink "WornSkinLaw" (108 : Nat) ({ cls := "WornSkin", name := "lay", desc := "(I)I" } : Jvm.MethodName)) ∈ lw_all := lw_g (lw_at lw_m6 195 rfl) rfl
theorem q1507 : (Jvm.Cond.instanceMethod ({ cls := "WornSkin", name := "lay", desc := "(I)I" } : Jvm.MethodName)) ∈ lw_all := lw_g (lw_at lw_m6 196 rfl) rfl
theorem q1508 : (Jvm.Cond.selects "WornSkin" ({ cls := "WornSkin", name := "lay", desc := "(I)I" } : Jvm.MethodName) ({ cls := "WornSkin", name := "lay", desc := "(I)I" } : Jvm.MethodName)) ∈ lw_all := lw_g (lw_at lw_m6 197 rfl) rfl
theorem q1509 : (Jvm.Cond.code ({ cls := "WornSkin", name := "lay", desc := "(I)I" } : Jvm.MethodName) prog_1_method_39_code (2 : Nat) (Option.some Jvm.ClassFile.FieldType.int)) ∈ lw_all := lw_g (lw_at lw_m6 198 rfl) rfl
theorem q1510 : (Jvm.Cond.methodLink "WornSkin" (268 : Nat) ({ cls := "WornSkin$Lays", name := "finds", desc := "()LWornSkin$Lays;" } : Jvm.MethodName)) ∈ lw_all := lw_g (lw_at lw_m6 199 rfl) rfl
theorem q1511 : (Jvm.Cond.instanceMethod ({ cls := "WornSkin$Lays", name := "finds", desc := "()LWornSkin$Lays;" } : Jvm.MethodName)) ∈ lw_all := lw_g (lw_at lw_m6 200 rfl) rfl
theorem q1512 : (Jvm.Cond.selects "WornSkin$Lays" ({ cls := "WornSkin$Lays", name := "finds", desc := "()LWornSkin$Lays;" } : Jvm.MethodName) ({ cls := "WornSkin$Lays", name := "finds", desc := "()LWornSkin$Lays;" } : Jvm.MethodName)) ∈ lw_all := lw_g (lw_at lw_m6 201 rfl) rfl
theorem q1513 : (Jvm.Cond.code ({ cls := "WornSkin$Lays", name := "finds", desc := "()LWornSkin$Lays;" } : Jvm.MethodName) prog_7_method_2_code (1 : Nat) (Option.some (Jvm.ClassFile.FieldType.object "WornSkin$Lays"))) ∈ lw_all := lw_g (lw_at lw_m6 202 rfl) rfl
theorem q1514 : (Jvm.Cond.methodLink "WornSkin$Lays" (33 : Nat) ({ cls := "WornSkin$Shelf", name := "copies", desc := "(LWornSkin$Shelf;)LWornSkin$Shelf;" } : Jvm.MethodName)) ∈ lw_all := lw_g (lw_at lw_m6 203 rfl) rfl
theorem q1515 : (Jvm.Cond.methodLink "WornSkin$Lays" (39 : Nat) ({ cls := "WornSkin$Lays", name := "goes", desc := "(II)V" } : Jvm.MethodName)) ∈ lw_all := lw_g (lw_at lw_m6 204 rfl) rfl
theorem q1517 : (Jvm.Cond.instanceMethod ({ cls := "WornSkin$Lays", name := "goes", desc := "(II)V" } : Jvm.MethodName)) ∈ lw_all := lw_g (lw_at lw_m6 206 rfl) rfl
theorem q1518 : (Jvm.Cond.code ({ cls := "WornSkin$Lays", name := "goes", desc := "(II)V" } : Jvm.MethodName) prog_7_method_3_code (4 : Nat) (Option.none : Option Jvm.ClassFile.FieldType)) ∈ lw_all := lw_g (lw_at lw_m6 207 rfl) rfl
theorem q1519 : (Jvm.Cond.methodLinkNest "WornSkin$Lays" (43 : Nat) ({ cls := "WornSkin", name := "texts", desc := "()I" } : Jvm.MethodName) "WornSkin") ∈ lw_tbl := lw_at lw_m6 208 rfl
theorem q1520 : (Jvm.Cond.methodLink "WornSkin$Lays" (47 : Nat) ({ cls := "java/lang/System", name := "arraycopy", desc := "(Ljava/lang/Object;ILjava/lang/Object;II)V" } : Jvm.MethodName)) ∈ lw_all := lw_g (lw_at lw_m6 209 rfl) rfl
theorem q1521 : (Jvm.Cond.methodLinkNest "WornSkin$Lays" (53 : Nat) ({ cls := "WornSkin", name := "skins", desc := "()I" } : Jvm.MethodName) "WornSkin") ∈ lw_tbl := lw_at lw_m6 210 rfl
theorem q1522 : (Jvm.Cond.methodLink "WornSkin$Lays" (56 : Nat) ({ cls := "WornSkin$Shelf", name := "mayWrite", desc := "(III)Z" } : Jvm.MethodName)) ∈ lw_all := lw_g (lw_at lw_m6 211 rfl) rfl
theorem q1523 : (Jvm.Cond.methodLink "WornSkin$Lays" (60 : Nat) ({ cls := "WornSkin$Shelf", name := "writes", desc := "(III)V" } : Jvm.MethodName)) ∈ lw_all := lw_g (lw_at lw_m6 212 rfl) rfl
theorem q1524 : (Jvm.Cond.methodLink "WornSkin$Lays" (64 : Nat) ({ cls := "WornSkin$Lays", name := "takes", desc := "(II)V" } : Jvm.MethodName)) ∈ lw_all := lw_g (lw_at lw_m6 213 rfl) rfl
theorem q1526 : (Jvm.Cond.instanceMethod ({ cls := "WornSkin$Lays", name := "takes", desc := "(II)V" } : Jvm.MethodName)) ∈ lw_all := lw_g (lw_at lw_m6 215 rfl) rfl
theorem q1527 : (Jvm.Cond.code ({ cls := "WornSkin$Lays", name := "takes", desc := "(II)V" } : Jvm.MethodName) prog_7_method_4_code (4 : Nat) (Option.none : Option Jvm.ClassFile.FieldType)) ∈ lw_all := lw_g (lw_at lw_m6 216 rfl) rfl
theorem q1528 : (Jvm.Cond.methodLink "WornSkin$Lays" (67 : Nat) ({ cls := "WornSkin$Shelf", name := "text", desc := "(I)LWornSkin$Text;" } : Jvm.MethodName)) ∈ lw_all := lw_g (lw_at lw_m6 217 rfl) rfl
theorem q1529 : (Jvm.Cond.methodLink "WornSkinLaw" (112 : Nat) ({ cls := "WornSkin", name := "bears", desc := "(II)I" } : Jvm.MethodName)) ∈ lw_all := lw_g (lw_at lw_m6 218 rfl) rfl
theorem q1530 : (Jvm.Cond.instanceMethod ({ cls := "WornSkin", name := "bears", desc := "(II)I" } : Jvm.MethodName)) ∈ lw_all := lw_g (lw_at lw_m6 219 rfl) rfl
theorem q1531 : (Jvm.Cond.selects "WornSkin" ({ cls := "WornSkin", name := "bears", desc := "(II)I" } : Jvm.MethodName) ({ cls := "WornSkin", name := "bears", desc := "(II)I" } : Jvm.MethodName)) ∈ lw_all := lw_g (lw_at lw_m6 220 rfl) rfl
theorem q1532 : (Jvm.Cond.code ({ cls := "WornSkin", name := "bears", desc := "(II)I" } : Jvm.MethodName) prog_1_method_40_code (4 : Nat) (Option.some Jvm.ClassFile.FieldType.int)) ∈ lw_all := lw_g (lw_at lw_m6 221 rfl) rfl
theorem q1533 : (Jvm.Cond.methodLink "WornSkinLaw" (116 : Nat) ({ cls := "WornSkin", name := "over", desc := "(I)I" } : Jvm.MethodName)) ∈ lw_all := lw_g (lw_at lw_m6 222 rfl) rfl
theorem q1534 : (Jvm.Cond.instanceMethod ({ cls := "WornSkin", name := "over", desc := "(I)I" } : Jvm.MethodName)) ∈ lw_all := lw_g (lw_at lw_m6 223 rfl) rfl
theorem q1535 : (Jvm.Cond.selects "WornSkin" ({ cls := "WornSkin", name := "over", desc := "(I)I" } : Jvm.MethodName) ({ cls := "WornSkin", name := "over", desc := "(I)I" } : Jvm.MethodName)) ∈ lw_all := lw_g (lw_at lw_m6 224 rfl) rfl
theorem q1536 : (Jvm.Cond.code ({ cls := "WornSkin", name := "over", desc := "(I)I" } : Jvm.MethodName) prog_1_method_41_code (4 : Nat) (Option.some Jvm.ClassFile.FieldType.int)) ∈ lw_all := lw_g (lw_at lw_m6 225 rfl) rfl
theorem q1537 : (Jvm.Cond.methodLink "WornSkin" (278 : Nat) ({ cls := "WornSkin$Shelf", name := "over", desc := "(II)I" } : Jvm.MethodName)) ∈ lw_all := lw_g (lw_at lw_m6 226 rfl) rfl
theorem q1538 : (Jvm.Cond.instanceMethod ({ cls := "WornSkin$Shelf", name := "over", desc := "(II)I" } : Jvm.MethodName)) ∈ lw_all := lw_g (lw_at lw_m6 227 rfl) rfl
theorem q1539 : (Jvm.Cond.selects "WornSkin$Shelf" ({ cls := "WornSkin$Shelf", name := "over", desc := "(II)I" } : Jvm.MethodName) ({ cls := "WornSkin$Shelf", name := "over", desc := "(II)I" } : Jvm.MethodName)) ∈ lw_all := lw_g (lw_at lw_m6 228 rfl) rfl
theorem q1540 : (Jvm.Cond.code ({ cls := "WornSkin$Shelf", name := "over", desc := "(II)I" } : Jvm.MethodName) prog_24_method_16_code (6 : Nat) (Option.some Jvm.ClassFile.FieldType.int)) ∈ lw_all := lw_g (lw_at lw_m6 229 rfl) rfl
theorem q1541 : (Jvm.Cond.methodLink "WornSkinLaw" (120 : Nat) ({ cls := "WornSkin", name := "deepest", desc := "(I)I" } : Jvm.MethodName)) ∈ lw_all := lw_g (lw_at lw_m6 230 rfl) rfl
theorem q1542 : (Jvm.Cond.instanceMethod ({ cls := "WornSkin", name := "deepest", desc := "(I)I" } : Jvm.MethodName)) ∈ lw_all := lw_g (lw_at lw_m6 231 rfl) rfl
theorem q1543 : (Jvm.Cond.selects "WornSkin" ({ cls := "WornSkin", name := "deepest", desc := "(I)I" } : Jvm.MethodName) ({ cls := "WornSkin", name := "deepest", desc := "(I)I" } : Jvm.MethodName)) ∈ lw_all := lw_g (lw_at lw_m6 232 rfl) rfl
theorem q1544 : (Jvm.Cond.code ({ cls := "WornSkin", name := "deepest", desc := "(I)I" } : Jvm.MethodName) prog_1_method_42_code (4 : Nat) (Option.some Jvm.ClassFile.FieldType.int)) ∈ lw_all := lw_g (lw_at lw_m6 233 rfl) rfl
theorem q1545 : (Jvm.Cond.methodLink "WornSkinLaw" (124 : Nat) ({ cls := "WornSkin", name := "bare", desc := "(I)I" } : Jvm.MethodName)) ∈ lw_all := lw_g (lw_at lw_m6 234 rfl) rfl
theorem q1546 : (Jvm.Cond.instanceMethod ({ cls := "WornSkin", name := "bare", desc := "(I)I" } : Jvm.MethodName)) ∈ lw_all := lw_g (lw_at lw_m6 235 rfl) rfl
theorem q1547 : (Jvm.Cond.selects "WornSkin" ({ cls := "WornSkin", name := "bare", desc := "(I)I" } : Jvm.MethodName) ({ cls := "WornSkin", name := "bare", desc := "(I)I" } : Jvm.MethodName)) ∈ lw_all := lw_g (lw_at lw_m6 236 rfl) rfl
theorem q1548 : (Jvm.Cond.code ({ cls := "WornSkin", name := "bare", desc := "(I)I" } : Jvm.MethodName) prog_1_method_43_code (4 : Nat) (Option.some Jvm.ClassFile.FieldType.int)) ∈ lw_all := lw_g (lw_at lw_m6 237 rfl) rfl
theorem q1549 : (Jvm.Cond.methodLink "WornSkin" (281 : Nat) ({ cls := "WornSkin", name := "has", desc := "(II)Z" } : Jvm.MethodName)) ∈ lw_all := lw_g (lw_at lw_m6 238 rfl) rfl
theorem q1550 : (Jvm.Cond.methodLink "WornSkinLaw" (128 : Nat) ({ cls := "WornSkin", name := "same", desc := "()I" } : Jvm.MethodName)) ∈ lw_all := lw_g (lw_at lw_m6 239 rfl) rfl
theorem q1551 : (Jvm.Cond.instanceMethod ({ cls := "WornSkin", name := "same", desc := "()I" } : Jvm.MethodName)) ∈ lw_all := lw_g (lw_at lw_m7 0 rfl) rfl
theorem q1552 : (Jvm.Cond.selects "WornSkin" ({ cls := "WornSkin", name := "same", desc := "()I" } : Jvm.MethodName) ({ cls := "WornSkin", name := "same", desc := "()I" } : Jvm.MethodName)) ∈ lw_all := lw_g (lw_at lw_m7 1 rfl) rfl
theorem q1553 : (Jvm.Cond.code ({ cls := "WornSkin", name := "same", desc := "()I" } : Jvm.MethodName) prog_1_method_44_code (4 : Nat) (Option.some Jvm.ClassFile.FieldType.int)) ∈ lw_all := lw_g (lw_at lw_m7 2 rfl) rfl
theorem q1554 : (Jvm.Cond.methodLink "WornSkin" (284 : Nat) ({ cls := "WornSkin$Shelf", name := "areLike", desc := "(II)Z" } : Jvm.MethodName)) ∈ lw_all := lw_g (lw_at lw_m7 3 rfl) rfl
theorem q1555 : (Jvm.Cond.instanceMethod ({ cls := "WornSkin$Shelf", name := "areLike", desc := "(II)Z" } : Jvm.MethodName)) ∈ lw_all := lw_g (lw_at lw_m7 4 rfl) rfl
theorem q1556 : (Jvm.Cond.selects "WornSkin$Shelf" ({ cls := "WornSkin$Shelf", name := "areLike", desc := "(II)Z" } : Jvm.MethodName) ({ cls := "WornSkin$Shelf", name := "areLike", desc := "(II)Z" } : Jvm.MethodName)) ∈ lw_all := lw_g (lw_at lw_m7 5 rfl) rfl
theorem q1557 : (Jvm.Cond.code ({ cls := "WornSkin$Shelf", name := "areLike", desc := "(II)Z" } : Jvm.MethodName) prog_24_method_15_code (3 : Nat) (Option.some Jvm.ClassFile.FieldType.boolean)) ∈ lw_all := lw_g (lw_at lw_m7 6 rfl) rfl
theorem q1558 : (Jvm.Cond.methodLink "WornSkinLaw" (132 : Nat) ({ cls := "WornSkin", name := "giveup", desc := "()I" } : Jvm.MethodName)) ∈ lw_all := lw_g (lw_at lw_m7 7 rfl) rfl
theorem q1559 : (Jvm.Cond.instanceMethod ({ cls := "WornSkin", name := "giveup", desc := "()I" } : Jvm.MethodName)) ∈ lw_all := lw_g (lw_at lw_m7 8 rfl) rfl
theorem q1560 : (Jvm.Cond.selects "WornSkin" ({ cls := "WornSkin", name := "giveup", desc := "()I" } : Jvm.MethodName) ({ cls := "WornSkin", name := "giveup", desc := "()I" } : Jvm.MethodName)) ∈ lw_all := lw_g (lw_at lw_m7 9 rfl) rfl
theorem q1561 : (Jvm.Cond.code ({ cls := "WornSkin", name := "giveup", desc := "()I" } : Jvm.MethodName) prog_1_method_45_code (6 : Nat) (Option.some Jvm.ClassFile.FieldType.int)) ∈ lw_all := lw_g (lw_at lw_m7 10 rfl) rfl
theorem q1562 : (Jvm.Cond.methodLink "WornSkinLaw" (140 : Nat) ({ cls := "WornSkin", name := "see", desc := "(IIIZ)Z" } : Jvm.MethodName)) ∈ lw_all := lw_g (lw_at lw_m7 11 rfl) rfl
theorem q1563 : (Jvm.Cond.instanceMethod ({ cls := "WornSkin", name := "see", desc := "(IIIZ)Z" } : Jvm.MethodName)) ∈ lw_all := lw_g (lw_at lw_m7 12 rfl) rfl
theorem q1564 : (Jvm.Cond.selects "WornSkin" ({ cls := "WornSkin", name := "see", desc := "(IIIZ)Z" } : Jvm.MethodName) ({ cls := "WornSkin", name := "see", desc := "(IIIZ)Z" } : Jvm.MethodName)) ∈ lw_all := lw_g (lw_at lw_m7 13 rfl) rfl
theorem q1565 : (Jvm.Cond.code ({ cls := "WornSkin", name := "see", desc := "(IIIZ)Z" } : Jvm.MethodName) prog_1_method_46_code (5 : Nat) (Option.some Jvm.ClassFile.FieldType.boolean)) ∈ lw_all := lw_g (lw_at lw_m7 14 rfl) rfl
theorem q1566 : (Jvm.Cond.methodLink "WornSkinLaw" (145 : Nat) ({ cls := "WornSkin", name := "who", desc := "()I" } : Jvm.MethodName)) ∈ lw_all := lw_g (lw_at lw_m7 15 rfl) rfl
theorem q1567 : (Jvm.Cond.instanceMethod ({ cls := "WornSkin", name := "who", desc := "()I" } : Jvm.MethodName)) ∈ lw_all := lw_g (lw_at lw_m7 16 rfl) rfl
theorem q1568 : (Jvm.Cond.selects "WornSkin" ({ cls := "WornSkin", name := "who", desc := "()I" } : Jvm.MethodName) ({ cls := "WornSkin", name := "who", desc := "()I" } : Jvm.MethodName)) ∈ lw_all := lw_g (lw_at lw_m7 17 rfl) rfl
theorem q1569 : (Jvm.Cond.code ({ cls := "WornSkin", name := "who", desc := "()I" } : Jvm.MethodName) prog_1_method_48_code (3 : Nat) (Option.some Jvm.ClassFile.FieldType.int)) ∈ lw_all := lw_g (lw_at lw_m7 18 rfl) rfl
theorem q1570 : (Jvm.Cond.methodLink "WornSkin" (292 : Nat) ({ cls := "WornSkin", name := "isAsSeen", desc := "(LWornSkin$Text;)Z" } : Jvm.MethodName)) ∈ lw_all := lw_g (lw_at lw_m7 19 rfl) rfl
theorem q1572 : (Jvm.Cond.instanceMethod ({ cls := "WornSkin", name := "isAsSeen", desc := "(LWornSkin$Text;)Z" } : Jvm.MethodName)) ∈ lw_all := lw_g (lw_at lw_m7 21 rfl) rfl
theorem q1573 : (Jvm.Cond.code ({ cls := "WornSkin", name := "isAsSeen", desc := "(LWornSkin$Text;)Z" } : Jvm.MethodName) prog_1_method_47_code (4 : Nat) (Option.some Jvm.ClassFile.FieldType.boolean)) ∈ lw_all := lw_g (lw_at lw_m7 22 rfl) rfl
theorem q1574 : (Jvm.Cond.classLink "WornSkin" (287 : Nat) "[I") ∈ lw_all := lw_g (lw_at lw_m7 23 rfl) rfl
theorem q1575 : (Jvm.Cond.methodLink "WornSkin" (288 : Nat) ({ cls := "WornSkin$Library", name := "shows", desc := "(LWornSkin$Text;III)Z" } : Jvm.MethodName)) ∈ lw_all := lw_g (lw_at lw_m7 24 rfl) rfl
theorem q1576 : (Jvm.Cond.methodLink "WornSkinLaw" (149 : Nat) ({ cls := "WornSkin", name := "ask", desc := "(I)I" } : Jvm.MethodName)) ∈ lw_all := lw_g (lw_at lw_m7 25 rfl) rfl
theorem q1577 : (Jvm.Cond.instanceMethod ({ cls := "WornSkin", name := "ask", desc := "(I)I" } : Jvm.MethodName)) ∈ lw_all := lw_g (lw_at lw_m7 26 rfl) rfl
theorem q1578 : (Jvm.Cond.selects "WornSkin" ({ cls := "WornSkin", name := "ask", desc := "(I)I" } : Jvm.MethodName) ({ cls := "WornSkin", name := "ask", desc := "(I)I" } : Jvm.MethodName)) ∈ lw_all := lw_g (lw_at lw_m7 27 rfl) rfl
theorem q1579 : (Jvm.Cond.code ({ cls := "WornSkin", name := "ask", desc := "(I)I" } : Jvm.MethodName) prog_1_method_49_code (9 : Nat) (Option.some Jvm.ClassFile.FieldType.int)) ∈ lw_all := lw_g (lw_at lw_m7 28 rfl) rfl
theorem q1580 : (Jvm.Cond.methodLink "WornSkin" (296 : Nat) ({ cls := "WornSkin", name := "who", desc := "()I" } : Jvm.MethodName)) ∈ lw_all := lw_g (lw_at lw_m7 29 rfl) rfl
theorem q1581 : (Jvm.Cond.methodLink "WornSkin" (299 : Nat) ({ cls := "java/lang/Math", name := "max", desc := "(II)I" } : Jvm.MethodName)) ∈ lw_all := lw_g (lw_at lw_m7 30 rfl) rfl
theorem q1582 : (Jvm.Cond.methodLink "WornSkinLaw" (153 : Nat) ({ cls := "WornSkin", name := "chance", desc := "(III)I" } : Jvm.MethodName)) ∈ lw_all := lw_g (lw_at lw_m7 31 rfl) rfl
theorem q1583 : (Jvm.Cond.instanceMethod ({ cls := "WornSkin", name := "chance", desc := "(III)I" } : Jvm.MethodName)) ∈ lw_all := lw_g (lw_at lw_m7 32 rfl) rfl
theorem q1584 : (Jvm.Cond.selects "WornSkin" ({ cls := "WornSkin", name := "chance", desc := "(III)I" } : Jvm.MethodName) ({ cls := "WornSkin", name := "chance", desc := "(III)I" } : Jvm.MethodName)) ∈ lw_all := lw_g (lw_at lw_m7 33 rfl) rfl
theorem q1585 : (Jvm.Cond.code ({ cls := "WornSkin", name := "chance", desc := "(III)I" } : Jvm.MethodName) prog_1_method_50_code (11 : Nat) (Option.some Jvm.ClassFile.FieldType.int)) ∈ lw_all := lw_g (lw_at lw_m7 34 rfl) rfl
theorem q1586 : (Jvm.Cond.constantLong "WornSkin" (304 : Nat) (10 : Int64)) ∈ lw_all := lw_g (lw_at lw_m7 35 rfl) rfl
theorem q1587 : (Jvm.Cond.constantLong "WornSkin" (306 : Nat) (1000000 : Int64)) ∈ lw_all := lw_g (lw_at lw_m7 36 rfl) rfl
theorem q1588 : (Jvm.Cond.methodLink "WornSkinLaw" (166 : Nat) ({ cls := "WornSkin", name := "years", desc := "(III)I" } : Jvm.MethodName)) ∈ lw_all := lw_g (lw_at lw_m7 37 rfl) rfl
theorem q1589 : (Jvm.Cond.instanceMethod ({ cls := "WornSkin", name := "years", desc := "(III)I" } : Jvm.MethodName)) ∈ lw_all := lw_g (lw_at lw_m7 38 rfl) rfl
theorem q1590 : (Jvm.Cond.selects "WornSkin" ({ cls := "WornSkin", name := "years", desc := "(III)I" } : Jvm.MethodName) ({ cls := "WornSkin", name := "years", desc := "(III)I" } : Jvm.MethodName)) ∈ lw_all := lw_g (lw_at lw_m7 39 rfl) rfl
theorem q1591 : (Jvm.Cond.code ({ cls := "WornSkin", name := "years", desc := "(III)I" } : Jvm.MethodName) prog_1_method_57_code (6 : Nat) (Option.some Jvm.ClassFile.FieldType.int)) ∈ lw_all := lw_g (lw_at lw_m7 40 rfl) rfl
theorem q1592 : (Jvm.Cond.methodLink "WornSkin" (338 : Nat) ({ cls := "WornSkin", name := "drawsText", desc := "()Z" } : Jvm.MethodName)) ∈ lw_all := lw_g (lw_at lw_m7 41 rfl) rfl
theorem q1594 : (Jvm.Cond.instanceMethod ({ cls := "WornSkin", name := "drawsText", desc := "()Z" } : Jvm.MethodName)) ∈ lw_all := lw_g (lw_at lw_m7 43 rfl) rfl
theorem q1595 : (Jvm.Cond.code ({ cls := "WornSkin", name := "drawsText", desc := "()Z" } : Jvm.MethodName) prog_1_method_56_code (5 : Nat) (Option.some Jvm.ClassFile.FieldType.boolean)) ∈ lw_all := lw_g (lw_at lw_m7 44 rfl) rfl
theorem q1596 : (Jvm.Cond.methodLink "WornSkin" (335 : Nat) ({ cls := "WornSkin", name := "draw", desc := "(I)I" } : Jvm.MethodName)) ∈ lw_all := lw_g (lw_at lw_m7 45 rfl) rfl
theorem q1598 : (Jvm.Cond.instanceMethod ({ cls := "WornSkin", name := "draw", desc := "(I)I" } : Jvm.MethodName)) ∈ lw_all := lw_g (lw_at lw_m7 47 rfl) rfl
theorem q1599 : (Jvm.Cond.code ({ cls := "WornSkin", name := "draw", desc := "(I)I" } : Jvm.MethodName) prog_1_method_55_code (2 : Nat) (Option.some Jvm.ClassFile.FieldType.int)) ∈ lw_all := lw_g (lw_at lw_m7 48 rfl) rfl
theorem q1600 : (Jvm.Cond.constantLong "WornSkin" (327 : Nat) (1103515245 : Int64)) ∈ lw_all := lw_g (lw_at lw_m7 49 rfl) rfl
theorem q1601 : (Jvm.Cond.constantLong "WornSkin" (329 : Nat) (12345 : Int64)) ∈ lw_all := lw_g (lw_at lw_m7 50 rfl) rfl
theorem q1602 : (Jvm.Cond.constantLong "WornSkin" (331 : Nat) (2147483648 : Int64)) ∈ lw_all := lw_g (lw_at lw_m7 51 rfl) rfl
theorem q1603 : (Jvm.Cond.constantLong "WornSkin" (333 : Nat) (65536 : Int64)) ∈ lw_all := lw_g (lw_at lw_m7 52 rfl) rfl
theorem q1604 : (Jvm.Cond.methodLink "WornSkin" (341 : Nat) ({ cls := "WornSkin$Shelf", name := "thickness", desc := "()I" } : Jvm.MethodName)) ∈ lw_all := lw_g (lw_at lw_m7 53 rfl) rfl
theorem q1605 : (Jvm.Cond.instanceMethod ({ cls := "WornSkin$Shelf", name := "thickness", desc := "()I" } : Jvm.MethodName)) ∈ lw_all := lw_g (lw_at lw_m7 54 rfl) rfl
theorem q1606 : (Jvm.Cond.selects "WornSkin$Shelf" ({ cls := "WornSkin$Shelf", name := "thickness", desc := "()I" } : Jvm.MethodName) ({ cls := "WornSkin$Shelf", name := "thickness", desc := "()I" } : Jvm.MethodName)) ∈ lw_all := lw_g (lw_at lw_m7 55 rfl) rfl
theorem q1607 : (Jvm.Cond.code ({ cls := "WornSkin$Shelf", name := "thickness", desc := "()I" } : Jvm.MethodName) prog_24_method_28_code (3 : Nat) (Option.some Jvm.ClassFile.FieldType.int)) ∈ lw_all := lw_g (lw_at lw_m7 56 rfl) rfl
theorem q1608 : (Jvm.Cond.methodLink "WornSkinLaw" (170 : Nat) ({ cls := "WornSkin", name := "mark", desc := "(IZ)Z" } : Jvm.MethodName)) ∈ lw_all := lw_g (lw_at lw_m7 57 rfl) rfl
theorem q1609 : (Jvm.Cond.instanceMethod ({ cls := "WornSkin", name := "mark", desc := "(IZ)Z" } : Jvm.MethodName)) ∈ lw_all := lw_g (lw_at lw_m7 58 rfl) rfl
theorem q1610 : (Jvm.Cond.selects "WornSkin" ({ cls := "WornSkin", name := "mark", desc := "(IZ)Z" } : Jvm.MethodName) ({ cls := "WornSkin", name := "mark", desc := "(IZ)Z" } : Jvm.MethodName)) ∈ lw_all := lw_g (lw_at lw_m7 59 rfl) rfl
theorem q1611 : (Jvm.Cond.code ({ cls := "WornSkin", name := "mark", desc := "(IZ)Z" } : Jvm.MethodName) prog_1_method_59_code (3 : Nat) (Option.some Jvm.ClassFile.FieldType.boolean)) ∈ lw_all := lw_g (lw_at lw_m7 60 rfl) rfl
theorem q1612 : (Jvm.Cond.instantiable "WornSkin$Mark" (3 : Nat)) ∈ lw_all := lw_g (lw_at lw_m7 61 rfl) rfl
theorem q1613 : (Jvm.Cond.methodLink "WornSkin" (344 : Nat) ({ cls := "WornSkin", name := "copied", desc := "(Ljava/util/ArrayList;)Ljava/util/ArrayList;" } : Jvm.MethodName)) ∈ lw_all := lw_g (lw_at lw_m7 62 rfl) rfl
theorem q1614 : (Jvm.Cond.static ({ cls := "WornSkin", name := "copied", desc := "(Ljava/util/ArrayList;)Ljava/util/ArrayList;" } : Jvm.MethodName)) ∈ lw_all := lw_g (lw_at lw_m7 63 rfl) rfl
theorem q1615 : (Jvm.Cond.code ({ cls := "WornSkin", name := "copied", desc := "(Ljava/util/ArrayList;)Ljava/util/ArrayList;" } : Jvm.MethodName) prog_1_method_58_code (3 : Nat) (Option.some (Jvm.ClassFile.FieldType.object "java/util/ArrayList"))) ∈ lw_all := lw_g (lw_at lw_m7 64 rfl) rfl
theorem q1616 : (Jvm.Cond.methodLink "WornSkin" (347 : Nat) ({ cls := "WornSkin$Mark", name := "<init>", desc := "(LWornSkin$Shelf;Ljava/util/ArrayList;Ljava/util/ArrayList;)V" } : Jvm.MethodName)) ∈ lw_all := lw_g (lw_at lw_m7 65 rfl) rfl
theorem q1617 : (Jvm.Cond.instanceMethod ({ cls := "WornSkin$Mark", name := "<init>", desc := "(LWornSkin$Shelf;Ljava/util/ArrayList;Ljava/util/ArrayList;)V" } : Jvm.MethodName)) ∈ lw_all := lw_g (lw_at lw_m7 66 rfl) rfl
theorem q1618 : (Jvm.Cond.code ({ cls := "WornSkin$Mark", name := "<init>", desc := "(LWornSkin$Shelf;Ljava/util/ArrayList;Ljava/util/ArrayList;)V" } : Jvm.MethodName) prog_12_method_1_code (4 : Nat) (Option.none : Option Jvm.ClassFile.FieldType)) ∈ lw_all := lw_g (lw_at lw_m7 67 rfl) rfl
theorem q1619 : (Jvm.Cond.methodLink "WornSkin$Mark" (1 : Nat) ({ cls := "java/lang/Object", name := "<init>", desc := "()V" } : Jvm.MethodName)) ∈ lw_all := lw_g (lw_at lw_m7 68 rfl) rfl
theorem q1620 : (Jvm.Cond.fieldLink "WornSkin$Mark" (7 : Nat) "WornSkin$Mark" "shelf" "LWornSkin$Shelf;") ∈ lw_all := lw_g (lw_at lw_m7 69 rfl) rfl
theorem q1621 : (Jvm.Cond.fieldLinkNest "WornSkin" (350 : Nat) "WornSkin$Mark" "shelf" "LWornSkin$Shelf;" "WornSkin") ∈ lw_tbl := lw_at lw_m7 70 rfl
theorem q1622 : (Jvm.Cond.fieldLink "WornSkin$Mark" (13 : Nat) "WornSkin$Mark" "lines" "Ljava/util/ArrayList;") ∈ lw_all := lw_g (lw_at lw_m7 71 rfl) rfl
theorem q1623 : (Jvm.Cond.fieldLinkNest "WornSkin" (351 : Nat) "WornSkin$Mark" "lines" "Ljava/util/ArrayList;" "WornSkin") ∈ lw_tbl := lw_at lw_m7 72 rfl
theorem q1624 : (Jvm.Cond.fieldLink "WornSkin$Mark" (17 : Nat) "WornSkin$Mark" "seen" "Ljava/util/ArrayList;") ∈ lw_all := lw_g (lw_at lw_m7 73 rfl) rfl
theorem q1625 : (Jvm.Cond.fieldLinkNest "WornSkin" (352 : Nat) "WornSkin$Mark" "seen" "Ljava/util/ArrayList;" "WornSkin") ∈ lw_tbl := lw_at lw_m7 74 rfl
theorem q1633 : (Jvm.Cond.methodLink "WornSkinLaw" (175 : Nat) ({ cls := "WornSkin", name := "count", desc := "(I)I" } : Jvm.MethodName)) ∈ lw_all := lw_g (lw_at lw_m7 82 rfl) rfl
theorem q1634 : (Jvm.Cond.instanceMethod ({ cls := "WornSkin", name := "count", desc := "(I)I" } : Jvm.MethodName)) ∈ lw_all := lw_g (lw_at lw_m7 83 rfl) rfl
theorem q1635 : (Jvm.Cond.selects "WornSkin" ({ cls := "WornSkin", name := "count", desc := "(I)I" } : Jvm.MethodName) ({ cls := "WornSkin", name := "count", desc := "(I)I" } : Jvm.MethodName)) ∈ lw_all := lw_g (lw_at lw_m7 84 rfl) rfl
theorem q1636 : (Jvm.Cond.code ({ cls := "WornSkin", name := "count", desc := "(I)I" } : Jvm.MethodName) prog_1_method_61_code (2 : Nat) (Option.some Jvm.ClassFile.FieldType.int)) ∈ lw_all := lw_g (lw_at lw_m7 85 rfl) rfl
theorem q1637 : (Jvm.Cond.methodLink "WornSkin" (353 : Nat) ({ cls := "WornSkin", name := "layersAll", desc := "()I" } : Jvm.MethodName)) ∈ lw_all := lw_g (lw_at lw_m7 86 rfl) rfl
theorem q1639 : (Jvm.Cond.instanceMethod ({ cls := "WornSkin", name := "layersAll", desc := "()I" } : Jvm.MethodName)) ∈ lw_all := lw_g (lw_at lw_m7 88 rfl) rfl
theorem q1640 : (Jvm.Cond.code ({ cls := "WornSkin", name := "layersAll", desc := "()I" } : Jvm.MethodName) prog_1_method_60_code (3 : Nat) (Option.some Jvm.ClassFile.FieldType.int)) ∈ lw_all := lw_g (lw_at lw_m7 89 rfl) rfl
theorem q1641 : (Jvm.Cond.methodLink "WornSkinLaw" (157 : Nat) ({ cls := "WornSkinLaw", name := "rests", desc := "(LWornSkin;IIII[J)I" } : Jvm.MethodName)) ∈ lw_all := lw_g (lw_at lw_m7 90 rfl) rfl
theorem q1642 : (Jvm.Cond.static ({ cls := "WornSkinLaw", name := "rests", desc := "(LWornSkin;IIII[J)I" } : Jvm.MethodName)) ∈ lw_all := lw_g (lw_at lw_m7 91 rfl) rfl
theorem q1643 : (Jvm.Cond.codeWith ({ cls := "WornSkinLaw", name := "rests", desc := "(LWornSkin;IIII[J)I" } : Jvm.MethodName) method_3_code (7 : Nat) (Option.some Jvm.ClassFile.FieldType.int) [((0 : Nat), (14 : Nat), (17 : Nat), (13 : Nat))]) ∈ lw_all := lw_g (lw_at lw_m7 92 rfl) rfl
theorem q1644 : (Jvm.Cond.classLink "WornSkinLaw" (13 : Nat) "java/util/NoSuchElementException") ∈ lw_all := lw_g (lw_at lw_m7 93 rfl) rfl
theorem q1645 : (Jvm.Cond.methodLink "WornSkinLaw" (7 : Nat) ({ cls := "WornSkin", name := "rests", desc := "(IIII)I" } : Jvm.MethodName)) ∈ lw_all := lw_g (lw_at lw_m7 94 rfl) rfl
theorem q1646 : (Jvm.Cond.instanceMethod ({ cls := "WornSkin", name := "rests", desc := "(IIII)I" } : Jvm.MethodName)) ∈ lw_all := lw_g (lw_at lw_m7 95 rfl) rfl
theorem q1647 : (Jvm.Cond.selects "WornSkin" ({ cls := "WornSkin", name := "rests", desc := "(IIII)I" } : Jvm.MethodName) ({ cls := "WornSkin", name := "rests", desc := "(IIII)I" } : Jvm.MethodName)) ∈ lw_all := lw_g (lw_at lw_m7 96 rfl) rfl
theorem q1648 : (Jvm.Cond.code ({ cls := "WornSkin", name := "rests", desc := "(IIII)I" } : Jvm.MethodName) prog_1_method_54_code (7 : Nat) (Option.some Jvm.ClassFile.FieldType.int)) ∈ lw_all := lw_g (lw_at lw_m7 97 rfl) rfl
theorem q1649 : (Jvm.Cond.methodLink "WornSkin" (315 : Nat) ({ cls := "WornSkin", name := "must", desc := "(Z)V" } : Jvm.MethodName)) ∈ lw_all := lw_g (lw_at lw_m7 98 rfl) rfl
theorem q1650 : (Jvm.Cond.static ({ cls := "WornSkin", name := "must", desc := "(Z)V" } : Jvm.MethodName)) ∈ lw_all := lw_g (lw_at lw_m7 99 rfl) rfl
theorem q1651 : (Jvm.Cond.code ({ cls := "WornSkin", name := "must", desc := "(Z)V" } : Jvm.MethodName) prog_1_method_53_code (1 : Nat) (Option.none : Option Jvm.ClassFile.FieldType)) ∈ lw_all := lw_g (lw_at lw_m7 100 rfl) rfl
theorem q1652 : (Jvm.Cond.classLink "WornSkin" (312 : Nat) "java/util/NoSuchElementException") ∈ lw_all := lw_g (lw_at lw_m7 101 rfl) rfl
theorem q1653 : (Jvm.Cond.instantiable "java/util/NoSuchElementException" (6 : Nat)) ∈ lw_all := lw_g (lw_at lw_m7 102 rfl) rfl
theorem q1655 : (Jvm.Cond.declares ({ cls := "java/lang/RuntimeException", name := "<init>", desc := "()V" } : Jvm.MethodName)) ∈ lw_tbl := lw_at lw_m7 104 rfl
theorem q1657 : (Jvm.Cond.selects "java/util/NoSuchElementException" ({ cls := "java/lang/Throwable", name := "fillInStackTrace", desc := "(I)Ljava/lang/Throwable;" } : Jvm.MethodName) ({ cls := "java/lang/Throwable", name := "fillInStackTrace", desc := "(I)Ljava/lang/Throwable;" } : Jvm.MethodName)) ∈ lw_all := lw_g (lw_at lw_m7 106 rfl) rfl
theorem q1663 : (Jvm.Cond.methodLink "WornSkin" (314 : Nat) ({ cls := "java/util/NoSuchElementException", name := "<init>", desc := "()V" } : Jvm.MethodName)) ∈ lw_all := lw_g (lw_at lw_m7 112 rfl) rfl
theorem q1664 : (Jvm.Cond.instanceMethod ({ cls := "java/util/NoSuchElementException", name := "<init>", desc := "()V" } : Jvm.MethodName)) ∈ lw_all := lw_g (lw_at lw_m7 113 rfl) rfl
theorem q1665 : (Jvm.Cond.code ({ cls := "java/util/NoSuchElementException", name := "<init>", desc := "()V" } : Jvm.MethodName) prog_60_method_1_code (1 : Nat) (Option.none : Option Jvm.ClassFile.FieldType)) ∈ lw_all := lw_g (lw_at lw_m7 114 rfl) rfl
theorem q1666 : (Jvm.Cond.methodLink "java/util/NoSuchElementException" (1 : Nat) ({ cls := "java/lang/RuntimeException", name := "<init>", desc := "()V" } : Jvm.MethodName)) ∈ lw_all := lw_g (lw_at lw_m7 115 rfl) rfl
theorem q1667 : (Jvm.Cond.instanceMethod ({ cls := "java/lang/RuntimeException", name := "<init>", desc := "()V" } : Jvm.MethodName)) ∈ lw_all := lw_g (lw_at lw_m7 116 rfl) rfl
theorem q1668 : (Jvm.Cond.code ({ cls := "java/lang/RuntimeException", name := "<init>", desc := "()V" } : Jvm.MethodName) prog_46_method_1_code (1 : Nat) (Option.none : Option Jvm.ClassFile.FieldType)) ∈ lw_all := lw_g (lw_at lw_m7 117 rfl) rfl
theorem q1669 : (Jvm.Cond.methodLink "java/lang/RuntimeException" (1 : Nat) ({ cls := "java/lang/Exception", name := "<init>", desc := "()V" } : Jvm.MethodName)) ∈ lw_all := lw_g (lw_at lw_m7 118 rfl) rfl
theorem q1672 : (Jvm.Cond.methodLink "WornSkin" (319 : Nat) ({ cls := "WornSkin", name := "isRest", desc := "(ZZIII)Z" } : Jvm.MethodName)) ∈ lw_all := lw_g (lw_at lw_m7 121 rfl) rfl
theorem q1673 : (Jvm.Cond.static ({ cls := "WornSkin", name := "isRest", desc := "(ZZIII)Z" } : Jvm.MethodName)) ∈ lw_all := lw_g (lw_at lw_m7 122 rfl) rfl
theorem q1674 : (Jvm.Cond.code ({ cls := "WornSkin", name := "isRest", desc := "(ZZIII)Z" } : Jvm.MethodName) prog_1_method_52_code (5 : Nat) (Option.some Jvm.ClassFile.FieldType.boolean)) ∈ lw_all := lw_g (lw_at lw_m7 123 rfl) rfl
theorem q1675 : (Jvm.Cond.methodLink "WornSkin" (308 : Nat) ({ cls := "WornSkin", name := "gets", desc := "(ZZIII)I" } : Jvm.MethodName)) ∈ lw_all := lw_g (lw_at lw_m7 124 rfl) rfl
theorem q1676 : (Jvm.Cond.static ({ cls := "WornSkin", name := "gets", desc := "(ZZIII)I" } : Jvm.MethodName)) ∈ lw_all := lw_g (lw_at lw_m7 125 rfl) rfl
theorem q1677 : (Jvm.Cond.code ({ cls := "WornSkin", name := "gets", desc := "(ZZIII)I" } : Jvm.MethodName) prog_1_method_51_code (5 : Nat) (Option.some Jvm.ClassFile.FieldType.int)) ∈ lw_all := lw_g (lw_at lw_m7 126 rfl) rfl
theorem q1678 : (Jvm.Cond.classLink "WornSkinLaw" (16 : Nat) "WornSkinModel") ∈ lw_all := lw_g (lw_at lw_m7 127 rfl) rfl
theorem q1679 : (Jvm.Cond.instantiable "WornSkinModel" (59 : Nat)) ∈ lw_all := lw_g (lw_at lw_m7 128 rfl) rfl
theorem q1680 : (Jvm.Cond.methodLink "WornSkinLaw" (18 : Nat) ({ cls := "WornSkinModel", name := "<init>", desc := "()V" } : Jvm.MethodName)) ∈ lw_all := lw_g (lw_at lw_m7 129 rfl) rfl
theorem q1681 : (Jvm.Cond.instanceMethod ({ cls := "WornSkinModel", name := "<init>", desc := "()V" } : Jvm.MethodName)) ∈ lw_all := lw_g (lw_at lw_m7 130 rfl) rfl
theorem q1682 : (Jvm.Cond.code ({ cls := "WornSkinModel", name := "<init>", desc := "()V" } : Jvm.MethodName) prog_32_method_1_code (1 : Nat) (Option.none : Option Jvm.ClassFile.FieldType)) ∈ lw_all := lw_g (lw_at lw_m7 131 rfl) rfl
theorem q1683 : (Jvm.Cond.methodLink "WornSkinModel" (1 : Nat) ({ cls := "java/lang/Object", name := "<init>", desc := "()V" } : Jvm.MethodName)) ∈ lw_all := lw_g (lw_at lw_m7 132 rfl) rfl
theorem q1684 : (Jvm.Cond.fieldLink "WornSkinModel" (144 : Nat) "WornSkinModel" "thrown" "I") ∈ lw_all := lw_g (lw_at lw_m7 133 rfl) rfl
theorem q1685 : (Jvm.Cond.fieldLink "WornSkinModel" (150 : Nat) "WornSkinModel" "taped" "I") ∈ lw_all := lw_g (lw_at lw_m7 134 rfl) rfl
theorem q1686 : (Jvm.Cond.fieldLink "WornSkinModel" (7 : Nat) "WornSkinModel" "tape" "[I") ∈ lw_all := lw_g (lw_at lw_m7 135 rfl) rfl
theorem q1687 : (Jvm.Cond.fieldLink "WornSkinModel" (153 : Nat) "WornSkinModel" "size" "I") ∈ lw_all := lw_g (lw_at lw_m7 136 rfl) rfl
theorem q1688 : (Jvm.Cond.fieldLink "WornSkinModel" (156 : Nat) "WornSkinModel" "place" "I") ∈ lw_all := lw_g (lw_at lw_m7 137 rfl) rfl
theorem q1689 : (Jvm.Cond.fieldLink "WornSkinModel" (159 : Nat) "WornSkinModel" "begin" "I") ∈ lw_all := lw_g (lw_at lw_m7 138 rfl) rfl
theorem q1690 : (Jvm.Cond.fieldLink "WornSkinModel" (169 : Nat) "WornSkinModel" "token" "I") ∈ lw_all := lw_g (lw_at lw_m7 139 rfl) rfl
theorem q1691 : (Jvm.Cond.fieldLink "WornSkinModel" (162 : Nat) "WornSkinModel" "word" "J") ∈ lw_all := lw_g (lw_at lw_m7 140 rfl) rfl
theorem q1692 : (Jvm.Cond.fieldLink "WornSkinModel" (166 : Nat) "WornSkinModel" "told" "I") ∈ lw_all := lw_g (lw_at lw_m7 141 rfl) rfl
theorem q1693 : (Jvm.Cond.fieldLink "WornSkinModel" (180 : Nat) "WornSkinModel" "wrong" "I") ∈ lw_all := lw_g (lw_at lw_m7 142 rfl) rfl
theorem q1694 : (Jvm.Cond.fieldLink "WornSkinModel" (13 : Nat) "WornSkinModel" "library" "[I") ∈ lw_all := lw_g (lw_at lw_m7 143 rfl) rfl
theorem q1695 : (Jvm.Cond.fieldLink "WornSkinModel" (16 : Nat) "WornSkinModel" "skinName" "[J") ∈ lw_all := lw_g (lw_at lw_m7 144 rfl) rfl
theorem q1696 : (Jvm.Cond.fieldLink "WornSkinModel" (20 : Nat) "WornSkinModel" "textName" "[J") ∈ lw_all := lw_g (lw_at lw_m7 145 rfl) rfl
theorem q1697 : (Jvm.Cond.fieldLink "WornSkinModel" (23 : Nat) "WornSkinModel" "linesOf" "[I") ∈ lw_all := lw_g (lw_at lw_m7 146 rfl) rfl
theorem q1698 : (Jvm.Cond.fieldLink "WornSkinModel" (26 : Nat) "WornSkinModel" "thickTold" "[I") ∈ lw_all := lw_g (lw_at lw_m7 147 rfl) rfl
theorem q1699 : (Jvm.Cond.fieldLink "WornSkinModel" (29 : Nat) "WornSkinModel" "holes" "[I") ∈ lw_all := lw_g (lw_at lw_m7 148 rfl) rfl
theorem q1700 : (Jvm.Cond.fieldLink "WornSkinModel" (32 : Nat) "WornSkinModel" "kind" "[I") ∈ lw_all := lw_g (lw_at lw_m7 149 rfl) rfl
theorem q1701 : (Jvm.Cond.fieldLink "WornSkinModel" (35 : Nat) "WornSkinModel" "gall" "[I") ∈ lw_all := lw_g (lw_at lw_m7 150 rfl) rfl
theorem q1702 : (Jvm.Cond.fieldLink "WornSkinModel" (38 : Nat) "WornSkinModel" "long0" "[I") ∈ lw_all := lw_g (lw_at lw_m7 151 rfl) rfl
theorem q1703 : (Jvm.Cond.fieldLink "WornSkinModel" (41 : Nat) "WornSkinModel" "damp" "[I") ∈ lw_all := lw_g (lw_at lw_m7 152 rfl) rfl
theorem q1704 : (Jvm.Cond.fieldLink "WornSkinModel" (44 : Nat) "WornSkinModel" "lineFrom" "[I") ∈ lw_all := lw_g (lw_at lw_m7 153 rfl) rfl
theorem q1705 : (Jvm.Cond.fieldLink "WornSkinModel" (47 : Nat) "WornSkinModel" "lineTo" "[I") ∈ lw_all := lw_g (lw_at lw_m7 154 rfl) rfl
theorem q1706 : (Jvm.Cond.fieldLink "WornSkinModel" (50 : Nat) "WornSkinModel" "codes" "[I") ∈ lw_all := lw_g (lw_at lw_m7 155 rfl) rfl
theorem q1707 : (Jvm.Cond.fieldLink "WornSkinModel" (183 : Nat) "WornSkinModel" "code" "I") ∈ lw_all := lw_g (lw_at lw_m7 156 rfl) rfl
theorem q1708 : (Jvm.Cond.fieldLink "WornSkinModel" (53 : Nat) "WornSkinModel" "opened" "[I") ∈ lw_all := lw_g (lw_at lw_m7 157 rfl) rfl
theorem q1709 : (Jvm.Cond.fieldLink "WornSkinModel" (56 : Nat) "WornSkinModel" "compared" "[Z") ∈ lw_all := lw_g (lw_at lw_m7 158 rfl) rfl
theorem q1710 : (Jvm.Cond.fieldLink "WornSkinModel" (60 : Nat) "WornSkinModel" "kept" "[I") ∈ lw_all := lw_g (lw_at lw_m7 159 rfl) rfl
theorem q1711 : (Jvm.Cond.fieldLink "WornSkinModel" (63 : Nat) "WornSkinModel" "keptBy" "[I") ∈ lw_all := lw_g (lw_at lw_m7 160 rfl) rfl
theorem q1712 : (Jvm.Cond.fieldLink "WornSkinModel" (66 : Nat) "WornSkinModel" "ahead" "[I") ∈ lw_all := lw_g (lw_at lw_m7 161 rfl) rfl
theorem q1713 : (Jvm.Cond.fieldLink "WornSkinModel" (69 : Nat) "WornSkinModel" "against" "[I") ∈ lw_all := lw_g (lw_at lw_m7 162 rfl) rfl
theorem q1714 : (Jvm.Cond.fieldLink "WornSkinModel" (72 : Nat) "WornSkinModel" "sum" "[I") ∈ lw_all := lw_g (lw_at lw_m7 163 rfl) rfl
theorem q1715 : (Jvm.Cond.fieldLink "WornSkinModel" (75 : Nat) "WornSkinModel" "sumBy" "[I") ∈ lw_all := lw_g (lw_at lw_m7 164 rfl) rfl
theorem q1716 : (Jvm.Cond.fieldLink "WornSkinModel" (78 : Nat) "WornSkinModel" "term" "[I") ∈ lw_all := lw_g (lw_at lw_m7 165 rfl) rfl
theorem q1717 : (Jvm.Cond.fieldLink "WornSkinModel" (81 : Nat) "WornSkinModel" "termBy" "[I") ∈ lw_all := lw_g (lw_at lw_m7 166 rfl) rfl
theorem q1718 : (Jvm.Cond.fieldLink "WornSkinModel" (84 : Nat) "WornSkinModel" "byNot" "[I") ∈ lw_all := lw_g (lw_at lw_m7 167 rfl) rfl
theorem q1719 : (Jvm.Cond.fieldLink "WornSkinModel" (87 : Nat) "WornSkinModel" "valueOf" "[I") ∈ lw_all := lw_g (lw_at lw_m7 168 rfl) rfl
theorem q1720 : (Jvm.Cond.fieldLink "WornSkinModel" (269 : Nat) "WornSkinModel" "given" "I") ∈ lw_all := lw_g (lw_at lw_m7 169 rfl) rfl
theorem q1721 : (Jvm.Cond.fieldLink "WornSkinModel" (286 : Nat) "WornSkinModel" "fresh" "J") ∈ lw_all := lw_g (lw_at lw_m7 170 rfl) rfl
theorem q1722 : (Jvm.Cond.fieldLink "WornSkinModel" (90 : Nat) "WornSkinModel" "lines" "[I") ∈ lw_all := lw_g (lw_at lw_m7 171 rfl) rfl
theorem q1723 : (Jvm.Cond.fieldLink "WornSkinModel" (93 : Nat) "WornSkinModel" "lineWhat" "[I") ∈ lw_all := lw_g (lw_at lw_m7 172 rfl) rfl
theorem q1724 : (Jvm.Cond.fieldLink "WornSkinModel" (96 : Nat) "WornSkinModel" "lineA" "[I") ∈ lw_all := lw_g (lw_at lw_m7 173 rfl) rfl
theorem q1725 : (Jvm.Cond.fieldLink "WornSkinModel" (99 : Nat) "WornSkinModel" "lineB" "[I") ∈ lw_all := lw_g (lw_at lw_m7 174 rfl) rfl
theorem q1726 : (Jvm.Cond.fieldLink "WornSkinModel" (102 : Nat) "WornSkinModel" "lineC" "[I") ∈ lw_all := lw_g (lw_at lw_m7 175 rfl) rfl
theorem q1727 : (Jvm.Cond.fieldLink "WornSkinModel" (105 : Nat) "WornSkinModel" "seens" "[I") ∈ lw_all := lw_g (lw_at lw_m7 176 rfl) rfl
theorem q1728 : (Jvm.Cond.fieldLink "WornSkinModel" (108 : Nat) "WornSkinModel" "seenSkin" "[I") ∈ lw_all := lw_g (lw_at lw_m7 177 rfl) rfl
theorem q1729 : (Jvm.Cond.fieldLink "WornSkinModel" (111 : Nat) "WornSkinModel" "seenDeep" "[I") ∈ lw_all := lw_g (lw_at lw_m7 178 rfl) rfl
theorem q1730 : (Jvm.Cond.fieldLink "WornSkinModel" (114 : Nat) "WornSkinModel" "seenDamp" "[I") ∈ lw_all := lw_g (lw_at lw_m7 179 rfl) rfl
theorem q1731 : (Jvm.Cond.fieldLink "WornSkinModel" (117 : Nat) "WornSkinModel" "seenShows" "[Z") ∈ lw_all := lw_g (lw_at lw_m7 180 rfl) rfl
theorem q1732 : (Jvm.Cond.fieldLink "WornSkinModel" (120 : Nat) "WornSkinModel" "s" "[I") ∈ lw_all := lw_g (lw_at lw_m7 181 rfl) rfl
theorem q1733 : (Jvm.Cond.fieldLink "WornSkinModel" (123 : Nat) "WornSkinModel" "aside" "[I") ∈ lw_all := lw_g (lw_at lw_m7 182 rfl) rfl
theorem q1734 : (Jvm.Cond.fieldLink "WornSkinModel" (126 : Nat) "WornSkinModel" "before" "[I") ∈ lw_all := lw_g (lw_at lw_m7 183 rfl) rfl
theorem q1735 : (Jvm.Cond.fieldLink "WornSkinModel" (129 : Nat) "WornSkinModel" "marked" "[I") ∈ lw_all := lw_g (lw_at lw_m7 184 rfl) rfl
theorem q1736 : (Jvm.Cond.fieldLink "WornSkinModel" (132 : Nat) "WornSkinModel" "undone" "[I") ∈ lw_all := lw_g (lw_at lw_m7 185 rfl) rfl
theorem q1737 : (Jvm.Cond.fieldLink "WornSkinModel" (135 : Nat) "WornSkinModel" "isLaid" "[Z") ∈ lw_all := lw_g (lw_at lw_m7 186 rfl) rfl
theorem q1738 : (Jvm.Cond.fieldLink "WornSkinModel" (343 : Nat) "WornSkinModel" "done" "I") ∈ lw_all := lw_g (lw_at lw_m7 187 rfl) rfl
theorem q1739 : (Jvm.Cond.fieldLink "WornSkinModel" (138 : Nat) "WornSkinModel" "row" "[I") ∈ lw_all := lw_g (lw_at lw_m7 188 rfl) rfl
theorem q1740 : (Jvm.Cond.fieldLink "WornSkinModel" (141 : Nat) "WornSkinModel" "bestRow" "[I") ∈ lw_all := lw_g (lw_at lw_m7 189 rfl) rfl
theorem q1741 : (Jvm.Cond.fieldLink "WornSkinModel" (439 : Nat) "WornSkinModel" "most" "I") ∈ lw_all := lw_g (lw_at lw_m7 190 rfl) rfl
theorem q1742 : (Jvm.Cond.fieldLink "WornSkinModel" (462 : Nat) "WornSkinModel" "g" "J") ∈ lw_all := lw_g (lw_at lw_m7 191 rfl) rfl
theorem q1862 : (Jvm.Cond.arrayClass Jvm.ClassFile.FieldType.boolean) ∈ lw_all := lw_g (lw_at lw_m8 71 rfl) rfl
theorem q1863 : (Jvm.Cond.methodLink "WornSkinLaw" (163 : Nat) ({ cls := "WornSkinModel", name := "thrown", desc := "()I" } : Jvm.MethodName)) ∈ lw_all := lw_g (lw_at lw_m8 72 rfl) rfl
theorem q1864 : (Jvm.Cond.instanceMethod ({ cls := "WornSkinModel", name := "thrown", desc := "()I" } : Jvm.MethodName)) ∈ lw_all := lw_g (lw_at lw_m8 73 rfl) rfl
theorem q1865 : (Jvm.Cond.selects "WornSkinModel" ({ cls := "WornSkinModel", name := "thrown", desc := "()I" } : Jvm.MethodName) ({ cls := "WornSkinModel", name := "thrown", desc := "()I" } : Jvm.MethodName)) ∈ lw_all := lw_g (lw_at lw_m8 74 rfl) rfl
theorem q1866 : (Jvm.Cond.code ({ cls := "WornSkinModel", name := "thrown", desc := "()I" } : Jvm.MethodName) prog_32_method_2_code (1 : Nat) (Option.some Jvm.ClassFile.FieldType.int)) ∈ lw_all := lw_g (lw_at lw_m8 75 rfl) rfl
theorem q1867 : (Jvm.Cond.methodLink "WornSkinLaw" (25 : Nat) ({ cls := "WornSkinModel", name := "feed", desc := "(JJJ)I" } : Jvm.MethodName)) ∈ lw_all := lw_g (lw_at lw_m8 76 rfl) rfl
theorem q1868 : (Jvm.Cond.instanceMethod ({ cls := "WornSkinModel", name := "feed", desc := "(JJJ)I" } : Jvm.MethodName)) ∈ lw_all := lw_g (lw_at lw_m8 77 rfl) rfl
theorem q1869 : (Jvm.Cond.selects "WornSkinModel" ({ cls := "WornSkinModel", name := "feed", desc := "(JJJ)I" } : Jvm.MethodName) ({ cls := "WornSkinModel", name := "feed", desc := "(JJJ)I" } : Jvm.MethodName)) ∈ lw_all := lw_g (lw_at lw_m8 78 rfl) rfl
theorem q1870 : (Jvm.Cond.code ({ cls := "WornSkinModel", name := "feed", desc := "(JJJ)I" } : Jvm.MethodName) prog_32_method_5_code (11 : Nat) (Option.some Jvm.ClassFile.FieldType.int)) ∈ lw_all := lw_g (lw_at lw_m8 79 rfl) rfl
theorem q1871 : (Jvm.Cond.constantLong "WornSkinModel" (148 : Nat) (255 : Int64)) ∈ lw_all := lw_g (lw_at lw_m8 80 rfl) rfl
theorem q1872 : (Jvm.Cond.methodLink "WornSkinLaw" (30 : Nat) ({ cls := "WornSkinModel", name := "library", desc := "()I" } : Jvm.MethodName)) ∈ lw_all := lw_g (lw_at lw_m8 81 rfl) rfl
theorem q1873 : (Jvm.Cond.instanceMethod ({ cls := "WornSkinModel", name := "library", desc := "()I" } : Jvm.MethodName)) ∈ lw_all := lw_g (lw_at lw_m8 82 rfl) rfl
theorem q1874 : (Jvm.Cond.selects "WornSkinModel" ({ cls := "WornSkinModel", name := "library", desc := "()I" } : Jvm.MethodName) ({ cls := "WornSkinModel", name := "library", desc := "()I" } : Jvm.MethodName)) ∈ lw_all := lw_g (lw_at lw_m8 83 rfl) rfl
theorem q1875 : (Jvm.Cond.code ({ cls := "WornSkinModel", name := "library", desc := "()I" } : Jvm.MethodName) prog_32_method_42_code (2 : Nat) (Option.some Jvm.ClassFile.FieldType.int)) ∈ lw_all := lw_g (lw_at lw_m8 84 rfl) rfl
theorem q1876 : (Jvm.Cond.methodLink "WornSkinModel" (334 : Nat) ({ cls := "WornSkinModel", name := "readsAll", desc := "()Z" } : Jvm.MethodName)) ∈ lw_all := lw_g (lw_at lw_m8 85 rfl) rfl
theorem q1878 : (Jvm.Cond.instanceMethod ({ cls := "WornSkinModel", name := "readsAll", desc := "()Z" } : Jvm.MethodName)) ∈ lw_all := lw_g (lw_at lw_m8 87 rfl) rfl
theorem q1879 : (Jvm.Cond.code ({ cls := "WornSkinModel", name := "readsAll", desc := "()Z" } : Jvm.MethodName) prog_32_method_33_code (2 : Nat) (Option.some Jvm.ClassFile.FieldType.boolean)) ∈ lw_all := lw_g (lw_at lw_m8 88 rfl) rfl
theorem q1880 : (Jvm.Cond.methodLink "WornSkinModel" (305 : Nat) ({ cls := "WornSkinModel", name := "begins", desc := "()V" } : Jvm.MethodName)) ∈ lw_all := lw_g (lw_at lw_m8 89 rfl) rfl
theorem q1882 : (Jvm.Cond.instanceMethod ({ cls := "WornSkinModel", name := "begins", desc := "()V" } : Jvm.MethodName)) ∈ lw_all := lw_g (lw_at lw_m8 91 rfl) rfl
theorem q1883 : (Jvm.Cond.code ({ cls := "WornSkinModel", name := "begins", desc := "()V" } : Jvm.MethodName) prog_32_method_32_code (1 : Nat) (Option.none : Option Jvm.ClassFile.FieldType)) ∈ lw_all := lw_g (lw_at lw_m8 92 rfl) rfl
theorem q1884 : (Jvm.Cond.methodLink "WornSkinModel" (215 : Nat) ({ cls := "WornSkinModel", name := "nextToken", desc := "()V" } : Jvm.MethodName)) ∈ lw_all := lw_g (lw_at lw_m8 93 rfl) rfl
theorem q1886 : (Jvm.Cond.instanceMethod ({ cls := "WornSkinModel", name := "nextToken", desc := "()V" } : Jvm.MethodName)) ∈ lw_all := lw_g (lw_at lw_m8 95 rfl) rfl
theorem q1887 : (Jvm.Cond.code ({ cls := "WornSkinModel", name := "nextToken", desc := "()V" } : Jvm.MethodName) prog_32_method_7_code (2 : Nat) (Option.none : Option Jvm.ClassFile.FieldType)) ∈ lw_all := lw_g (lw_at lw_m8 96 rfl) rfl
theorem q1888 : (Jvm.Cond.methodLink "WornSkinModel" (172 : Nat) ({ cls := "WornSkinModel", name := "signAt", desc := "(I)I" } : Jvm.MethodName)) ∈ lw_all := lw_g (lw_at lw_m8 97 rfl) rfl
theorem q1890 : (Jvm.Cond.instanceMethod ({ cls := "WornSkinModel", name := "signAt", desc := "(I)I" } : Jvm.MethodName)) ∈ lw_all := lw_g (lw_at lw_m8 99 rfl) rfl
theorem q1891 : (Jvm.Cond.code ({ cls := "WornSkinModel", name := "signAt", desc := "(I)I" } : Jvm.MethodName) prog_32_method_6_code (2 : Nat) (Option.some Jvm.ClassFile.FieldType.int)) ∈ lw_all := lw_g (lw_at lw_m8 100 rfl) rfl
theorem q1892 : (Jvm.Cond.constantLong "WornSkinModel" (176 : Nat) (27 : Int64)) ∈ lw_all := lw_g (lw_at lw_m8 101 rfl) rfl
theorem q1893 : (Jvm.Cond.constantLong "WornSkinModel" (178 : Nat) (96 : Int64)) ∈ lw_all := lw_g (lw_at lw_m8 102 rfl) rfl
theorem q1894 : (Jvm.Cond.constantLong "WornSkinModel" (231 : Nat) (382253 : Int64)) ∈ lw_all := lw_g (lw_at lw_m8 103 rfl) rfl
theorem q1895 : (Jvm.Cond.methodLink "WornSkinModel" (200 : Nat) ({ cls := "WornSkinModel", name := "isWord", desc := "(J)Z" } : Jvm.MethodName)) ∈ lw_all := lw_g (lw_at lw_m8 104 rfl) rfl
theorem q1897 : (Jvm.Cond.instanceMethod ({ cls := "WornSkinModel", name := "isWord", desc := "(J)Z" } : Jvm.MethodName)) ∈ lw_all := lw_g (lw_at lw_m8 106 rfl) rfl
theorem q1898 : (Jvm.Cond.code ({ cls := "WornSkinModel", name := "isWord", desc := "(J)Z" } : Jvm.MethodName) prog_32_method_8_code (3 : Nat) (Option.some Jvm.ClassFile.FieldType.boolean)) ∈ lw_all := lw_g (lw_at lw_m8 107 rfl) rfl
theorem q1899 : (Jvm.Cond.methodLink "WornSkinModel" (308 : Nat) ({ cls := "WornSkinModel", name := "readsSkin", desc := "()Z" } : Jvm.MethodName)) ∈ lw_all := lw_g (lw_at lw_m8 108 rfl) rfl
theorem q1901 : (Jvm.Cond.instanceMethod ({ cls := "WornSkinModel", name := "readsSkin", desc := "()Z" } : Jvm.MethodName)) ∈ lw_all := lw_g (lw_at lw_m8 110 rfl) rfl
theorem q1902 : (Jvm.Cond.code ({ cls := "WornSkinModel", name := "readsSkin", desc := "()Z" } : Jvm.MethodName) prog_32_method_27_code (2 : Nat) (Option.some Jvm.ClassFile.FieldType.boolean)) ∈ lw_all := lw_g (lw_at lw_m8 111 rfl) rfl
theorem q1903 : (Jvm.Cond.methodLink "WornSkinModel" (208 : Nat) ({ cls := "WornSkinModel", name := "fails", desc := "(I)Z" } : Jvm.MethodName)) ∈ lw_all := lw_g (lw_at lw_m8 112 rfl) rfl
theorem q1905 : (Jvm.Cond.instanceMethod ({ cls := "WornSkinModel", name := "fails", desc := "(I)Z" } : Jvm.MethodName)) ∈ lw_all := lw_g (lw_at lw_m8 114 rfl) rfl
theorem q1906 : (Jvm.Cond.code ({ cls := "WornSkinModel", name := "fails", desc := "(I)Z" } : Jvm.MethodName) prog_32_method_10_code (2 : Nat) (Option.some Jvm.ClassFile.FieldType.boolean)) ∈ lw_all := lw_g (lw_at lw_m8 115 rfl) rfl
theorem q1907 : (Jvm.Cond.methodLink "WornSkinModel" (289 : Nat) ({ cls := "WornSkinModel", name := "needsNew", desc := "()Z" } : Jvm.MethodName)) ∈ lw_all := lw_g (lw_at lw_m8 116 rfl) rfl
theorem q1909 : (Jvm.Cond.instanceMethod ({ cls := "WornSkinModel", name := "needsNew", desc := "()Z" } : Jvm.MethodName)) ∈ lw_all := lw_g (lw_at lw_m8 118 rfl) rfl
theorem q1910 : (Jvm.Cond.code ({ cls := "WornSkinModel", name := "needsNew", desc := "()Z" } : Jvm.MethodName) prog_32_method_24_code (1 : Nat) (Option.some Jvm.ClassFile.FieldType.boolean)) ∈ lw_all := lw_g (lw_at lw_m8 119 rfl) rfl
theorem q1911 : (Jvm.Cond.methodLink "WornSkinModel" (276 : Nat) ({ cls := "WornSkinModel", name := "isKept", desc := "()Z" } : Jvm.MethodName)) ∈ lw_all := lw_g (lw_at lw_m8 120 rfl) rfl
theorem q1913 : (Jvm.Cond.instanceMethod ({ cls := "WornSkinModel", name := "isKept", desc := "()Z" } : Jvm.MethodName)) ∈ lw_all := lw_g (lw_at lw_m8 122 rfl) rfl
theorem q1914 : (Jvm.Cond.code ({ cls := "WornSkinModel", name := "isKept", desc := "()Z" } : Jvm.MethodName) prog_32_method_18_code (1 : Nat) (Option.some Jvm.ClassFile.FieldType.boolean)) ∈ lw_all := lw_g (lw_at lw_m8 123 rfl) rfl
theorem q1915 : (Jvm.Cond.constantLong "WornSkinModel" (233 : Nat) (6564799 : Int64)) ∈ lw_all := lw_g (lw_at lw_m8 124 rfl) rfl
theorem q1916 : (Jvm.Cond.constantLong "WornSkinModel" (235 : Nat) (10792937 : Int64)) ∈ lw_all := lw_g (lw_at lw_m8 125 rfl) rfl
theorem q1917 : (Jvm.Cond.constantLong "WornSkinModel" (237 : Nat) (168728 : Int64)) ∈ lw_all := lw_g (lw_at lw_m8 126 rfl) rfl
theorem q1918 : (Jvm.Cond.constantLong "WornSkinModel" (239 : Nat) (397973 : Int64)) ∈ lw_all := lw_g (lw_at lw_m8 127 rfl) rfl
theorem q1919 : (Jvm.Cond.constantLong "WornSkinModel" (241 : Nat) (79828 : Int64)) ∈ lw_all := lw_g (lw_at lw_m8 128 rfl) rfl
theorem q1920 : (Jvm.Cond.constantLong "WornSkinModel" (243 : Nat) (10266418 : Int64)) ∈ lw_all := lw_g (lw_at lw_m8 129 rfl) rfl
theorem q1921 : (Jvm.Cond.constantLong "WornSkinModel" (245 : Nat) (12584543 : Int64)) ∈ lw_all := lw_g (lw_at lw_m8 130 rfl) rfl
theorem q1922 : (Jvm.Cond.constantLong "WornSkinModel" (247 : Nat) (274579016 : Int64)) ∈ lw_all := lw_g (lw_at lw_m8 131 rfl) rfl
theorem q1923 : (Jvm.Cond.constantLong "WornSkinModel" (249 : Nat) (10793335 : Int64)) ∈ lw_all := lw_g (lw_at lw_m8 132 rfl) rfl
theorem q1924 : (Jvm.Cond.constantLong "WornSkinModel" (251 : Nat) (456500 : Int64)) ∈ lw_all := lw_g (lw_at lw_m8 133 rfl) rfl
theorem q1925 : (Jvm.Cond.constantLong "WornSkinModel" (253 : Nat) (138846 : Int64)) ∈ lw_all := lw_g (lw_at lw_m8 134 rfl) rfl
theorem q1926 : (Jvm.Cond.constantLong "WornSkinModel" (255 : Nat) (385337 : Int64)) ∈ lw_all := lw_g (lw_at lw_m8 135 rfl) rfl
theorem q1927 : (Jvm.Cond.constantLong "WornSkinModel" (257 : Nat) (1277953191 : Int64)) ∈ lw_all := lw_g (lw_at lw_m8 136 rfl) rfl
theorem q1928 : (Jvm.Cond.constantLong "WornSkinModel" (259 : Nat) (8878099 : Int64)) ∈ lw_all := lw_g (lw_at lw_m8 137 rfl) rfl
theorem q1929 : (Jvm.Cond.constantLong "WornSkinModel" (261 : Nat) (261003578 : Int64)) ∈ lw_all := lw_g (lw_at lw_m8 138 rfl) rfl
theorem q1930 : (Jvm.Cond.constantLong "WornSkinModel" (263 : Nat) (296522 : Int64)) ∈ lw_all := lw_g (lw_at lw_m8 139 rfl) rfl
theorem q1931 : (Jvm.Cond.constantLong "WornSkinModel" (198 : Nat) (10631 : Int64)) ∈ lw_all := lw_g (lw_at lw_m8 140 rfl) rfl
theorem q1932 : (Jvm.Cond.constantLong "WornSkinModel" (218 : Nat) (1111 : Int64)) ∈ lw_all := lw_g (lw_at lw_m8 141 rfl) rfl
theorem q1933 : (Jvm.Cond.constantLong "WornSkinModel" (220 : Nat) (423 : Int64)) ∈ lw_all := lw_g (lw_at lw_m8 142 rfl) rfl
theorem q1934 : (Jvm.Cond.methodLink "WornSkinModel" (280 : Nat) ({ cls := "WornSkinModel", name := "skinNamed", desc := "(I)I" } : Jvm.MethodName)) ∈ lw_all := lw_g (lw_at lw_m8 143 rfl) rfl
theorem q1936 : (Jvm.Cond.instanceMethod ({ cls := "WornSkinModel", name := "skinNamed", desc := "(I)I" } : Jvm.MethodName)) ∈ lw_all := lw_g (lw_at lw_m8 145 rfl) rfl
theorem q1937 : (Jvm.Cond.code ({ cls := "WornSkinModel", name := "skinNamed", desc := "(I)I" } : Jvm.MethodName) prog_32_method_19_code (3 : Nat) (Option.some Jvm.ClassFile.FieldType.int)) ∈ lw_all := lw_g (lw_at lw_m8 146 rfl) rfl
theorem q1938 : (Jvm.Cond.methodLink "WornSkinModel" (283 : Nat) ({ cls := "WornSkinModel", name := "textNamed", desc := "(I)I" } : Jvm.MethodName)) ∈ lw_all := lw_g (lw_at lw_m8 147 rfl) rfl
theorem q1940 : (Jvm.Cond.instanceMethod ({ cls := "WornSkinModel", name := "textNamed", desc := "(I)I" } : Jvm.MethodName)) ∈ lw_all := lw_g (lw_at lw_m8 149 rfl) rfl
theorem q1941 : (Jvm.Cond.code ({ cls := "WornSkinModel", name := "textNamed", desc := "(I)I" } : Jvm.MethodName) prog_32_method_20_code (3 : Nat) (Option.some Jvm.ClassFile.FieldType.int)) ∈ lw_all := lw_g (lw_at lw_m8 150 rfl) rfl
theorem q1942 : (Jvm.Cond.methodLink "WornSkinModel" (292 : Nat) ({ cls := "WornSkinModel", name := "needsBoth", desc := "(JII)Z" } : Jvm.MethodName)) ∈ lw_all := lw_g (lw_at lw_m8 151 rfl) rfl
theorem q1944 : (Jvm.Cond.instanceMethod ({ cls := "WornSkinModel", name := "needsBoth", desc := "(JII)Z" } : Jvm.MethodName)) ∈ lw_all := lw_g (lw_at lw_m8 153 rfl) rfl
theorem q1945 : (Jvm.Cond.code ({ cls := "WornSkinModel", name := "needsBoth", desc := "(JII)Z" } : Jvm.MethodName) prog_32_method_22_code (5 : Nat) (Option.some Jvm.ClassFile.FieldType.boolean)) ∈ lw_all := lw_g (lw_at lw_m8 154 rfl) rfl
theorem q1946 : (Jvm.Cond.methodLink "WornSkinModel" (272 : Nat) ({ cls := "WornSkinModel", name := "needsNumber", desc := "(II)Z" } : Jvm.MethodName)) ∈ lw_all := lw_g (lw_at lw_m8 155 rfl) rfl
theorem q1948 : (Jvm.Cond.instanceMethod ({ cls := "WornSkinModel", name := "needsNumber", desc := "(II)Z" } : Jvm.MethodName)) ∈ lw_all := lw_g (lw_at lw_m8 157 rfl) rfl
theorem q1949 : (Jvm.Cond.code ({ cls := "WornSkinModel", name := "needsNumber", desc := "(II)Z" } : Jvm.MethodName) prog_32_method_21_code (3 : Nat) (Option.some Jvm.ClassFile.FieldType.boolean)) ∈ lw_all := lw_g (lw_at lw_m8 158 rfl) rfl
theorem q1950 : (Jvm.Cond.methodLink "WornSkinModel" (265 : Nat) ({ cls := "WornSkinModel", name := "within", desc := "(III)Z" } : Jvm.MethodName)) ∈ lw_all := lw_g (lw_at lw_m8 159 rfl) rfl
theorem q1951 : (Jvm.Cond.static ({ cls := "WornSkinModel", name := "within", desc := "(III)Z" } : Jvm.MethodName)) ∈ lw_all := lw_g (lw_at lw_m8 160 rfl) rfl
theorem q1952 : (Jvm.Cond.code ({ cls := "WornSkinModel", name := "within", desc := "(III)Z" } : Jvm.MethodName) prog_32_method_3_code (3 : Nat) (Option.some Jvm.ClassFile.FieldType.boolean)) ∈ lw_all := lw_g (lw_at lw_m8 161 rfl) rfl
theorem q1953 : (Jvm.Cond.methodLink "WornSkinModel" (296 : Nat) ({ cls := "WornSkinModel", name := "closes", desc := "()Z" } : Jvm.MethodName)) ∈ lw_all := lw_g (lw_at lw_m8 162 rfl) rfl
theorem q1955 : (Jvm.Cond.instanceMethod ({ cls := "WornSkinModel", name := "closes", desc := "()Z" } : Jvm.MethodName)) ∈ lw_all := lw_g (lw_at lw_m8 164 rfl) rfl
theorem q1956 : (Jvm.Cond.code ({ cls := "WornSkinModel", name := "closes", desc := "()Z" } : Jvm.MethodName) prog_32_method_23_code (1 : Nat) (Option.some Jvm.ClassFile.FieldType.boolean)) ∈ lw_all := lw_g (lw_at lw_m8 165 rfl) rfl
theorem q1957 : (Jvm.Cond.methodLink "WornSkinModel" (204 : Nat) ({ cls := "WornSkinModel", name := "isSign", desc := "(I)Z" } : Jvm.MethodName)) ∈ lw_all := lw_g (lw_at lw_m8 166 rfl) rfl
theorem q1959 : (Jvm.Cond.instanceMethod ({ cls := "WornSkinModel", name := "isSign", desc := "(I)Z" } : Jvm.MethodName)) ∈ lw_all := lw_g (lw_at lw_m8 168 rfl) rfl
theorem q1960 : (Jvm.Cond.code ({ cls := "WornSkinModel", name := "isSign", desc := "(I)Z" } : Jvm.MethodName) prog_32_method_9_code (2 : Nat) (Option.some Jvm.ClassFile.FieldType.boolean)) ∈ lw_all := lw_g (lw_at lw_m8 169 rfl) rfl
theorem q1961 : (Jvm.Cond.methodLink "WornSkinModel" (311 : Nat) ({ cls := "WornSkinModel", name := "readsHole", desc := "()Z" } : Jvm.MethodName)) ∈ lw_all := lw_g (lw_at lw_m8 170 rfl) rfl
theorem q1963 : (Jvm.Cond.instanceMethod ({ cls := "WornSkinModel", name := "readsHole", desc := "()Z" } : Jvm.MethodName)) ∈ lw_all := lw_g (lw_at lw_m8 172 rfl) rfl
theorem q1964 : (Jvm.Cond.code ({ cls := "WornSkinModel", name := "readsHole", desc := "()Z" } : Jvm.MethodName) prog_32_method_28_code (2 : Nat) (Option.some Jvm.ClassFile.FieldType.boolean)) ∈ lw_all := lw_g (lw_at lw_m8 173 rfl) rfl
theorem q1965 : (Jvm.Cond.methodLink "WornSkinModel" (299 : Nat) ({ cls := "WornSkinModel", name := "needsSkin", desc := "(I)Z" } : Jvm.MethodName)) ∈ lw_all := lw_g (lw_at lw_m8 174 rfl) rfl
theorem q1967 : (Jvm.Cond.instanceMethod ({ cls := "WornSkinModel", name := "needsSkin", desc := "(I)Z" } : Jvm.MethodName)) ∈ lw_all := lw_g (lw_at lw_m8 176 rfl) rfl
theorem q1968 : (Jvm.Cond.code ({ cls := "WornSkinModel", name := "needsSkin", desc := "(I)Z" } : Jvm.MethodName) prog_32_method_25_code (2 : Nat) (Option.some Jvm.ClassFile.FieldType.boolean)) ∈ lw_all := lw_g (lw_at lw_m8 177 rfl) rfl
theorem q1969 : (Jvm.Cond.methodLink "WornSkinModel" (314 : Nat) ({ cls := "WornSkinModel", name := "readsText", desc := "()Z" } : Jvm.MethodName)) ∈ lw_all := lw_g (lw_at lw_m8 178 rfl) rfl
theorem q1971 : (Jvm.Cond.instanceMethod ({ cls := "WornSkinModel", name := "readsText", desc := "()Z" } : Jvm.MethodName)) ∈ lw_all := lw_g (lw_at lw_m8 180 rfl) rfl
theorem q1972 : (Jvm.Cond.code ({ cls := "WornSkinModel", name := "readsText", desc := "()Z" } : Jvm.MethodName) prog_32_method_29_code (2 : Nat) (Option.some Jvm.ClassFile.FieldType.boolean)) ∈ lw_all := lw_g (lw_at lw_m8 181 rfl) rfl
theorem q1973 : (Jvm.Cond.methodLink "WornSkinModel" (317 : Nat) ({ cls := "WornSkinModel", name := "readsDamp", desc := "()Z" } : Jvm.MethodName)) ∈ lw_all := lw_g (lw_at lw_m8 182 rfl) rfl
theorem q1975 : (Jvm.Cond.instanceMethod ({ cls := "WornSkinModel", name := "readsDamp", desc := "()Z" } : Jvm.MethodName)) ∈ lw_all := lw_g (lw_at lw_m8 184 rfl) rfl
theorem q1976 : (Jvm.Cond.code ({ cls := "WornSkinModel", name := "readsDamp", desc := "()Z" } : Jvm.MethodName) prog_32_method_30_code (1 : Nat) (Option.some Jvm.ClassFile.FieldType.boolean)) ∈ lw_all := lw_g (lw_at lw_m8 185 rfl) rfl
theorem q1977 : (Jvm.Cond.methodLink "WornSkinModel" (320 : Nat) ({ cls := "WornSkinModel", name := "readsShows", desc := "()Z" } : Jvm.MethodName)) ∈ lw_all := lw_g (lw_at lw_m8 186 rfl) rfl
theorem q1979 : (Jvm.Cond.instanceMethod ({ cls := "WornSkinModel", name := "readsShows", desc := "()Z" } : Jvm.MethodName)) ∈ lw_all := lw_g (lw_at lw_m8 188 rfl) rfl
theorem q1980 : (Jvm.Cond.code ({ cls := "WornSkinModel", name := "readsShows", desc := "()Z" } : Jvm.MethodName) prog_32_method_31_code (1 : Nat) (Option.some Jvm.ClassFile.FieldType.boolean)) ∈ lw_all := lw_g (lw_at lw_m8 189 rfl) rfl
theorem q1981 : (Jvm.Cond.methodLink "WornSkinModel" (302 : Nat) ({ cls := "WornSkinModel", name := "reads", desc := "()Z" } : Jvm.MethodName)) ∈ lw_all := lw_g (lw_at lw_m8 190 rfl) rfl
theorem q1983 : (Jvm.Cond.instanceMethod ({ cls := "WornSkinModel", name := "reads", desc := "()Z" } : Jvm.MethodName)) ∈ lw_all := lw_g (lw_at lw_m8 192 rfl) rfl
theorem q1984 : (Jvm.Cond.code ({ cls := "WornSkinModel", name := "reads", desc := "()Z" } : Jvm.MethodName) prog_32_method_13_code (6 : Nat) (Option.some Jvm.ClassFile.FieldType.boolean)) ∈ lw_all := lw_g (lw_at lw_m8 193 rfl) rfl
theorem q1985 : (Jvm.Cond.methodLink "WornSkinModel" (194 : Nat) ({ cls := "WornSkinModel", name := "fact", desc := "()I" } : Jvm.MethodName)) ∈ lw_all := lw_g (lw_at lw_m8 194 rfl) rfl
theorem q1987 : (Jvm.Cond.instanceMethod ({ cls := "WornSkinModel", name := "fact", desc := "()I" } : Jvm.MethodName)) ∈ lw_all := lw_g (lw_at lw_m8 196 rfl) rfl
theorem q1988 : (Jvm.Cond.code ({ cls := "WornSkinModel", name := "fact", desc := "()I" } : Jvm.MethodName) prog_32_method_12_code (1 : Nat) (Option.some Jvm.ClassFile.FieldType.int)) ∈ lw_all := lw_g (lw_at lw_m8 197 rfl) rfl
theorem q1989 : (Jvm.Cond.constantLong "WornSkinModel" (186 : Nat) (16922 : Int64)) ∈ lw_all := lw_g (lw_at lw_m8 198 rfl) rfl
theorem q1990 : (Jvm.Cond.constantLong "WornSkinModel" (188 : Nat) (82528 : Int64)) ∈ lw_all := lw_g (lw_at lw_m8 199 rfl) rfl
theorem q1991 : (Jvm.Cond.constantLong "WornSkinModel" (190 : Nat) (46472 : Int64)) ∈ lw_all := lw_g (lw_at lw_m8 200 rfl) rfl
theorem q1992 : (Jvm.Cond.constantLong "WornSkinModel" (192 : Nat) (399749 : Int64)) ∈ lw_all := lw_g (lw_at lw_m8 201 rfl) rfl
theorem q1993 : (Jvm.Cond.methodLink "WornSkinModel" (211 : Nat) ({ cls := "WornSkinModel", name := "puts", desc := "(I)V" } : Jvm.MethodName)) ∈ lw_all := lw_g (lw_at lw_m8 202 rfl) rfl
theorem q1995 : (Jvm.Cond.instanceMethod ({ cls := "WornSkinModel", name := "puts", desc := "(I)V" } : Jvm.MethodName)) ∈ lw_all := lw_g (lw_at lw_m8 204 rfl) rfl
theorem q1996 : (Jvm.Cond.code ({ cls := "WornSkinModel", name := "puts", desc := "(I)V" } : Jvm.MethodName) prog_32_method_11_code (2 : Nat) (Option.none : Option Jvm.ClassFile.FieldType)) ∈ lw_all := lw_g (lw_at lw_m8 205 rfl) rfl
theorem q1997 : (Jvm.Cond.methodLink "WornSkinModel" (337 : Nat) ({ cls := "WornSkinModel", name := "lays", desc := "()V" } : Jvm.MethodName)) ∈ lw_all := lw_g (lw_at lw_m8 206 rfl) rfl
theorem q1999 : (Jvm.Cond.instanceMethod ({ cls := "WornSkinModel", name := "lays", desc := "()V" } : Jvm.MethodName)) ∈ lw_all := lw_g (lw_at lw_m8 208 rfl) rfl
theorem q2000 : (Jvm.Cond.code ({ cls := "WornSkinModel", name := "lays", desc := "()V" } : Jvm.MethodName) prog_32_method_36_code (1 : Nat) (Option.none : Option Jvm.ClassFile.FieldType)) ∈ lw_all := lw_g (lw_at lw_m8 209 rfl) rfl
theorem q2001 : (Jvm.Cond.methodLink "WornSkinModel" (323 : Nat) ({ cls := "WornSkinModel", name := "shifts", desc := "([II)V" } : Jvm.MethodName)) ∈ lw_all := lw_g (lw_at lw_m8 210 rfl) rfl
theorem q2002 : (Jvm.Cond.static ({ cls := "WornSkinModel", name := "shifts", desc := "([II)V" } : Jvm.MethodName)) ∈ lw_all := lw_g (lw_at lw_m8 211 rfl) rfl
theorem q2003 : (Jvm.Cond.code ({ cls := "WornSkinModel", name := "shifts", desc := "([II)V" } : Jvm.MethodName) prog_32_method_34_code (3 : Nat) (Option.none : Option Jvm.ClassFile.FieldType)) ∈ lw_all := lw_g (lw_at lw_m8 212 rfl) rfl
theorem q2004 : (Jvm.Cond.methodLink "WornSkinModel" (327 : Nat) ({ cls := "WornSkinModel", name := "shiftsNames", desc := "([JI)V" } : Jvm.MethodName)) ∈ lw_all := lw_g (lw_at lw_m8 213 rfl) rfl
theorem q2005 : (Jvm.Cond.static ({ cls := "WornSkinModel", name := "shiftsNames", desc := "([JI)V" } : Jvm.MethodName)) ∈ lw_all := lw_g (lw_at lw_m8 214 rfl) rfl
theorem q2006 : (Jvm.Cond.code ({ cls := "WornSkinModel", name := "shiftsNames", desc := "([JI)V" } : Jvm.MethodName) prog_32_method_35_code (3 : Nat) (Option.none : Option Jvm.ClassFile.FieldType)) ∈ lw_all := lw_g (lw_at lw_m8 215 rfl) rfl
theorem q2007 : (Jvm.Cond.methodLink "WornSkinModel" (340 : Nat) ({ cls := "WornSkinModel", name := "fresh0", desc := "()V" } : Jvm.MethodName)) ∈ lw_all := lw_g (lw_at lw_m8 216 rfl) rfl
theorem q2009 : (Jvm.Cond.instanceMethod ({ cls := "WornSkinModel", name := "fresh0", desc := "()V" } : Jvm.MethodName)) ∈ lw_all := lw_g (lw_at lw_m8 218 rfl) rfl
theorem q2010 : (Jvm.Cond.code ({ cls := "WornSkinModel", name := "fresh0", desc := "()V" } : Jvm.MethodName) prog_32_method_41_code (2 : Nat) (Option.none : Option Jvm.ClassFile.FieldType)) ∈ lw_all := lw_g (lw_at lw_m8 219 rfl) rfl
theorem q2011 : (Jvm.Cond.methodLink "WornSkinLaw" (34 : Nat) ({ cls := "WornSkinModel", name := "year", desc := "()I" } : Jvm.MethodName)) ∈ lw_all := lw_g (lw_at lw_m8 220 rfl) rfl
theorem q2012 : (Jvm.Cond.instanceMethod ({ cls := "WornSkinModel", name := "year", desc := "()I" } : Jvm.MethodName)) ∈ lw_all := lw_g (lw_at lw_m8 221 rfl) rfl
theorem q2013 : (Jvm.Cond.selects "WornSkinModel" ({ cls := "WornSkinModel", name := "year", desc := "()I" } : Jvm.MethodName) ({ cls := "WornSkinModel", name := "year", desc := "()I" } : Jvm.MethodName)) ∈ lw_all := lw_g (lw_at lw_m8 222 rfl) rfl
theorem q2014 : (Jvm.Cond.code ({ cls := "WornSkinModel", name := "year", desc := "()I" } : Jvm.MethodName) prog_32_method_43_code (1 : Nat) (Option.some Jvm.ClassFile.FieldType.int)) ∈ lw_all := lw_g (lw_at lw_m8 223 rfl) rfl
theorem q2015 : (Jvm.Cond.methodLink "WornSkinModel" (346 : Nat) ({ cls := "WornSkinModel", name := "readsLine", desc := "()Z" } : Jvm.MethodName)) ∈ lw_all := lw_g (lw_at lw_m8 224 rfl) rfl
theorem q2017 : (Jvm.Cond.instanceMethod ({ cls := "WornSkinModel", name := "readsLine", desc := "()Z" } : Jvm.MethodName)) ∈ lw_all := lw_g (lw_at lw_m8 226 rfl) rfl
theorem q2018 : (Jvm.Cond.code ({ cls := "WornSkinModel", name := "readsLine", desc := "()Z" } : Jvm.MethodName) prog_32_method_38_code (3 : Nat) (Option.some Jvm.ClassFile.FieldType.boolean)) ∈ lw_all := lw_g (lw_at lw_m8 227 rfl) rfl
theorem q2019 : (Jvm.Cond.methodLink "WornSkinModel" (331 : Nat) ({ cls := "WornSkinModel", name := "needsText", desc := "()Z" } : Jvm.MethodName)) ∈ lw_all := lw_g (lw_at lw_m8 228 rfl) rfl
theorem q2021 : (Jvm.Cond.instanceMethod ({ cls := "WornSkinModel", name := "needsText", desc := "()Z" } : Jvm.MethodName)) ∈ lw_all := lw_g (lw_at lw_m8 230 rfl) rfl
theorem q2022 : (Jvm.Cond.code ({ cls := "WornSkinModel", name := "needsText", desc := "()Z" } : Jvm.MethodName) prog_32_method_26_code (1 : Nat) (Option.some Jvm.ClassFile.FieldType.boolean)) ∈ lw_all := lw_g (lw_at lw_m8 231 rfl) rfl
theorem q2023 : (Jvm.Cond.methodLink "WornSkinModel" (349 : Nat) ({ cls := "WornSkinModel", name := "laysLines", desc := "(II)V" } : Jvm.MethodName)) ∈ lw_all := lw_g (lw_at lw_m8 232 rfl) rfl
theorem q2025 : (Jvm.Cond.instanceMethod ({ cls := "WornSkinModel", name := "laysLines", desc := "(II)V" } : Jvm.MethodName)) ∈ lw_all := lw_g (lw_at lw_m8 234 rfl) rfl
theorem q2026 : (Jvm.Cond.code ({ cls := "WornSkinModel", name := "laysLines", desc := "(II)V" } : Jvm.MethodName) prog_32_method_39_code (4 : Nat) (Option.none : Option Jvm.ClassFile.FieldType)) ∈ lw_all := lw_g (lw_at lw_m8 235 rfl) rfl
theorem q2027 : (Jvm.Cond.methodLink "WornSkinLaw" (39 : Nat) ({ cls := "WornSkinModel", name := "skin", desc := "(II)I" } : Jvm.MethodName)) ∈ lw_all := lw_g (lw_at lw_m8 236 rfl) rfl
theorem q2028 : (Jvm.Cond.instanceMethod ({ cls := "WornSkinModel", name := "skin", desc := "(II)I" } : Jvm.MethodName)) ∈ lw_all := lw_g (lw_at lw_m8 237 rfl) rfl
theorem q2029 : (Jvm.Cond.selects "WornSkinModel" ({ cls := "WornSkinModel", name := "skin", desc := "(II)I" } : Jvm.MethodName) ({ cls := "WornSkinModel", name := "skin", desc := "(II)I" } : Jvm.MethodName)) ∈ lw_all := lw_g (lw_at lw_m8 238 rfl) rfl
theorem q2030 : (Jvm.Cond.code ({ cls := "WornSkinModel", name := "skin", desc := "(II)I" } : Jvm.MethodName) prog_32_method_60_code (3 : Nat) (Option.some Jvm.ClassFile.FieldType.int)) ∈ lw_all := lw_g (lw_at lw_m8 239 rfl) rfl
theorem q2031 : (Jvm.Cond.methodLink "WornSkinModel" (353 : Nat) ({ cls := "WornSkinModel", name := "isSkin", desc := "(I)Z" } : Jvm.MethodName)) ∈ lw_all := lw_g (lw_at lw_m9 0 rfl) rfl
theorem q2033 : (Jvm.Cond.instanceMethod ({ cls := "WornSkinModel", name := "isSkin", desc := "(I)Z" } : Jvm.MethodName)) ∈ lw_all := lw_g (lw_at lw_m9 2 rfl) rfl
theorem q2034 : (Jvm.Cond.code ({ cls := "WornSkinModel", name := "isSkin", desc := "(I)Z" } : Jvm.MethodName) prog_32_method_44_code (2 : Nat) (Option.some Jvm.ClassFile.FieldType.boolean)) ∈ lw_all := lw_g (lw_at lw_m9 3 rfl) rfl
theorem q2035 : (Jvm.Cond.methodLink "WornSkinModel" (381 : Nat) ({ cls := "WornSkinModel", name := "readIn", desc := "(II)I" } : Jvm.MethodName)) ∈ lw_all := lw_g (lw_at lw_m9 4 rfl) rfl
theorem q2037 : (Jvm.Cond.instanceMethod ({ cls := "WornSkinModel", name := "readIn", desc := "(II)I" } : Jvm.MethodName)) ∈ lw_all := lw_g (lw_at lw_m9 6 rfl) rfl
theorem q2038 : (Jvm.Cond.code ({ cls := "WornSkinModel", name := "readIn", desc := "(II)I" } : Jvm.MethodName) prog_32_method_58_code (6 : Nat) (Option.some Jvm.ClassFile.FieldType.int)) ∈ lw_all := lw_g (lw_at lw_m9 7 rfl) rfl
theorem q2039 : (Jvm.Cond.methodLink "WornSkinModel" (367 : Nat) ({ cls := "WornSkinModel", name := "dampOf", desc := "(I)I" } : Jvm.MethodName)) ∈ lw_all := lw_g (lw_at lw_m9 8 rfl) rfl
theorem q2041 : (Jvm.Cond.instanceMethod ({ cls := "WornSkinModel", name := "dampOf", desc := "(I)I" } : Jvm.MethodName)) ∈ lw_all := lw_g (lw_at lw_m9 10 rfl) rfl
theorem q2042 : (Jvm.Cond.code ({ cls := "WornSkinModel", name := "dampOf", desc := "(I)I" } : Jvm.MethodName) prog_32_method_48_code (2 : Nat) (Option.some Jvm.ClassFile.FieldType.int)) ∈ lw_all := lw_g (lw_at lw_m9 11 rfl) rfl
theorem q2043 : (Jvm.Cond.methodLink "WornSkinModel" (363 : Nat) ({ cls := "WornSkinModel", name := "readBy", desc := "(III)I" } : Jvm.MethodName)) ∈ lw_all := lw_g (lw_at lw_m9 12 rfl) rfl
theorem q2045 : (Jvm.Cond.instanceMethod ({ cls := "WornSkinModel", name := "readBy", desc := "(III)I" } : Jvm.MethodName)) ∈ lw_all := lw_g (lw_at lw_m9 14 rfl) rfl
theorem q2046 : (Jvm.Cond.code ({ cls := "WornSkinModel", name := "readBy", desc := "(III)I" } : Jvm.MethodName) prog_32_method_50_code (7 : Nat) (Option.some Jvm.ClassFile.FieldType.int)) ∈ lw_all := lw_g (lw_at lw_m9 15 rfl) rfl
theorem q2047 : (Jvm.Cond.methodLink "WornSkinModel" (359 : Nat) ({ cls := "WornSkinModel", name := "showsBy", desc := "(IIII)Z" } : Jvm.MethodName)) ∈ lw_all := lw_g (lw_at lw_m9 16 rfl) rfl
theorem q2049 : (Jvm.Cond.instanceMethod ({ cls := "WornSkinModel", name := "showsBy", desc := "(IIII)Z" } : Jvm.MethodName)) ∈ lw_all := lw_g (lw_at lw_m9 18 rfl) rfl
theorem q2050 : (Jvm.Cond.code ({ cls := "WornSkinModel", name := "showsBy", desc := "(IIII)Z" } : Jvm.MethodName) prog_32_method_49_code (7 : Nat) (Option.some Jvm.ClassFile.FieldType.boolean)) ∈ lw_all := lw_g (lw_at lw_m9 19 rfl) rfl
theorem q2051 : (Jvm.Cond.methodLink "WornSkinModel" (356 : Nat) ({ cls := "WornSkinModel", name := "worked", desc := "(I)I" } : Jvm.MethodName)) ∈ lw_all := lw_g (lw_at lw_m9 20 rfl) rfl
theorem q2053 : (Jvm.Cond.instanceMethod ({ cls := "WornSkinModel", name := "worked", desc := "(I)I" } : Jvm.MethodName)) ∈ lw_all := lw_g (lw_at lw_m9 22 rfl) rfl
theorem q2054 : (Jvm.Cond.code ({ cls := "WornSkinModel", name := "worked", desc := "(I)I" } : Jvm.MethodName) prog_32_method_17_code (6 : Nat) (Option.some Jvm.ClassFile.FieldType.int)) ∈ lw_all := lw_g (lw_at lw_m9 23 rfl) rfl
theorem q2055 : (Jvm.Cond.methodLink "WornSkinModel" (225 : Nat) ({ cls := "WornSkinModel", name := "opens", desc := "(I)V" } : Jvm.MethodName)) ∈ lw_all := lw_g (lw_at lw_m9 24 rfl) rfl
theorem q2057 : (Jvm.Cond.instanceMethod ({ cls := "WornSkinModel", name := "opens", desc := "(I)V" } : Jvm.MethodName)) ∈ lw_all := lw_g (lw_at lw_m9 26 rfl) rfl
theorem q2058 : (Jvm.Cond.code ({ cls := "WornSkinModel", name := "opens", desc := "(I)V" } : Jvm.MethodName) prog_32_method_14_code (2 : Nat) (Option.none : Option Jvm.ClassFile.FieldType)) ∈ lw_all := lw_g (lw_at lw_m9 27 rfl) rfl
theorem q2059 : (Jvm.Cond.methodLink "WornSkinModel" (222 : Nat) ({ cls := "WornSkinModel", name := "sums", desc := "(I)V" } : Jvm.MethodName)) ∈ lw_all := lw_g (lw_at lw_m9 28 rfl) rfl
theorem q2061 : (Jvm.Cond.instanceMethod ({ cls := "WornSkinModel", name := "sums", desc := "(I)V" } : Jvm.MethodName)) ∈ lw_all := lw_g (lw_at lw_m9 30 rfl) rfl
theorem q2062 : (Jvm.Cond.code ({ cls := "WornSkinModel", name := "sums", desc := "(I)V" } : Jvm.MethodName) prog_32_method_15_code (2 : Nat) (Option.none : Option Jvm.ClassFile.FieldType)) ∈ lw_all := lw_g (lw_at lw_m9 31 rfl) rfl
theorem q2063 : (Jvm.Cond.methodLink "WornSkinModel" (228 : Nat) ({ cls := "WornSkinModel", name := "tests", desc := "(I)V" } : Jvm.MethodName)) ∈ lw_all := lw_g (lw_at lw_m9 32 rfl) rfl
theorem q2065 : (Jvm.Cond.instanceMethod ({ cls := "WornSkinModel", name := "tests", desc := "(I)V" } : Jvm.MethodName)) ∈ lw_all := lw_g (lw_at lw_m9 34 rfl) rfl
theorem q2066 : (Jvm.Cond.code ({ cls := "WornSkinModel", name := "tests", desc := "(I)V" } : Jvm.MethodName) prog_32_method_16_code (3 : Nat) (Option.none : Option Jvm.ClassFile.FieldType)) ∈ lw_all := lw_g (lw_at lw_m9 35 rfl) rfl
theorem q2067 : (Jvm.Cond.methodLink "WornSkinLaw" (43 : Nat) ({ cls := "WornSkinModel", name := "text", desc := "(II)I" } : Jvm.MethodName)) ∈ lw_all := lw_g (lw_at lw_m9 36 rfl) rfl
theorem q2068 : (Jvm.Cond.instanceMethod ({ cls := "WornSkinModel", name := "text", desc := "(II)I" } : Jvm.MethodName)) ∈ lw_all := lw_g (lw_at lw_m9 37 rfl) rfl
theorem q2069 : (Jvm.Cond.selects "WornSkinModel" ({ cls := "WornSkinModel", name := "text", desc := "(II)I" } : Jvm.MethodName) ({ cls := "WornSkinModel", name := "text", desc := "(II)I" } : Jvm.MethodName)) ∈ lw_all := lw_g (lw_at lw_m9 38 rfl) rfl
theorem q2070 : (Jvm.Cond.code ({ cls := "WornSkinModel", name := "text", desc := "(II)I" } : Jvm.MethodName) prog_32_method_61_code (3 : Nat) (Option.some Jvm.ClassFile.FieldType.int)) ∈ lw_all := lw_g (lw_at lw_m9 39 rfl) rfl
theorem q2071 : (Jvm.Cond.methodLink "WornSkinModel" (387 : Nat) ({ cls := "WornSkinModel", name := "isText", desc := "(I)Z" } : Jvm.MethodName)) ∈ lw_all := lw_g (lw_at lw_m9 40 rfl) rfl
theorem q2073 : (Jvm.Cond.instanceMethod ({ cls := "WornSkinModel", name := "isText", desc := "(I)Z" } : Jvm.MethodName)) ∈ lw_all := lw_g (lw_at lw_m9 42 rfl) rfl
theorem q2074 : (Jvm.Cond.code ({ cls := "WornSkinModel", name := "isText", desc := "(I)Z" } : Jvm.MethodName) prog_32_method_45_code (2 : Nat) (Option.some Jvm.ClassFile.FieldType.boolean)) ∈ lw_all := lw_g (lw_at lw_m9 43 rfl) rfl
theorem q2075 : (Jvm.Cond.methodLink "WornSkinModel" (390 : Nat) ({ cls := "WornSkinModel", name := "wholeNow", desc := "()I" } : Jvm.MethodName)) ∈ lw_all := lw_g (lw_at lw_m9 44 rfl) rfl
theorem q2077 : (Jvm.Cond.instanceMethod ({ cls := "WornSkinModel", name := "wholeNow", desc := "()I" } : Jvm.MethodName)) ∈ lw_all := lw_g (lw_at lw_m9 46 rfl) rfl
theorem q2078 : (Jvm.Cond.code ({ cls := "WornSkinModel", name := "wholeNow", desc := "()I" } : Jvm.MethodName) prog_32_method_52_code (1 : Nat) (Option.some Jvm.ClassFile.FieldType.int)) ∈ lw_all := lw_g (lw_at lw_m9 47 rfl) rfl
theorem q2079 : (Jvm.Cond.methodLink "WornSkinModel" (370 : Nat) ({ cls := "WornSkinModel", name := "wholeBy", desc := "(I)I" } : Jvm.MethodName)) ∈ lw_all := lw_g (lw_at lw_m9 48 rfl) rfl
theorem q2081 : (Jvm.Cond.instanceMethod ({ cls := "WornSkinModel", name := "wholeBy", desc := "(I)I" } : Jvm.MethodName)) ∈ lw_all := lw_g (lw_at lw_m9 50 rfl) rfl
theorem q2082 : (Jvm.Cond.code ({ cls := "WornSkinModel", name := "wholeBy", desc := "(I)I" } : Jvm.MethodName) prog_32_method_51_code (8 : Nat) (Option.some Jvm.ClassFile.FieldType.int)) ∈ lw_all := lw_g (lw_at lw_m9 51 rfl) rfl
theorem q2083 : (Jvm.Cond.methodLink "WornSkinModel" (393 : Nat) ({ cls := "WornSkinModel", name := "madeOf", desc := "(I)I" } : Jvm.MethodName)) ∈ lw_all := lw_g (lw_at lw_m9 52 rfl) rfl
theorem q2085 : (Jvm.Cond.instanceMethod ({ cls := "WornSkinModel", name := "madeOf", desc := "(I)I" } : Jvm.MethodName)) ∈ lw_all := lw_g (lw_at lw_m9 54 rfl) rfl
theorem q2086 : (Jvm.Cond.code ({ cls := "WornSkinModel", name := "madeOf", desc := "(I)I" } : Jvm.MethodName) prog_32_method_59_code (4 : Nat) (Option.some Jvm.ClassFile.FieldType.int)) ∈ lw_all := lw_g (lw_at lw_m9 55 rfl) rfl
theorem q2087 : (Jvm.Cond.methodLink "WornSkinModel" (384 : Nat) ({ cls := "WornSkinModel", name := "bits", desc := "(I)I" } : Jvm.MethodName)) ∈ lw_all := lw_g (lw_at lw_m9 56 rfl) rfl
theorem q2088 : (Jvm.Cond.static ({ cls := "WornSkinModel", name := "bits", desc := "(I)I" } : Jvm.MethodName)) ∈ lw_all := lw_g (lw_at lw_m9 57 rfl) rfl
theorem q2089 : (Jvm.Cond.code ({ cls := "WornSkinModel", name := "bits", desc := "(I)I" } : Jvm.MethodName) prog_32_method_4_code (3 : Nat) (Option.some Jvm.ClassFile.FieldType.int)) ∈ lw_all := lw_g (lw_at lw_m9 58 rfl) rfl
theorem q2090 : (Jvm.Cond.methodLink "WornSkinLaw" (47 : Nat) ({ cls := "WornSkinModel", name := "layers", desc := "(II)I" } : Jvm.MethodName)) ∈ lw_all := lw_g (lw_at lw_m9 59 rfl) rfl
theorem q2091 : (Jvm.Cond.instanceMethod ({ cls := "WornSkinModel", name := "layers", desc := "(II)I" } : Jvm.MethodName)) ∈ lw_all := lw_g (lw_at lw_m9 60 rfl) rfl
theorem q2092 : (Jvm.Cond.selects "WornSkinModel" ({ cls := "WornSkinModel", name := "layers", desc := "(II)I" } : Jvm.MethodName) ({ cls := "WornSkinModel", name := "layers", desc := "(II)I" } : Jvm.MethodName)) ∈ lw_all := lw_g (lw_at lw_m9 61 rfl) rfl
theorem q2093 : (Jvm.Cond.code ({ cls := "WornSkinModel", name := "layers", desc := "(II)I" } : Jvm.MethodName) prog_32_method_62_code (3 : Nat) (Option.some Jvm.ClassFile.FieldType.int)) ∈ lw_all := lw_g (lw_at lw_m9 62 rfl) rfl
theorem q2094 : (Jvm.Cond.methodLink "WornSkinModel" (396 : Nat) ({ cls := "WornSkinModel", name := "isLine", desc := "(II)Z" } : Jvm.MethodName)) ∈ lw_all := lw_g (lw_at lw_m9 63 rfl) rfl
theorem q2096 : (Jvm.Cond.instanceMethod ({ cls := "WornSkinModel", name := "isLine", desc := "(II)Z" } : Jvm.MethodName)) ∈ lw_all := lw_g (lw_at lw_m9 65 rfl) rfl
theorem q2097 : (Jvm.Cond.code ({ cls := "WornSkinModel", name := "isLine", desc := "(II)Z" } : Jvm.MethodName) prog_32_method_46_code (3 : Nat) (Option.some Jvm.ClassFile.FieldType.boolean)) ∈ lw_all := lw_g (lw_at lw_m9 66 rfl) rfl
theorem q2098 : (Jvm.Cond.methodLink "WornSkinModel" (399 : Nat) ({ cls := "WornSkinModel", name := "deepOf", desc := "(I)I" } : Jvm.MethodName)) ∈ lw_all := lw_g (lw_at lw_m9 67 rfl) rfl
theorem q2099 : (Jvm.Cond.static ({ cls := "WornSkinModel", name := "deepOf", desc := "(I)I" } : Jvm.MethodName)) ∈ lw_all := lw_g (lw_at lw_m9 68 rfl) rfl
theorem q2100 : (Jvm.Cond.code ({ cls := "WornSkinModel", name := "deepOf", desc := "(I)I" } : Jvm.MethodName) prog_32_method_47_code (3 : Nat) (Option.some Jvm.ClassFile.FieldType.int)) ∈ lw_all := lw_g (lw_at lw_m9 69 rfl) rfl
theorem q2101 : (Jvm.Cond.methodLink "WornSkinLaw" (52 : Nat) ({ cls := "WornSkinModel", name := "layer", desc := "(III)I" } : Jvm.MethodName)) ∈ lw_all := lw_g (lw_at lw_m9 70 rfl) rfl
theorem q2102 : (Jvm.Cond.instanceMethod ({ cls := "WornSkinModel", name := "layer", desc := "(III)I" } : Jvm.MethodName)) ∈ lw_all := lw_g (lw_at lw_m9 71 rfl) rfl
theorem q2103 : (Jvm.Cond.selects "WornSkinModel" ({ cls := "WornSkinModel", name := "layer", desc := "(III)I" } : Jvm.MethodName) ({ cls := "WornSkinModel", name := "layer", desc := "(III)I" } : Jvm.MethodName)) ∈ lw_all := lw_g (lw_at lw_m9 72 rfl) rfl
theorem q2104 : (Jvm.Cond.code ({ cls := "WornSkinModel", name := "layer", desc := "(III)I" } : Jvm.MethodName) prog_32_method_64_code (4 : Nat) (Option.some Jvm.ClassFile.FieldType.int)) ∈ lw_all := lw_g (lw_at lw_m9 73 rfl) rfl
theorem q2105 : (Jvm.Cond.methodLink "WornSkinModel" (402 : Nat) ({ cls := "WornSkinModel", name := "layerOf", desc := "(II)I" } : Jvm.MethodName)) ∈ lw_all := lw_g (lw_at lw_m9 74 rfl) rfl
theorem q2106 : (Jvm.Cond.static ({ cls := "WornSkinModel", name := "layerOf", desc := "(II)I" } : Jvm.MethodName)) ∈ lw_all := lw_g (lw_at lw_m9 75 rfl) rfl
theorem q2107 : (Jvm.Cond.code ({ cls := "WornSkinModel", name := "layerOf", desc := "(II)I" } : Jvm.MethodName) prog_32_method_63_code (4 : Nat) (Option.some Jvm.ClassFile.FieldType.int)) ∈ lw_all := lw_g (lw_at lw_m9 76 rfl) rfl
theorem q2108 : (Jvm.Cond.methodLink "WornSkinLaw" (56 : Nat) ({ cls := "WornSkinModel", name := "read", desc := "(II)I" } : Jvm.MethodName)) ∈ lw_all := lw_g (lw_at lw_m9 77 rfl) rfl
theorem q2109 : (Jvm.Cond.instanceMethod ({ cls := "WornSkinModel", name := "read", desc := "(II)I" } : Jvm.MethodName)) ∈ lw_all := lw_g (lw_at lw_m9 78 rfl) rfl
theorem q2110 : (Jvm.Cond.selects "WornSkinModel" ({ cls := "WornSkinModel", name := "read", desc := "(II)I" } : Jvm.MethodName) ({ cls := "WornSkinModel", name := "read", desc := "(II)I" } : Jvm.MethodName)) ∈ lw_all := lw_g (lw_at lw_m9 79 rfl) rfl
theorem q2111 : (Jvm.Cond.code ({ cls := "WornSkinModel", name := "read", desc := "(II)I" } : Jvm.MethodName) prog_32_method_65_code (3 : Nat) (Option.some Jvm.ClassFile.FieldType.int)) ∈ lw_all := lw_g (lw_at lw_m9 80 rfl) rfl
theorem q2112 : (Jvm.Cond.methodLink "WornSkinLaw" (61 : Nat) ({ cls := "WornSkinModel", name := "write", desc := "(III)Z" } : Jvm.MethodName)) ∈ lw_all := lw_g (lw_at lw_m9 81 rfl) rfl
theorem q2113 : (Jvm.Cond.instanceMethod ({ cls := "WornSkinModel", name := "write", desc := "(III)Z" } : Jvm.MethodName)) ∈ lw_all := lw_g (lw_at lw_m9 82 rfl) rfl
theorem q2114 : (Jvm.Cond.selects "WornSkinModel" ({ cls := "WornSkinModel", name := "write", desc := "(III)Z" } : Jvm.MethodName) ({ cls := "WornSkinModel", name := "write", desc := "(III)Z" } : Jvm.MethodName)) ∈ lw_all := lw_g (lw_at lw_m9 83 rfl) rfl
theorem q2115 : (Jvm.Cond.code ({ cls := "WornSkinModel", name := "write", desc := "(III)Z" } : Jvm.MethodName) prog_32_method_67_code (4 : Nat) (Option.some Jvm.ClassFile.FieldType.boolean)) ∈ lw_all := lw_g (lw_at lw_m9 84 rfl) rfl
theorem q2116 : (Jvm.Cond.methodLink "WornSkinModel" (378 : Nat) ({ cls := "WornSkinModel", name := "canWrite", desc := "(III)Z" } : Jvm.MethodName)) ∈ lw_all := lw_g (lw_at lw_m9 85 rfl) rfl
theorem q2118 : (Jvm.Cond.instanceMethod ({ cls := "WornSkinModel", name := "canWrite", desc := "(III)Z" } : Jvm.MethodName)) ∈ lw_all := lw_g (lw_at lw_m9 87 rfl) rfl
theorem q2119 : (Jvm.Cond.code ({ cls := "WornSkinModel", name := "canWrite", desc := "(III)Z" } : Jvm.MethodName) prog_32_method_53_code (5 : Nat) (Option.some Jvm.ClassFile.FieldType.boolean)) ∈ lw_all := lw_g (lw_at lw_m9 88 rfl) rfl
theorem q2120 : (Jvm.Cond.constant "WornSkinModel" (373 : Nat) (5764801 : Int32)) ∈ lw_all := lw_g (lw_at lw_m9 89 rfl) rfl
theorem q2121 : (Jvm.Cond.methodLink "WornSkinModel" (409 : Nat) ({ cls := "WornSkinModel", name := "keeps", desc := "()V" } : Jvm.MethodName)) ∈ lw_all := lw_g (lw_at lw_m9 90 rfl) rfl
theorem q2123 : (Jvm.Cond.instanceMethod ({ cls := "WornSkinModel", name := "keeps", desc := "()V" } : Jvm.MethodName)) ∈ lw_all := lw_g (lw_at lw_m9 92 rfl) rfl
theorem q2124 : (Jvm.Cond.code ({ cls := "WornSkinModel", name := "keeps", desc := "()V" } : Jvm.MethodName) prog_32_method_66_code (2 : Nat) (Option.none : Option Jvm.ClassFile.FieldType)) ∈ lw_all := lw_g (lw_at lw_m9 93 rfl) rfl
theorem q2125 : (Jvm.Cond.methodLink "WornSkinModel" (405 : Nat) ({ cls := "WornSkinModel", name := "copies", desc := "([II[II)V" } : Jvm.MethodName)) ∈ lw_all := lw_g (lw_at lw_m9 94 rfl) rfl
theorem q2126 : (Jvm.Cond.static ({ cls := "WornSkinModel", name := "copies", desc := "([II[II)V" } : Jvm.MethodName)) ∈ lw_all := lw_g (lw_at lw_m9 95 rfl) rfl
theorem q2127 : (Jvm.Cond.code ({ cls := "WornSkinModel", name := "copies", desc := "([II[II)V" } : Jvm.MethodName) prog_32_method_37_code (5 : Nat) (Option.none : Option Jvm.ClassFile.FieldType)) ∈ lw_all := lw_g (lw_at lw_m9 96 rfl) rfl
theorem q2128 : (Jvm.Cond.methodLink "WornSkinModel" (412 : Nat) ({ cls := "WornSkinModel", name := "writes", desc := "(III)V" } : Jvm.MethodName)) ∈ lw_all := lw_g (lw_at lw_m9 97 rfl) rfl
theorem q2130 : (Jvm.Cond.instanceMethod ({ cls := "WornSkinModel", name := "writes", desc := "(III)V" } : Jvm.MethodName)) ∈ lw_all := lw_g (lw_at lw_m9 99 rfl) rfl
theorem q2131 : (Jvm.Cond.code ({ cls := "WornSkinModel", name := "writes", desc := "(III)V" } : Jvm.MethodName) prog_32_method_54_code (5 : Nat) (Option.none : Option Jvm.ClassFile.FieldType)) ∈ lw_all := lw_g (lw_at lw_m9 100 rfl) rfl
theorem q2132 : (Jvm.Cond.methodLink "WornSkinLaw" (66 : Nat) ({ cls := "WornSkinModel", name := "scrape", desc := "(I)I" } : Jvm.MethodName)) ∈ lw_all := lw_g (lw_at lw_m9 101 rfl) rfl
theorem q2133 : (Jvm.Cond.instanceMethod ({ cls := "WornSkinModel", name := "scrape", desc := "(I)I" } : Jvm.MethodName)) ∈ lw_all := lw_g (lw_at lw_m9 102 rfl) rfl
theorem q2134 : (Jvm.Cond.selects "WornSkinModel" ({ cls := "WornSkinModel", name := "scrape", desc := "(I)I" } : Jvm.MethodName) ({ cls := "WornSkinModel", name := "scrape", desc := "(I)I" } : Jvm.MethodName)) ∈ lw_all := lw_g (lw_at lw_m9 103 rfl) rfl
theorem q2135 : (Jvm.Cond.code ({ cls := "WornSkinModel", name := "scrape", desc := "(I)I" } : Jvm.MethodName) prog_32_method_69_code (2 : Nat) (Option.some Jvm.ClassFile.FieldType.int)) ∈ lw_all := lw_g (lw_at lw_m9 104 rfl) rfl
theorem q2136 : (Jvm.Cond.methodLink "WornSkinModel" (419 : Nat) ({ cls := "WornSkinModel", name := "scrapesNow", desc := "(II)I" } : Jvm.MethodName)) ∈ lw_all := lw_g (lw_at lw_m9 105 rfl) rfl
theorem q2138 : (Jvm.Cond.instanceMethod ({ cls := "WornSkinModel", name := "scrapesNow", desc := "(II)I" } : Jvm.MethodName)) ∈ lw_all := lw_g (lw_at lw_m9 107 rfl) rfl
theorem q2139 : (Jvm.Cond.code ({ cls := "WornSkinModel", name := "scrapesNow", desc := "(II)I" } : Jvm.MethodName) prog_32_method_68_code (3 : Nat) (Option.some Jvm.ClassFile.FieldType.int)) ∈ lw_all := lw_g (lw_at lw_m9 108 rfl) rfl
theorem q2140 : (Jvm.Cond.methodLink "WornSkinModel" (374 : Nat) ({ cls := "WornSkinModel", name := "scrapedBy", desc := "(II)I" } : Jvm.MethodName)) ∈ lw_all := lw_g (lw_at lw_m9 109 rfl) rfl
theorem q2142 : (Jvm.Cond.instanceMethod ({ cls := "WornSkinModel", name := "scrapedBy", desc := "(II)I" } : Jvm.MethodName)) ∈ lw_all := lw_g (lw_at lw_m9 111 rfl) rfl
theorem q2143 : (Jvm.Cond.code ({ cls := "WornSkinModel", name := "scrapedBy", desc := "(II)I" } : Jvm.MethodName) prog_32_method_55_code (8 : Nat) (Option.some Jvm.ClassFile.FieldType.int)) ∈ lw_all := lw_g (lw_at lw_m9 112 rfl) rfl
theorem q2144 : (Jvm.Cond.methodLink "WornSkinModel" (416 : Nat) ({ cls := "WornSkinModel", name := "scrapes", desc := "(II)V" } : Jvm.MethodName)) ∈ lw_all := lw_g (lw_at lw_m9 113 rfl) rfl
theorem q2146 : (Jvm.Cond.instanceMethod ({ cls := "WornSkinModel", name := "scrapes", desc := "(II)V" } : Jvm.MethodName)) ∈ lw_all := lw_g (lw_at lw_m9 115 rfl) rfl
theorem q2147 : (Jvm.Cond.code ({ cls := "WornSkinModel", name := "scrapes", desc := "(II)V" } : Jvm.MethodName) prog_32_method_56_code (4 : Nat) (Option.none : Option Jvm.ClassFile.FieldType)) ∈ lw_all := lw_g (lw_at lw_m9 116 rfl) rfl
theorem q2148 : (Jvm.Cond.methodLink "WornSkinLaw" (70 : Nat) ({ cls := "WornSkinModel", name := "third", desc := "(I)I" } : Jvm.MethodName)) ∈ lw_all := lw_g (lw_at lw_m9 117 rfl) rfl
theorem q2149 : (Jvm.Cond.instanceMethod ({ cls := "WornSkinModel", name := "third", desc := "(I)I" } : Jvm.MethodName)) ∈ lw_all := lw_g (lw_at lw_m9 118 rfl) rfl
theorem q2150 : (Jvm.Cond.selects "WornSkinModel" ({ cls := "WornSkinModel", name := "third", desc := "(I)I" } : Jvm.MethodName) ({ cls := "WornSkinModel", name := "third", desc := "(I)I" } : Jvm.MethodName)) ∈ lw_all := lw_g (lw_at lw_m9 119 rfl) rfl
theorem q2151 : (Jvm.Cond.code ({ cls := "WornSkinModel", name := "third", desc := "(I)I" } : Jvm.MethodName) prog_32_method_70_code (2 : Nat) (Option.some Jvm.ClassFile.FieldType.int)) ∈ lw_all := lw_g (lw_at lw_m9 120 rfl) rfl
theorem q2152 : (Jvm.Cond.methodLink "WornSkinLaw" (74 : Nat) ({ cls := "WornSkinModel", name := "week", desc := "()I" } : Jvm.MethodName)) ∈ lw_all := lw_g (lw_at lw_m9 121 rfl) rfl
theorem q2153 : (Jvm.Cond.instanceMethod ({ cls := "WornSkinModel", name := "week", desc := "()I" } : Jvm.MethodName)) ∈ lw_all := lw_g (lw_at lw_m9 122 rfl) rfl
theorem q2154 : (Jvm.Cond.selects "WornSkinModel" ({ cls := "WornSkinModel", name := "week", desc := "()I" } : Jvm.MethodName) ({ cls := "WornSkinModel", name := "week", desc := "()I" } : Jvm.MethodName)) ∈ lw_all := lw_g (lw_at lw_m9 123 rfl) rfl
theorem q2155 : (Jvm.Cond.code ({ cls := "WornSkinModel", name := "week", desc := "()I" } : Jvm.MethodName) prog_32_method_71_code (1 : Nat) (Option.some Jvm.ClassFile.FieldType.int)) ∈ lw_all := lw_g (lw_at lw_m9 124 rfl) rfl
theorem q2156 : (Jvm.Cond.methodLink "WornSkinLaw" (79 : Nat) ({ cls := "WornSkinModel", name := "undo", desc := "()Z" } : Jvm.MethodName)) ∈ lw_all := lw_g (lw_at lw_m9 125 rfl) rfl
theorem q2157 : (Jvm.Cond.instanceMethod ({ cls := "WornSkinModel", name := "undo", desc := "()Z" } : Jvm.MethodName)) ∈ lw_all := lw_g (lw_at lw_m9 126 rfl) rfl
theorem q2158 : (Jvm.Cond.selects "WornSkinModel" ({ cls := "WornSkinModel", name := "undo", desc := "()Z" } : Jvm.MethodName) ({ cls := "WornSkinModel", name := "undo", desc := "()Z" } : Jvm.MethodName)) ∈ lw_all := lw_g (lw_at lw_m9 127 rfl) rfl
theorem q2159 : (Jvm.Cond.code ({ cls := "WornSkinModel", name := "undo", desc := "()Z" } : Jvm.MethodName) prog_32_method_72_code (1 : Nat) (Option.some Jvm.ClassFile.FieldType.boolean)) ∈ lw_all := lw_g (lw_at lw_m9 128 rfl) rfl
theorem q2160 : (Jvm.Cond.methodLink "WornSkinLaw" (83 : Nat) ({ cls := "WornSkinModel", name := "judged", desc := "(I)I" } : Jvm.MethodName)) ∈ lw_all := lw_g (lw_at lw_m9 129 rfl) rfl
theorem q2161 : (Jvm.Cond.instanceMethod ({ cls := "WornSkinModel", name := "judged", desc := "(I)I" } : Jvm.MethodName)) ∈ lw_all := lw_g (lw_at lw_m9 130 rfl) rfl
theorem q2162 : (Jvm.Cond.selects "WornSkinModel" ({ cls := "WornSkinModel", name := "judged", desc := "(I)I" } : Jvm.MethodName) ({ cls := "WornSkinModel", name := "judged", desc := "(I)I" } : Jvm.MethodName)) ∈ lw_all := lw_g (lw_at lw_m9 131 rfl) rfl
theorem q2163 : (Jvm.Cond.code ({ cls := "WornSkinModel", name := "judged", desc := "(I)I" } : Jvm.MethodName) prog_32_method_75_code (6 : Nat) (Option.some Jvm.ClassFile.FieldType.int)) ∈ lw_all := lw_g (lw_at lw_m9 132 rfl) rfl
theorem q2164 : (Jvm.Cond.methodLink "WornSkinModel" (422 : Nat) ({ cls := "WornSkinModel", name := "gones", desc := "()I" } : Jvm.MethodName)) ∈ lw_all := lw_g (lw_at lw_m9 133 rfl) rfl
theorem q2166 : (Jvm.Cond.instanceMethod ({ cls := "WornSkinModel", name := "gones", desc := "()I" } : Jvm.MethodName)) ∈ lw_all := lw_g (lw_at lw_m9 135 rfl) rfl
theorem q2167 : (Jvm.Cond.code ({ cls := "WornSkinModel", name := "gones", desc := "()I" } : Jvm.MethodName) prog_32_method_74_code (3 : Nat) (Option.some Jvm.ClassFile.FieldType.int)) ∈ lw_all := lw_g (lw_at lw_m9 136 rfl) rfl
theorem q2168 : (Jvm.Cond.methodLink "WornSkinModel" (425 : Nat) ({ cls := "WornSkinModel", name := "goes", desc := "(I)Z" } : Jvm.MethodName)) ∈ lw_all := lw_g (lw_at lw_m9 137 rfl) rfl
theorem q2170 : (Jvm.Cond.instanceMethod ({ cls := "WornSkinModel", name := "goes", desc := "(I)Z" } : Jvm.MethodName)) ∈ lw_all := lw_g (lw_at lw_m9 139 rfl) rfl
theorem q2171 : (Jvm.Cond.code ({ cls := "WornSkinModel", name := "goes", desc := "(I)Z" } : Jvm.MethodName) prog_32_method_73_code (4 : Nat) (Option.some Jvm.ClassFile.FieldType.boolean)) ∈ lw_all := lw_g (lw_at lw_m9 140 rfl) rfl
theorem q2172 : (Jvm.Cond.methodLink "WornSkinLaw" (87 : Nat) ({ cls := "WornSkinModel", name := "later", desc := "(III)I" } : Jvm.MethodName)) ∈ lw_all := lw_g (lw_at lw_m9 141 rfl) rfl
theorem q2173 : (Jvm.Cond.instanceMethod ({ cls := "WornSkinModel", name := "later", desc := "(III)I" } : Jvm.MethodName)) ∈ lw_all := lw_g (lw_at lw_m9 142 rfl) rfl
theorem q2174 : (Jvm.Cond.selects "WornSkinModel" ({ cls := "WornSkinModel", name := "later", desc := "(III)I" } : Jvm.MethodName) ({ cls := "WornSkinModel", name := "later", desc := "(III)I" } : Jvm.MethodName)) ∈ lw_all := lw_g (lw_at lw_m9 143 rfl) rfl
theorem q2175 : (Jvm.Cond.code ({ cls := "WornSkinModel", name := "later", desc := "(III)I" } : Jvm.MethodName) prog_32_method_76_code (4 : Nat) (Option.some Jvm.ClassFile.FieldType.int)) ∈ lw_all := lw_g (lw_at lw_m9 144 rfl) rfl
theorem q2176 : (Jvm.Cond.methodLink "WornSkinLaw" (91 : Nat) ({ cls := "WornSkinModel", name := "when", desc := "(I)I" } : Jvm.MethodName)) ∈ lw_all := lw_g (lw_at lw_m9 145 rfl) rfl
theorem q2177 : (Jvm.Cond.instanceMethod ({ cls := "WornSkinModel", name := "when", desc := "(I)I" } : Jvm.MethodName)) ∈ lw_all := lw_g (lw_at lw_m9 146 rfl) rfl
theorem q2178 : (Jvm.Cond.selects "WornSkinModel" ({ cls := "WornSkinModel", name := "when", desc := "(I)I" } : Jvm.MethodName) ({ cls := "WornSkinModel", name := "when", desc := "(I)I" } : Jvm.MethodName)) ∈ lw_all := lw_g (lw_at lw_m9 147 rfl) rfl
theorem q2179 : (Jvm.Cond.code ({ cls := "WornSkinModel", name := "when", desc := "(I)I" } : Jvm.MethodName) prog_32_method_77_code (3 : Nat) (Option.some Jvm.ClassFile.FieldType.int)) ∈ lw_all := lw_g (lw_at lw_m9 148 rfl) rfl
theorem q2180 : (Jvm.Cond.methodLink "WornSkinLaw" (95 : Nat) ({ cls := "WornSkinModel", name := "need", desc := "(I)I" } : Jvm.MethodName)) ∈ lw_all := lw_g (lw_at lw_m9 149 rfl) rfl
theorem q2181 : (Jvm.Cond.instanceMethod ({ cls := "WornSkinModel", name := "need", desc := "(I)I" } : Jvm.MethodName)) ∈ lw_all := lw_g (lw_at lw_m9 150 rfl) rfl
theorem q2182 : (Jvm.Cond.selects "WornSkinModel" ({ cls := "WornSkinModel", name := "need", desc := "(I)I" } : Jvm.MethodName) ({ cls := "WornSkinModel", name := "need", desc := "(I)I" } : Jvm.MethodName)) ∈ lw_all := lw_g (lw_at lw_m9 151 rfl) rfl
theorem q2183 : (Jvm.Cond.code ({ cls := "WornSkinModel", name := "need", desc := "(I)I" } : Jvm.MethodName) prog_32_method_78_code (3 : Nat) (Option.some Jvm.ClassFile.FieldType.int)) ∈ lw_all := lw_g (lw_at lw_m9 152 rfl) rfl
theorem q2184 : (Jvm.Cond.methodLink "WornSkinLaw" (139 : Nat) ({ cls := "WornSkinModel", name := "psalter", desc := "(I)I" } : Jvm.MethodName)) ∈ lw_all := lw_g (lw_at lw_m9 153 rfl) rfl
theorem q2185 : (Jvm.Cond.instanceMethod ({ cls := "WornSkinModel", name := "psalter", desc := "(I)I" } : Jvm.MethodName)) ∈ lw_all := lw_g (lw_at lw_m9 154 rfl) rfl
theorem q2186 : (Jvm.Cond.selects "WornSkinModel" ({ cls := "WornSkinModel", name := "psalter", desc := "(I)I" } : Jvm.MethodName) ({ cls := "WornSkinModel", name := "psalter", desc := "(I)I" } : Jvm.MethodName)) ∈ lw_all := lw_g (lw_at lw_m9 155 rfl) rfl
theorem q2187 : (Jvm.Cond.code ({ cls := "WornSkinModel", name := "psalter", desc := "(I)I" } : Jvm.MethodName) prog_32_method_79_code (4 : Nat) (Option.some Jvm.ClassFile.FieldType.int)) ∈ lw_all := lw_g (lw_at lw_m9 156 rfl) rfl
theorem q2188 : (Jvm.Cond.methodLink "WornSkinLaw" (99 : Nat) ({ cls := "WornSkinModel", name := "lost", desc := "()I" } : Jvm.MethodName)) ∈ lw_all := lw_g (lw_at lw_m9 157 rfl) rfl
theorem q2189 : (Jvm.Cond.instanceMethod ({ cls := "WornSkinModel", name := "lost", desc := "()I" } : Jvm.MethodName)) ∈ lw_all := lw_g (lw_at lw_m9 158 rfl) rfl
theorem q2190 : (Jvm.Cond.selects "WornSkinModel" ({ cls := "WornSkinModel", name := "lost", desc := "()I" } : Jvm.MethodName) ({ cls := "WornSkinModel", name := "lost", desc := "()I" } : Jvm.MethodName)) ∈ lw_all := lw_g (lw_at lw_m9 159 rfl) rfl
theorem q2191 : (Jvm.Cond.code ({ cls := "WornSkinModel", name := "lost", desc := "()I" } : Jvm.MethodName) prog_32_method_80_code (7 : Nat) (Option.some Jvm.ClassFile.FieldType.int)) ∈ lw_all := lw_g (lw_at lw_m9 160 rfl) rfl
theorem q2192 : (Jvm.Cond.methodLink "WornSkinLaw" (103 : Nat) ({ cls := "WornSkinModel", name := "place", desc := "(II)I" } : Jvm.MethodName)) ∈ lw_all := lw_g (lw_at lw_m9 161 rfl) rfl
theorem q2193 : (Jvm.Cond.instanceMethod ({ cls := "WornSkinModel", name := "place", desc := "(II)I" } : Jvm.MethodName)) ∈ lw_all := lw_g (lw_at lw_m9 162 rfl) rfl
theorem q2194 : (Jvm.Cond.selects "WornSkinModel" ({ cls := "WornSkinModel", name := "place", desc := "(II)I" } : Jvm.MethodName) ({ cls := "WornSkinModel", name := "place", desc := "(II)I" } : Jvm.MethodName)) ∈ lw_all := lw_g (lw_at lw_m9 163 rfl) rfl
theorem q2195 : (Jvm.Cond.code ({ cls := "WornSkinModel", name := "place", desc := "(II)I" } : Jvm.MethodName) prog_32_method_81_code (3 : Nat) (Option.some Jvm.ClassFile.FieldType.int)) ∈ lw_all := lw_g (lw_at lw_m9 164 rfl) rfl
theorem q2196 : (Jvm.Cond.methodLink "WornSkinModel" (428 : Nat) ({ cls := "WornSkinModel", name := "placeOf", desc := "(II)I" } : Jvm.MethodName)) ∈ lw_all := lw_g (lw_at lw_m9 165 rfl) rfl
theorem q2198 : (Jvm.Cond.instanceMethod ({ cls := "WornSkinModel", name := "placeOf", desc := "(II)I" } : Jvm.MethodName)) ∈ lw_all := lw_g (lw_at lw_m9 167 rfl) rfl
theorem q2199 : (Jvm.Cond.code ({ cls := "WornSkinModel", name := "placeOf", desc := "(II)I" } : Jvm.MethodName) prog_32_method_57_code (4 : Nat) (Option.some Jvm.ClassFile.FieldType.int)) ∈ lw_all := lw_g (lw_at lw_m9 168 rfl) rfl
theorem q2200 : (Jvm.Cond.methodLink "WornSkinLaw" (107 : Nat) ({ cls := "WornSkinModel", name := "cost", desc := "(II)I" } : Jvm.MethodName)) ∈ lw_all := lw_g (lw_at lw_m9 169 rfl) rfl
theorem q2201 : (Jvm.Cond.instanceMethod ({ cls := "WornSkinModel", name := "cost", desc := "(II)I" } : Jvm.MethodName)) ∈ lw_all := lw_g (lw_at lw_m9 170 rfl) rfl
theorem q2202 : (Jvm.Cond.selects "WornSkinModel" ({ cls := "WornSkinModel", name := "cost", desc := "(II)I" } : Jvm.MethodName) ({ cls := "WornSkinModel", name := "cost", desc := "(II)I" } : Jvm.MethodName)) ∈ lw_all := lw_g (lw_at lw_m9 171 rfl) rfl
theorem q2203 : (Jvm.Cond.code ({ cls := "WornSkinModel", name := "cost", desc := "(II)I" } : Jvm.MethodName) prog_32_method_83_code (5 : Nat) (Option.some Jvm.ClassFile.FieldType.int)) ∈ lw_all := lw_g (lw_at lw_m9 172 rfl) rfl
theorem q2204 : (Jvm.Cond.methodLink "WornSkinModel" (431 : Nat) ({ cls := "WornSkinModel", name := "costBy", desc := "(III)I" } : Jvm.MethodName)) ∈ lw_all := lw_g (lw_at lw_m9 173 rfl) rfl
theorem q2206 : (Jvm.Cond.instanceMethod ({ cls := "WornSkinModel", name := "costBy", desc := "(III)I" } : Jvm.MethodName)) ∈ lw_all := lw_g (lw_at lw_m9 175 rfl) rfl
theorem q2207 : (Jvm.Cond.code ({ cls := "WornSkinModel", name := "costBy", desc := "(III)I" } : Jvm.MethodName) prog_32_method_82_code (6 : Nat) (Option.some Jvm.ClassFile.FieldType.int)) ∈ lw_all := lw_g (lw_at lw_m9 176 rfl) rfl
theorem q2208 : (Jvm.Cond.methodLink "WornSkinModel" (434 : Nat) ({ cls := "java/lang/Math", name := "min", desc := "(II)I" } : Jvm.MethodName)) ∈ lw_all := lw_g (lw_at lw_m9 177 rfl) rfl
theorem q2209 : (Jvm.Cond.methodLink "WornSkinLaw" (111 : Nat) ({ cls := "WornSkinModel", name := "lay", desc := "(I)I" } : Jvm.MethodName)) ∈ lw_all := lw_g (lw_at lw_m9 178 rfl) rfl
theorem q2210 : (Jvm.Cond.instanceMethod ({ cls := "WornSkinModel", name := "lay", desc := "(I)I" } : Jvm.MethodName)) ∈ lw_all := lw_g (lw_at lw_m9 179 rfl) rfl
theorem q2211 : (Jvm.Cond.selects "WornSkinModel" ({ cls := "WornSkinModel", name := "lay", desc := "(I)I" } : Jvm.MethodName) ({ cls := "WornSkinModel", name := "lay", desc := "(I)I" } : Jvm.MethodName)) ∈ lw_all := lw_g (lw_at lw_m9 180 rfl) rfl
theorem q2212 : (Jvm.Cond.code ({ cls := "WornSkinModel", name := "lay", desc := "(I)I" } : Jvm.MethodName) prog_32_method_86_code (2 : Nat) (Option.some Jvm.ClassFile.FieldType.int)) ∈ lw_all := lw_g (lw_at lw_m9 181 rfl) rfl
theorem q2213 : (Jvm.Cond.methodLink "WornSkinModel" (442 : Nat) ({ cls := "WornSkinModel", name := "writesAll", desc := "(II)V" } : Jvm.MethodName)) ∈ lw_all := lw_g (lw_at lw_m9 182 rfl) rfl
theorem q2215 : (Jvm.Cond.instanceMethod ({ cls := "WornSkinModel", name := "writesAll", desc := "(II)V" } : Jvm.MethodName)) ∈ lw_all := lw_g (lw_at lw_m9 184 rfl) rfl
theorem q2216 : (Jvm.Cond.code ({ cls := "WornSkinModel", name := "writesAll", desc := "(II)V" } : Jvm.MethodName) prog_32_method_84_code (5 : Nat) (Option.none : Option Jvm.ClassFile.FieldType)) ∈ lw_all := lw_g (lw_at lw_m9 185 rfl) rfl
theorem q2217 : (Jvm.Cond.methodLink "WornSkinModel" (445 : Nat) ({ cls := "WornSkinModel", name := "unwrites", desc := "(III)V" } : Jvm.MethodName)) ∈ lw_all := lw_g (lw_at lw_m9 186 rfl) rfl
theorem q2219 : (Jvm.Cond.instanceMethod ({ cls := "WornSkinModel", name := "unwrites", desc := "(III)V" } : Jvm.MethodName)) ∈ lw_all := lw_g (lw_at lw_m9 188 rfl) rfl
theorem q2220 : (Jvm.Cond.code ({ cls := "WornSkinModel", name := "unwrites", desc := "(III)V" } : Jvm.MethodName) prog_32_method_85_code (5 : Nat) (Option.none : Option Jvm.ClassFile.FieldType)) ∈ lw_all := lw_g (lw_at lw_m9 189 rfl) rfl
theorem q2221 : (Jvm.Cond.methodLink "WornSkinLaw" (115 : Nat) ({ cls := "WornSkinModel", name := "bears", desc := "(II)I" } : Jvm.MethodName)) ∈ lw_all := lw_g (lw_at lw_m9 190 rfl) rfl
theorem q2222 : (Jvm.Cond.instanceMethod ({ cls := "WornSkinModel", name := "bears", desc := "(II)I" } : Jvm.MethodName)) ∈ lw_all := lw_g (lw_at lw_m9 191 rfl) rfl
theorem q2223 : (Jvm.Cond.selects "WornSkinModel" ({ cls := "WornSkinModel", name := "bears", desc := "(II)I" } : Jvm.MethodName) ({ cls := "WornSkinModel", name := "bears", desc := "(II)I" } : Jvm.MethodName)) ∈ lw_all := lw_g (lw_at lw_m9 192 rfl) rfl
theorem q2224 : (Jvm.Cond.code ({ cls := "WornSkinModel", name := "bears", desc := "(II)I" } : Jvm.MethodName) prog_32_method_87_code (5 : Nat) (Option.some Jvm.ClassFile.FieldType.int)) ∈ lw_all := lw_g (lw_at lw_m9 193 rfl) rfl
theorem q2225 : (Jvm.Cond.methodLink "WornSkinLaw" (119 : Nat) ({ cls := "WornSkinModel", name := "over", desc := "(I)I" } : Jvm.MethodName)) ∈ lw_all := lw_g (lw_at lw_m9 194 rfl) rfl
theorem q2226 : (Jvm.Cond.instanceMethod ({ cls := "WornSkinModel", name := "over", desc := "(I)I" } : Jvm.MethodName)) ∈ lw_all := lw_g (lw_at lw_m9 195 rfl) rfl
theorem q2227 : (Jvm.Cond.selects "WornSkinModel" ({ cls := "WornSkinModel", name := "over", desc := "(I)I" } : Jvm.MethodName) ({ cls := "WornSkinModel", name := "over", desc := "(I)I" } : Jvm.MethodName)) ∈ lw_all := lw_g (lw_at lw_m9 196 rfl) rfl
theorem q2228 : (Jvm.Cond.code ({ cls := "WornSkinModel", name := "over", desc := "(I)I" } : Jvm.MethodName) prog_32_method_88_code (6 : Nat) (Option.some Jvm.ClassFile.FieldType.int)) ∈ lw_all := lw_g (lw_at lw_m9 197 rfl) rfl
theorem q2229 : (Jvm.Cond.methodLink "WornSkinLaw" (123 : Nat) ({ cls := "WornSkinModel", name := "deepest", desc := "(I)I" } : Jvm.MethodName)) ∈ lw_all := lw_g (lw_at lw_m9 198 rfl) rfl
theorem q2230 : (Jvm.Cond.instanceMethod ({ cls := "WornSkinModel", name := "deepest", desc := "(I)I" } : Jvm.MethodName)) ∈ lw_all := lw_g (lw_at lw_m9 199 rfl) rfl
theorem q2231 : (Jvm.Cond.selects "WornSkinModel" ({ cls := "WornSkinModel", name := "deepest", desc := "(I)I" } : Jvm.MethodName) ({ cls := "WornSkinModel", name := "deepest", desc := "(I)I" } : Jvm.MethodName)) ∈ lw_all := lw_g (lw_at lw_m9 200 rfl) rfl
theorem q2232 : (Jvm.Cond.code ({ cls := "WornSkinModel", name := "deepest", desc := "(I)I" } : Jvm.MethodName) prog_32_method_89_code (4 : Nat) (Option.some Jvm.ClassFile.FieldType.int)) ∈ lw_all := lw_g (lw_at lw_m9 201 rfl) rfl
theorem q2233 : (Jvm.Cond.methodLink "WornSkinLaw" (127 : Nat) ({ cls := "WornSkinModel", name := "bare", desc := "(I)I" } : Jvm.MethodName)) ∈ lw_all := lw_g (lw_at lw_m9 202 rfl) rfl
theorem q2234 : (Jvm.Cond.instanceMethod ({ cls := "WornSkinModel", name := "bare", desc := "(I)I" } : Jvm.MethodName)) ∈ lw_all := lw_g (lw_at lw_m9 203 rfl) rfl
theorem q2235 : (Jvm.Cond.selects "WornSkinModel" ({ cls := "WornSkinModel", name := "bare", desc := "(I)I" } : Jvm.MethodName) ({ cls := "WornSkinModel", name := "bare", desc := "(I)I" } : Jvm.MethodName)) ∈ lw_all := lw_g (lw_at lw_m9 204 rfl) rfl
theorem q2236 : (Jvm.Cond.code ({ cls := "WornSkinModel", name := "bare", desc := "(I)I" } : Jvm.MethodName) prog_32_method_90_code (4 : Nat) (Option.some Jvm.ClassFile.FieldType.int)) ∈ lw_all := lw_g (lw_at lw_m9 205 rfl) rfl
theorem q2237 : (Jvm.Cond.methodLink "WornSkinLaw" (131 : Nat) ({ cls := "WornSkinModel", name := "same", desc := "()I" } : Jvm.MethodName)) ∈ lw_all := lw_g (lw_at lw_m9 206 rfl) rfl
theorem q2238 : (Jvm.Cond.instanceMethod ({ cls := "WornSkinModel", name := "same", desc := "()I" } : Jvm.MethodName)) ∈ lw_all := lw_g (lw_at lw_m9 207 rfl) rfl
theorem q2239 : (Jvm.Cond.selects "WornSkinModel" ({ cls := "WornSkinModel", name := "same", desc := "()I" } : Jvm.MethodName) ({ cls := "WornSkinModel", name := "same", desc := "()I" } : Jvm.MethodName)) ∈ lw_all := lw_g (lw_at lw_m9 208 rfl) rfl
theorem q2240 : (Jvm.Cond.code ({ cls := "WornSkinModel", name := "same", desc := "()I" } : Jvm.MethodName) prog_32_method_91_code (4 : Nat) (Option.some Jvm.ClassFile.FieldType.int)) ∈ lw_all := lw_g (lw_at lw_m9 209 rfl) rfl
theorem q2241 : (Jvm.Cond.methodLink "WornSkinLaw" (135 : Nat) ({ cls := "WornSkinModel", name := "giveup", desc := "()I" } : Jvm.MethodName)) ∈ lw_all := lw_g (lw_at lw_m9 210 rfl) rfl
theorem q2242 : (Jvm.Cond.instanceMethod ({ cls := "WornSkinModel", name := "giveup", desc := "()I" } : Jvm.MethodName)) ∈ lw_all := lw_g (lw_at lw_m9 211 rfl) rfl
theorem q2243 : (Jvm.Cond.selects "WornSkinModel" ({ cls := "WornSkinModel", name := "giveup", desc := "()I" } : Jvm.MethodName) ({ cls := "WornSkinModel", name := "giveup", desc := "()I" } : Jvm.MethodName)) ∈ lw_all := lw_g (lw_at lw_m9 212 rfl) rfl
theorem q2244 : (Jvm.Cond.code ({ cls := "WornSkinModel", name := "giveup", desc := "()I" } : Jvm.MethodName) prog_32_method_92_code (6 : Nat) (Option.some Jvm.ClassFile.FieldType.int)) ∈ lw_all := lw_g (lw_at lw_m9 213 rfl) rfl
theorem q2245 : (Jvm.Cond.methodLink "WornSkinLaw" (144 : Nat) ({ cls := "WornSkinModel", name := "see", desc := "(IIIZ)Z" } : Jvm.MethodName)) ∈ lw_all := lw_g (lw_at lw_m9 214 rfl) rfl
theorem q2246 : (Jvm.Cond.instanceMethod ({ cls := "WornSkinModel", name := "see", desc := "(IIIZ)Z" } : Jvm.MethodName)) ∈ lw_all := lw_g (lw_at lw_m9 215 rfl) rfl
theorem q2247 : (Jvm.Cond.selects "WornSkinModel" ({ cls := "WornSkinModel", name := "see", desc := "(IIIZ)Z" } : Jvm.MethodName) ({ cls := "WornSkinModel", name := "see", desc := "(IIIZ)Z" } : Jvm.MethodName)) ∈ lw_all := lw_g (lw_at lw_m9 216 rfl) rfl
theorem q2248 : (Jvm.Cond.code ({ cls := "WornSkinModel", name := "see", desc := "(IIIZ)Z" } : Jvm.MethodName) prog_32_method_93_code (5 : Nat) (Option.some Jvm.ClassFile.FieldType.boolean)) ∈ lw_all := lw_g (lw_at lw_m9 217 rfl) rfl
theorem q2249 : (Jvm.Cond.methodLink "WornSkinLaw" (148 : Nat) ({ cls := "WornSkinModel", name := "who", desc := "()I" } : Jvm.MethodName)) ∈ lw_all := lw_g (lw_at lw_m9 218 rfl) rfl
theorem q2250 : (Jvm.Cond.instanceMethod ({ cls := "WornSkinModel", name := "who", desc := "()I" } : Jvm.MethodName)) ∈ lw_all := lw_g (lw_at lw_m9 219 rfl) rfl
theorem q2251 : (Jvm.Cond.selects "WornSkinModel" ({ cls := "WornSkinModel", name := "who", desc := "()I" } : Jvm.MethodName) ({ cls := "WornSkinModel", name := "who", desc := "()I" } : Jvm.MethodName)) ∈ lw_all := lw_g (lw_at lw_m9 220 rfl) rfl
theorem q2252 : (Jvm.Cond.code ({ cls := "WornSkinModel", name := "who", desc := "()I" } : Jvm.MethodName) prog_32_method_94_code (5 : Nat) (Option.some Jvm.ClassFile.FieldType.int)) ∈ lw_all := lw_g (lw_at lw_m9 221 rfl) rfl
theorem q2253 : (Jvm.Cond.methodLink "WornSkinLaw" (152 : Nat) ({ cls := "WornSkinModel", name := "ask", desc := "(I)I" } : Jvm.MethodName)) ∈ lw_all := lw_g (lw_at lw_m9 222 rfl) rfl
theorem q2254 : (Jvm.Cond.instanceMethod ({ cls := "WornSkinModel", name := "ask", desc := "(I)I" } : Jvm.MethodName)) ∈ lw_all := lw_g (lw_at lw_m9 223 rfl) rfl
theorem q2255 : (Jvm.Cond.selects "WornSkinModel" ({ cls := "WornSkinModel", name := "ask", desc := "(I)I" } : Jvm.MethodName) ({ cls := "WornSkinModel", name := "ask", desc := "(I)I" } : Jvm.MethodName)) ∈ lw_all := lw_g (lw_at lw_m9 224 rfl) rfl
theorem q2256 : (Jvm.Cond.code ({ cls := "WornSkinModel", name := "ask", desc := "(I)I" } : Jvm.MethodName) prog_32_method_95_code (8 : Nat) (Option.some Jvm.ClassFile.FieldType.int)) ∈ lw_all := lw_g (lw_at lw_m9 225 rfl) rfl
theorem q2257 : (Jvm.Cond.methodLink "WornSkinModel" (448 : Nat) ({ cls := "WornSkinModel", name := "who", desc := "()I" } : Jvm.MethodName)) ∈ lw_all := lw_g (lw_at lw_m9 226 rfl) rfl
theorem q2258 : (Jvm.Cond.methodLink "WornSkinModel" (451 : Nat) ({ cls := "java/lang/Math", name := "max", desc := "(II)I" } : Jvm.MethodName)) ∈ lw_all := lw_g (lw_at lw_m9 227 rfl) rfl
theorem q2259 : (Jvm.Cond.methodLink "WornSkinLaw" (156 : Nat) ({ cls := "WornSkinModel", name := "chance", desc := "(III)I" } : Jvm.MethodName)) ∈ lw_all := lw_g (lw_at lw_m9 228 rfl) rfl
theorem q2260 : (Jvm.Cond.instanceMethod ({ cls := "WornSkinModel", name := "chance", desc := "(III)I" } : Jvm.MethodName)) ∈ lw_all := lw_g (lw_at lw_m9 229 rfl) rfl
theorem q2261 : (Jvm.Cond.selects "WornSkinModel" ({ cls := "WornSkinModel", name := "chance", desc := "(III)I" } : Jvm.MethodName) ({ cls := "WornSkinModel", name := "chance", desc := "(III)I" } : Jvm.MethodName)) ∈ lw_all := lw_g (lw_at lw_m9 230 rfl) rfl
theorem q2262 : (Jvm.Cond.code ({ cls := "WornSkinModel", name := "chance", desc := "(III)I" } : Jvm.MethodName) prog_32_method_96_code (11 : Nat) (Option.some Jvm.ClassFile.FieldType.int)) ∈ lw_all := lw_g (lw_at lw_m9 231 rfl) rfl
theorem q2263 : (Jvm.Cond.constantLong "WornSkinModel" (454 : Nat) (10 : Int64)) ∈ lw_all := lw_g (lw_at lw_m9 232 rfl) rfl
theorem q2264 : (Jvm.Cond.constantLong "WornSkinModel" (456 : Nat) (1000000 : Int64)) ∈ lw_all := lw_g (lw_at lw_m9 233 rfl) rfl
theorem q2265 : (Jvm.Cond.methodLink "WornSkinLaw" (162 : Nat) ({ cls := "WornSkinModel", name := "rests", desc := "(IIII)I" } : Jvm.MethodName)) ∈ lw_all := lw_g (lw_at lw_m9 234 rfl) rfl
theorem q2266 : (Jvm.Cond.instanceMethod ({ cls := "WornSkinModel", name := "rests", desc := "(IIII)I" } : Jvm.MethodName)) ∈ lw_all := lw_g (lw_at lw_m9 235 rfl) rfl
theorem q2267 : (Jvm.Cond.selects "WornSkinModel" ({ cls := "WornSkinModel", name := "rests", desc := "(IIII)I" } : Jvm.MethodName) ({ cls := "WornSkinModel", name := "rests", desc := "(IIII)I" } : Jvm.MethodName)) ∈ lw_all := lw_g (lw_at lw_m9 236 rfl) rfl
theorem q2268 : (Jvm.Cond.code ({ cls := "WornSkinModel", name := "rests", desc := "(IIII)I" } : Jvm.MethodName) prog_32_method_98_code (9 : Nat) (Option.some Jvm.ClassFile.FieldType.int)) ∈ lw_all := lw_g (lw_at lw_m9 237 rfl) rfl
theorem q2269 : (Jvm.Cond.methodLink "WornSkinModel" (458 : Nat) ({ cls := "WornSkinModel", name := "getsBy", desc := "(IIIII)I" } : Jvm.MethodName)) ∈ lw_all := lw_g (lw_at lw_m9 238 rfl) rfl
theorem q2270 : (Jvm.Cond.static ({ cls := "WornSkinModel", name := "getsBy", desc := "(IIIII)I" } : Jvm.MethodName)) ∈ lw_all := lw_g (lw_at lw_m9 239 rfl) rfl
theorem q2271 : (Jvm.Cond.code ({ cls := "WornSkinModel", name := "getsBy", desc := "(IIIII)I" } : Jvm.MethodName) prog_32_method_97_code (5 : Nat) (Option.some Jvm.ClassFile.FieldType.int)) ∈ lw_all := lw_g (lw_at lw_m10 0 rfl) rfl
theorem q2272 : (Jvm.Cond.methodLink "WornSkinLaw" (169 : Nat) ({ cls := "WornSkinModel", name := "years", desc := "(III)I" } : Jvm.MethodName)) ∈ lw_all := lw_g (lw_at lw_m10 1 rfl) rfl
theorem q2273 : (Jvm.Cond.instanceMethod ({ cls := "WornSkinModel", name := "years", desc := "(III)I" } : Jvm.MethodName)) ∈ lw_all := lw_g (lw_at lw_m10 2 rfl) rfl
theorem q2274 : (Jvm.Cond.selects "WornSkinModel" ({ cls := "WornSkinModel", name := "years", desc := "(III)I" } : Jvm.MethodName) ({ cls := "WornSkinModel", name := "years", desc := "(III)I" } : Jvm.MethodName)) ∈ lw_all := lw_g (lw_at lw_m10 3 rfl) rfl
theorem q2275 : (Jvm.Cond.code ({ cls := "WornSkinModel", name := "years", desc := "(III)I" } : Jvm.MethodName) prog_32_method_102_code (7 : Nat) (Option.some Jvm.ClassFile.FieldType.int)) ∈ lw_all := lw_g (lw_at lw_m10 4 rfl) rfl
theorem q2276 : (Jvm.Cond.methodLink "WornSkinModel" (476 : Nat) ({ cls := "WornSkinModel", name := "livesWeek", desc := "()Z" } : Jvm.MethodName)) ∈ lw_all := lw_g (lw_at lw_m10 5 rfl) rfl
theorem q2278 : (Jvm.Cond.instanceMethod ({ cls := "WornSkinModel", name := "livesWeek", desc := "()Z" } : Jvm.MethodName)) ∈ lw_all := lw_g (lw_at lw_m10 7 rfl) rfl
theorem q2279 : (Jvm.Cond.code ({ cls := "WornSkinModel", name := "livesWeek", desc := "()Z" } : Jvm.MethodName) prog_32_method_100_code (6 : Nat) (Option.some Jvm.ClassFile.FieldType.boolean)) ∈ lw_all := lw_g (lw_at lw_m10 8 rfl) rfl
theorem q2280 : (Jvm.Cond.methodLink "WornSkinModel" (473 : Nat) ({ cls := "WornSkinModel", name := "draws", desc := "(I)I" } : Jvm.MethodName)) ∈ lw_all := lw_g (lw_at lw_m10 9 rfl) rfl
theorem q2282 : (Jvm.Cond.instanceMethod ({ cls := "WornSkinModel", name := "draws", desc := "(I)I" } : Jvm.MethodName)) ∈ lw_all := lw_g (lw_at lw_m10 11 rfl) rfl
theorem q2283 : (Jvm.Cond.code ({ cls := "WornSkinModel", name := "draws", desc := "(I)I" } : Jvm.MethodName) prog_32_method_99_code (2 : Nat) (Option.some Jvm.ClassFile.FieldType.int)) ∈ lw_all := lw_g (lw_at lw_m10 12 rfl) rfl
theorem q2284 : (Jvm.Cond.constantLong "WornSkinModel" (465 : Nat) (1103515245 : Int64)) ∈ lw_all := lw_g (lw_at lw_m10 13 rfl) rfl
theorem q2285 : (Jvm.Cond.constantLong "WornSkinModel" (467 : Nat) (12345 : Int64)) ∈ lw_all := lw_g (lw_at lw_m10 14 rfl) rfl
theorem q2286 : (Jvm.Cond.constantLong "WornSkinModel" (469 : Nat) (2147483648 : Int64)) ∈ lw_all := lw_g (lw_at lw_m10 15 rfl) rfl
theorem q2287 : (Jvm.Cond.constantLong "WornSkinModel" (471 : Nat) (65536 : Int64)) ∈ lw_all := lw_g (lw_at lw_m10 16 rfl) rfl
theorem q2288 : (Jvm.Cond.methodLink "WornSkinModel" (479 : Nat) ({ cls := "WornSkinModel", name := "allThick", desc := "()I" } : Jvm.MethodName)) ∈ lw_all := lw_g (lw_at lw_m10 17 rfl) rfl
theorem q2290 : (Jvm.Cond.instanceMethod ({ cls := "WornSkinModel", name := "allThick", desc := "()I" } : Jvm.MethodName)) ∈ lw_all := lw_g (lw_at lw_m10 19 rfl) rfl
theorem q2291 : (Jvm.Cond.code ({ cls := "WornSkinModel", name := "allThick", desc := "()I" } : Jvm.MethodName) prog_32_method_101_code (1 : Nat) (Option.some Jvm.ClassFile.FieldType.int)) ∈ lw_all := lw_g (lw_at lw_m10 20 rfl) rfl
theorem q2292 : (Jvm.Cond.methodLink "WornSkinLaw" (174 : Nat) ({ cls := "WornSkinModel", name := "mark", desc := "(IZ)Z" } : Jvm.MethodName)) ∈ lw_all := lw_g (lw_at lw_m10 21 rfl) rfl
theorem q2293 : (Jvm.Cond.instanceMethod ({ cls := "WornSkinModel", name := "mark", desc := "(IZ)Z" } : Jvm.MethodName)) ∈ lw_all := lw_g (lw_at lw_m10 22 rfl) rfl
theorem q2294 : (Jvm.Cond.selects "WornSkinModel" ({ cls := "WornSkinModel", name := "mark", desc := "(IZ)Z" } : Jvm.MethodName) ({ cls := "WornSkinModel", name := "mark", desc := "(IZ)Z" } : Jvm.MethodName)) ∈ lw_all := lw_g (lw_at lw_m10 23 rfl) rfl
theorem q2295 : (Jvm.Cond.code ({ cls := "WornSkinModel", name := "mark", desc := "(IZ)Z" } : Jvm.MethodName) prog_32_method_103_code (5 : Nat) (Option.some Jvm.ClassFile.FieldType.boolean)) ∈ lw_all := lw_g (lw_at lw_m10 24 rfl) rfl
theorem q2296 : (Jvm.Cond.methodLink "WornSkinModel" (482 : Nat) ({ cls := "WornSkinModel", name := "laysSeen", desc := "(II)V" } : Jvm.MethodName)) ∈ lw_all := lw_g (lw_at lw_m10 25 rfl) rfl
theorem q2298 : (Jvm.Cond.instanceMethod ({ cls := "WornSkinModel", name := "laysSeen", desc := "(II)V" } : Jvm.MethodName)) ∈ lw_all := lw_g (lw_at lw_m10 27 rfl) rfl
theorem q2299 : (Jvm.Cond.code ({ cls := "WornSkinModel", name := "laysSeen", desc := "(II)V" } : Jvm.MethodName) prog_32_method_40_code (4 : Nat) (Option.none : Option Jvm.ClassFile.FieldType)) ∈ lw_all := lw_g (lw_at lw_m10 28 rfl) rfl
theorem q2300 : (Jvm.Cond.methodLink "WornSkinLaw" (178 : Nat) ({ cls := "WornSkinModel", name := "count", desc := "(I)I" } : Jvm.MethodName)) ∈ lw_all := lw_g (lw_at lw_m10 29 rfl) rfl
theorem q2301 : (Jvm.Cond.instanceMethod ({ cls := "WornSkinModel", name := "count", desc := "(I)I" } : Jvm.MethodName)) ∈ lw_all := lw_g (lw_at lw_m10 30 rfl) rfl
theorem q2302 : (Jvm.Cond.selects "WornSkinModel" ({ cls := "WornSkinModel", name := "count", desc := "(I)I" } : Jvm.MethodName) ({ cls := "WornSkinModel", name := "count", desc := "(I)I" } : Jvm.MethodName)) ∈ lw_all := lw_g (lw_at lw_m10 31 rfl) rfl
theorem q2303 : (Jvm.Cond.code ({ cls := "WornSkinModel", name := "count", desc := "(I)I" } : Jvm.MethodName) prog_32_method_105_code (2 : Nat) (Option.some Jvm.ClassFile.FieldType.int)) ∈ lw_all := lw_g (lw_at lw_m10 32 rfl) rfl
theorem q2304 : (Jvm.Cond.methodLink "WornSkinModel" (485 : Nat) ({ cls := "WornSkinModel", name := "allLayers", desc := "()I" } : Jvm.MethodName)) ∈ lw_all := lw_g (lw_at lw_m10 33 rfl) rfl
theorem q2306 : (Jvm.Cond.instanceMethod ({ cls := "WornSkinModel", name := "allLayers", desc := "()I" } : Jvm.MethodName)) ∈ lw_all := lw_g (lw_at lw_m10 35 rfl) rfl
theorem q2307 : (Jvm.Cond.code ({ cls := "WornSkinModel", name := "allLayers", desc := "()I" } : Jvm.MethodName) prog_32_method_104_code (3 : Nat) (Option.some Jvm.ClassFile.FieldType.int)) ∈ lw_all := lw_g (lw_at lw_m10 36 rfl) rfl
theorem q2308 : (Jvm.Cond.constantLong "WornSkinLaw" (19 : Nat) (4294967295 : Int64)) ∈ lw_all := lw_g (lw_at lw_m10 37 rfl) rfl
theorem q2310 : (Jvm.Cond.castable "WornSkin$Oath" "WornSkin$Text") ∈ lw_tbl := lw_at lw_m10 39 rfl
theorem q2311 : (Jvm.Cond.castable "WornSkin$Psalm" "WornSkin$Text") ∈ lw_tbl := lw_at lw_m10 40 rfl
theorem q2312 : (Jvm.Cond.castable "WornSkin$Recipe" "WornSkin$Text") ∈ lw_tbl := lw_at lw_m10 41 rfl
theorem q2313 : (Jvm.Cond.castable "WornSkin$And" "WornSkin$Link") ∈ lw_tbl := lw_at lw_m10 42 rfl
theorem q2314 : (Jvm.Cond.castable "WornSkin$Less" "WornSkin$Link") ∈ lw_tbl := lw_at lw_m10 43 rfl
theorem q2315 : (Jvm.Cond.castable "WornSkin$Minus" "WornSkin$Link") ∈ lw_tbl := lw_at lw_m10 44 rfl
theorem q2316 : (Jvm.Cond.castable "WornSkin$Or" "WornSkin$Link") ∈ lw_tbl := lw_at lw_m10 45 rfl
theorem q2317 : (Jvm.Cond.castable "WornSkin$Plus" "WornSkin$Link") ∈ lw_tbl := lw_at lw_m10 46 rfl
theorem q2318 : (Jvm.Cond.castable "WornSkin$Same" "WornSkin$Link") ∈ lw_tbl := lw_at lw_m10 47 rfl
theorem q2319 : (Jvm.Cond.castable "WornSkin$Times" "WornSkin$Link") ∈ lw_tbl := lw_at lw_m10 48 rfl
theorem q2320 : (Jvm.Cond.castable "WornSkin$Scrapes" "WornSkin$Line") ∈ lw_tbl := lw_at lw_m10 49 rfl
theorem q2321 : (Jvm.Cond.castable "WornSkin$Weeks" "WornSkin$Line") ∈ lw_tbl := lw_at lw_m10 50 rfl
theorem q2322 : (Jvm.Cond.castable "WornSkin$Writes" "WornSkin$Line") ∈ lw_tbl := lw_at lw_m10 51 rfl
theorem q2323 : (Jvm.Cond.castable "java/lang/String" "java/lang/Object") ∈ lw_tbl := lw_at lw_m10 52 rfl
theorem q2324 : (Jvm.Cond.castable "WornSkin$Mark" "java/lang/Object") ∈ lw_tbl := lw_at lw_m10 53 rfl
theorem q2325 : (Jvm.Cond.castable "WornSkin" "java/lang/Object") ∈ lw_tbl := lw_at lw_m10 54 rfl
theorem q2326 : (Jvm.Cond.castable "WornSkin$Reader" "java/lang/Object") ∈ lw_tbl := lw_at lw_m10 55 rfl
theorem q2327 : (Jvm.Cond.castable "WornSkin$Shelf" "java/lang/Object") ∈ lw_tbl := lw_at lw_m10 56 rfl
theorem q2328 : (Jvm.Cond.castable "WornSkin$Library" "java/lang/Object") ∈ lw_tbl := lw_at lw_m10 57 rfl
theorem q2329 : (Jvm.Cond.castable "java/util/ArrayList" "java/lang/Object") ∈ lw_tbl := lw_at lw_m10 58 rfl
theorem q2330 : (Jvm.Cond.castable "WornSkin$Facts" "java/lang/Object") ∈ lw_tbl := lw_at lw_m10 59 rfl
theorem q2331 : (Jvm.Cond.castable "WornSkin$Lays" "java/lang/Object") ∈ lw_tbl := lw_at lw_m10 60 rfl
theorem q2332 : (Jvm.Cond.castable "WornSkinModel" "java/lang/Object") ∈ lw_tbl := lw_at lw_m10 61 rfl
theorem q2333 : (Jvm.Cond.castable "WornSkin$Wrong" "java/lang/Object") ∈ lw_tbl := lw_at lw_m10 62 rfl
theorem q2334 : (Jvm.Cond.castable "java/lang/Long" "java/lang/Object") ∈ lw_tbl := lw_at lw_m10 63 rfl
theorem q2335 : (Jvm.Cond.castable "java/lang/Integer" "java/lang/Object") ∈ lw_tbl := lw_at lw_m10 64 rfl
theorem q2336 : (Jvm.Cond.castable "WornSkin$Skin" "java/lang/Object") ∈ lw_tbl := lw_at lw_m10 65 rfl
theorem q2337 : (Jvm.Cond.castable "WornSkin$Psalm" "java/lang/Object") ∈ lw_tbl := lw_at lw_m10 66 rfl
theorem q2338 : (Jvm.Cond.castable "WornSkin$Recipe" "java/lang/Object") ∈ lw_tbl := lw_at lw_m10 67 rfl
theorem q2339 : (Jvm.Cond.castable "WornSkin$Oath" "java/lang/Object") ∈ lw_tbl := lw_at lw_m10 68 rfl
theorem q2340 : (Jvm.Cond.castable "WornSkin$Text" "java/lang/Object") ∈ lw_tbl := lw_at lw_m10 69 rfl
theorem q2341 : (Jvm.Cond.castable "WornSkin$Fact" "java/lang/Object") ∈ lw_tbl := lw_at lw_m10 70 rfl
theorem q2342 : (Jvm.Cond.castable "WornSkin$Plain" "java/lang/Object") ∈ lw_tbl := lw_at lw_m10 71 rfl
theorem q2343 : (Jvm.Cond.castable "WornSkin$Not" "java/lang/Object") ∈ lw_tbl := lw_at lw_m10 72 rfl
theorem q2344 : (Jvm.Cond.castable "WornSkin$Chain" "java/lang/Object") ∈ lw_tbl := lw_at lw_m10 73 rfl
theorem q2345 : (Jvm.Cond.castable "WornSkin$Times" "java/lang/Object") ∈ lw_tbl := lw_at lw_m10 74 rfl
theorem q2346 : (Jvm.Cond.castable "WornSkin$Plus" "java/lang/Object") ∈ lw_tbl := lw_at lw_m10 75 rfl
theorem q2347 : (Jvm.Cond.castable "WornSkin$Minus" "java/lang/Object") ∈ lw_tbl := lw_at lw_m10 76 rfl
theorem q2348 : (Jvm.Cond.castable "WornSkin$Less" "java/lang/Object") ∈ lw_tbl := lw_at lw_m10 77 rfl
theorem q2349 : (Jvm.Cond.castable "WornSkin$Same" "java/lang/Object") ∈ lw_tbl := lw_at lw_m10 78 rfl
theorem q2350 : (Jvm.Cond.castable "WornSkin$And" "java/lang/Object") ∈ lw_tbl := lw_at lw_m10 79 rfl
theorem q2351 : (Jvm.Cond.castable "WornSkin$Or" "java/lang/Object") ∈ lw_tbl := lw_at lw_m10 80 rfl
theorem q2352 : (Jvm.Cond.castable "WornSkin$Weeks" "java/lang/Object") ∈ lw_tbl := lw_at lw_m10 81 rfl
theorem q2353 : (Jvm.Cond.castable "WornSkin$Scrapes" "java/lang/Object") ∈ lw_tbl := lw_at lw_m10 82 rfl
theorem q2354 : (Jvm.Cond.castable "WornSkin$Writes" "java/lang/Object") ∈ lw_tbl := lw_at lw_m10 83 rfl
theorem q2355 : (Jvm.Cond.castable "java/util/NoSuchElementException" "java/lang/Object") ∈ lw_tbl := lw_at lw_m10 84 rfl
theorem q2356 : (Jvm.Cond.castable "java/lang/Throwable" "java/lang/Object") ∈ lw_tbl := lw_at lw_m10 85 rfl
theorem q2358 : (Jvm.Cond.selects "[Ljava/lang/Object;" ({ cls := "java/lang/Object", name := "getClass", desc := "()Ljava/lang/Class;" } : Jvm.MethodName) ({ cls := "java/lang/Object", name := "getClass", desc := "()Ljava/lang/Class;" } : Jvm.MethodName)) ∈ lw_all := lw_g (lw_at lw_m10 87 rfl) rfl
theorem q2359 : (Jvm.Cond.declares ({ cls := "java/lang/Object", name := "getClass", desc := "()Ljava/lang/Class;" } : Jvm.MethodName)) ∈ lw_tbl := lw_at lw_m10 88 rfl
theorem q2360 : (Jvm.Cond.castable "[Ljava/lang/String;" "java/lang/Object") ∈ lw_tbl := lw_at lw_m10 89 rfl
theorem q2361 : (Jvm.Cond.castable "[B" "java/lang/Object") ∈ lw_tbl := lw_at lw_m10 90 rfl
theorem q2362 : (Jvm.Cond.castable "[I" "java/lang/Object") ∈ lw_tbl := lw_at lw_m10 91 rfl
theorem q2363 : (Jvm.Cond.castable "[J" "java/lang/Object") ∈ lw_tbl := lw_at lw_m10 92 rfl
theorem q2364 : (Jvm.Cond.castable "[Ljava/lang/Object;" "java/lang/Object") ∈ lw_tbl := lw_at lw_m10 93 rfl
theorem q2365 : (Jvm.Cond.castable "[LWornSkin$Mark;" "java/lang/Object") ∈ lw_tbl := lw_at lw_m10 94 rfl
theorem q2366 : (Jvm.Cond.castable "[Z" "java/lang/Object") ∈ lw_tbl := lw_at lw_m10 95 rfl
theorem q2367 : (Jvm.Cond.fieldLink "java/lang/String" (15 : Nat) "java/lang/String" "coder" "B") ∈ lw_all := lw_g (lw_at lw_m10 96 rfl) rfl
theorem q2368 : (Jvm.Cond.fieldLink "java/lang/String" (9 : Nat) "java/lang/String" "value" "[B") ∈ lw_all := lw_g (lw_at lw_m10 97 rfl) rfl
