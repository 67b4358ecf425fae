set_option maxRecDepth 100000
section
variable {p : Program} {l : Launch} {e : Env} {s : State} {m : MethodId} {args : Array Value} {below : List Frame} {meth : Method} {c : Code} {D : va_G} {dA : Nat → ClassId → Prop} {H0 : Heap} {hs h' : jH} {mc ms : Nat}
def fX2_init (a0 : Nat) : jM Unit := jB (jnaR 5 4) fun q1 => jB (jK 1) fun y2 => jB (jsR 5 [33] (some q1) 0 y2) fun _ => jB (jK 2) fun y3 => jB (jsR 5 [33] (some q1) 1 y3) fun _ => jB (jK 3) fun y4 => jB (jsR 5 [33] (some q1) 2 y4) fun _ => jB (jK 4) fun y5 => jB (jsR 5 [33] (some q1) 3 y5) fun _ => jB (jpR [1] 0 (some a0) (some q1)) fun _ => jB (jnaR 5 4) fun q6 => jB (jK 5) fun y7 => jB (jsR 5 [33] (some q6) 0 y7) fun _ => jB (jK 6) fun y8 => jB (jsR 5 [33] (some q6) 1 y8) fun _ => jB (jK 7) fun y9 => jB (jsR 5 [33] (some q6) 2 y9) fun _ => jB (jK 8) fun y10 => jB (jsR 5 [33] (some q6) 3 y10) fun _ => jB (jpR [1] 1 (some a0) (some q6)) fun _ => jB (jnaR 5 16) fun q11 => jB (jK 9) fun y12 => jB (jsR 5 [33] (some q11) 0 y12) fun _ => jB (jK 10) fun y13 => jB (jsR 5 [33] (some q11) 1 y13) fun _ => jB (jK 11) fun y14 => jB (jsR 5 [33] (some q11) 2 y14) fun _ => jB (jK 12) fun y15 => jB (jsR 5 [33] (some q11) 3 y15) fun _ => jB (jK 13) fun y16 => jB (jsR 5 [33] (some q11) 4 y16) fun _ => jB (jK 14) fun y17 => jB (jsR 5 [33] (some q11) 5 y17) fun _ => jB (jK 15) fun y18 => jB (jsR 5 [33] (some q11) 6 y18) fun _ => jB (jK 16) fun y19 => jB (jsR 5 [33] (some q11) 7 y19) fun _ => jB (jK 17) fun y20 => jB (jsR 5 [33] (some q11) 8 y20) fun _ => jB (jK 18) fun y21 => jB (jsR 5 [33] (some q11) 9 y21) fun _ => jB (jK 19) fun y22 => jB (jsR 5 [33] (some q11) 10 y22) fun _ => jB (jK 20) fun y23 => jB (jsR 5 [33] (some q11) 11 y23) fun _ => jB (jK 21) fun y24 => jB (jsR 5 [33] (some q11) 12 y24) fun _ => jB (jK 22) fun y25 => jB (jsR 5 [33] (some q11) 13 y25) fun _ => jB (jK 23) fun y26 => jB (jsR 5 [33] (some q11) 14 y26) fun _ => jB (jK 24) fun y27 => jB (jsR 5 [33] (some q11) 15 y27) fun _ => jB (jpR [1] 2 (some a0) (some q11)) fun _ => jB (jnaR 5 2) fun q28 => jB (jK 21) fun y29 => jB (jsR 5 [33] (some q28) 0 y29) fun _ => jB (jK 20) fun y30 => jB (jsR 5 [33] (some q28) 1 y30) fun _ => jB (jpR [1] 3 (some a0) (some q28)) fun _ => jB (jnaR 5 4) fun q31 => jB (jK 16) fun y32 => jB (jsR 5 [33] (some q31) 0 y32) fun _ => jB (jK 17) fun y33 => jB (jsR 5 [33] (some q31) 1 y33) fun _ => jB (jK 18) fun y34 => jB (jsR 5 [33] (some q31) 2 y34) fun _ => jB (jK 19) fun y35 => jB (jsR 5 [33] (some q31) 3 y35) fun _ => jB (jpR [1] 4 (some a0) (some q31)) fun _ => jB (jnaI 0 1000) fun q36 => jB (jpR [1] 6 (some a0) (some q36)) fun _ => jB (jnaI 0 1001) fun q37 => jB (jpR [1] 8 (some a0) (some q37)) fun _ => jB (jnaL 1 1001) fun q38 => jB (jpR [1] 9 (some a0) (some q38)) fun _ => jB (jnaI 0 1001) fun q39 => jB (jpR [1] 10 (some a0) (some q39)) fun _ => jR ()
theorem wX2_init_0 {r : Unit} (cx : jCx p s m args meth c cX2_init "WornSkin$Reader" 1 (Option.none : Option Jvm.ClassFile.FieldType) D dA H0 hs.2.2.2.2) (e1 : h'.2.2.1 = hs.2.2.1 + mc) (e2 : h'.2.2.2.1 = hs.2.2.2.1 + ms) (hin : meth.name = "<init>") (a0 : Nat) : ∀ (h : jH) (H : Heap) (locs : List Loc) (cells slots : Nat) (ls : Array Slot), (fX2_init a0).1 h = some (r, h') → jS D dA H0 hs h H locs cells slots → lv_has ls 1 [(0, .ref a0)] → W p l e { frames := 1, cells := mc, slots := ms, locals := 20 } s m args below meth c H locs cells slots (jQ D dA H0 below s (.returned none) h' mc ms) (F0 m 0 ls []) := by
  have hx := cx.1
  have hb := cx.2.1
  have hown := cx.2.2.2.1
  have hts := cx.2.2.2.2.1
  have hm : h'.2.2.1 ≤ hs.2.2.1 + mc ∧ h'.2.2.2.1 ≤ hs.2.2.2.1 + ms := ⟨Nat.le_of_eq e1, Nat.le_of_eq e2⟩
  intro h H locs cells slots ls hf hS hl
  unfold fX2_init at hf
  refine lv_aload_n (pc := 0) hx hb dX2_init_0 rfl (lv_at hl 0 rfl) ?_
  refine j_objInit (pc := 1) cx q178 q171 q172 hl.1 dX2_init_1 (Nat.le_of_ble_eq_true rfl) (Nat.le_of_ble_eq_true rfl) ?_
  refine lv_aload_n (pc := 4) hx hb dX2_init_4 rfl (lv_at hl 0 rfl) ?_
  refine lv_iconst (pc := 5) (v := 4) hx hb dX2_init_5 rfl ?_
  refine j_naR (pc := 6) cx hS hf rfl q179 q180 dX2_init_6 hm (fun q1 h H cells slots hf hS => ?_)
  refine lv_dup (pc := 9) hx hb dX2_init_9 rfl ?_
  refine lv_iconst (pc := 10) (v := 0) hx hb dX2_init_10 rfl ?_
  refine j_ldcS (pc := 11) cx hS rfl hf (tx := "wet") (List.mem_of_getElem? (i := 0) rfl) dX2_init_11 (fun y2 hf => ?_)
  refine j_sR (pc := 13) cx hS hf rfl ok_java_lang_String dX2_init_13 (fun h H locs hf hS => ?_)
  refine lv_dup (pc := 14) hx hb dX2_init_14 rfl ?_
  refine lv_iconst (pc := 15) (v := 1) hx hb dX2_init_15 rfl ?_
  refine j_ldcS (pc := 16) cx hS rfl hf (tx := "deep") (List.mem_of_getElem? (i := 1) rfl) dX2_init_16 (fun y3 hf => ?_)
  refine j_sR (pc := 18) cx hS hf rfl ok_java_lang_String dX2_init_18 (fun h H locs hf hS => ?_)
  refine lv_dup (pc := 19) hx hb dX2_init_19 rfl ?_
  refine lv_iconst (pc := 20) (v := 2) hx hb dX2_init_20 rfl ?_
  refine j_ldcS (pc := 21) cx hS rfl hf (tx := "bite") (List.mem_of_getElem? (i := 2) rfl) dX2_init_21 (fun y4 hf => ?_)
  refine j_sR (pc := 23) cx hS hf rfl ok_java_lang_String dX2_init_23 (fun h H locs hf hS => ?_)
  refine lv_dup (pc := 24) hx hb dX2_init_24 rfl ?_
  refine lv_iconst (pc := 25) (v := 3) hx hb dX2_init_25 rfl ?_
  refine j_ldcS (pc := 26) cx hS rfl hf (tx := "thin") (List.mem_of_getElem? (i := 3) rfl) dX2_init_26 (fun y5 hf => ?_)
  refine j_sR (pc := 28) cx hS hf rfl ok_java_lang_String dX2_init_28 (fun h H locs hf hS => ?_)
  refine j_pRa (pc := 29) cx hS hf fp_WornSkin_Reader_facts (Or.inr ⟨rfl, hin, rfl⟩) q205 dX2_init_29 (fun h H locs hf hS => ?_)
  refine lv_aload_n (pc := 32) hx hb dX2_init_32 rfl (lv_at hl 0 rfl) ?_
  refine lv_iconst (pc := 33) (v := 4) hx hb dX2_init_33 rfl ?_
  refine j_naR (pc := 34) cx hS hf rfl q179 q180 dX2_init_34 hm (fun q6 h H cells slots hf hS => ?_)
  refine lv_dup (pc := 37) hx hb dX2_init_37 rfl ?_
  refine lv_iconst (pc := 38) (v := 0) hx hb dX2_init_38 rfl ?_
  refine j_ldcS (pc := 39) cx hS rfl hf (tx := "charter") (List.mem_of_getElem? (i := 4) rfl) dX2_init_39 (fun y7 hf => ?_)
  refine j_sR (pc := 41) cx hS hf rfl ok_java_lang_String dX2_init_41 (fun h H locs hf hS => ?_)
  refine lv_dup (pc := 42) hx hb dX2_init_42 rfl ?_
  refine lv_iconst (pc := 43) (v := 1) hx hb dX2_init_43 rfl ?_
  refine j_ldcS (pc := 44) cx hS rfl hf (tx := "psalm") (List.mem_of_getElem? (i := 5) rfl) dX2_init_44 (fun y8 hf => ?_)
  refine j_sR (pc := 46) cx hS hf rfl ok_java_lang_String dX2_init_46 (fun h H locs hf hS => ?_)
  refine lv_dup (pc := 47) hx hb dX2_init_47 rfl ?_
  refine lv_iconst (pc := 48) (v := 2) hx hb dX2_init_48 rfl ?_
  refine j_ldcS (pc := 49) cx hS rfl hf (tx := "recipe") (List.mem_of_getElem? (i := 6) rfl) dX2_init_49 (fun y9 hf => ?_)
  refine j_sR (pc := 51) cx hS hf rfl ok_java_lang_String dX2_init_51 (fun h H locs hf hS => ?_)
  refine lv_dup (pc := 52) hx hb dX2_init_52 rfl ?_
  refine lv_iconst (pc := 53) (v := 3) hx hb dX2_init_53 rfl ?_
  refine j_ldcS (pc := 54) cx hS rfl hf (tx := "oath") (List.mem_of_getElem? (i := 7) rfl) dX2_init_54 (fun y10 hf => ?_)
  refine j_sR (pc := 56) cx hS hf rfl ok_java_lang_String dX2_init_56 (fun h H locs hf hS => ?_)
  refine j_pRa (pc := 57) cx hS hf fp_WornSkin_Reader_kinds (Or.inr ⟨rfl, hin, rfl⟩) q206 dX2_init_57 (fun h H locs hf hS => ?_)
  refine lv_aload_n (pc := 60) hx hb dX2_init_60 rfl (lv_at hl 0 rfl) ?_
  refine lv_bipush (pc := 61) (v := 16) hx hb dX2_init_61 rfl ?_
  refine j_naR (pc := 63) cx hS hf rfl q179 q180 dX2_init_63 hm (fun q11 h H cells slots hf hS => ?_)
  refine lv_dup (pc := 66) hx hb dX2_init_66 rfl ?_
  refine lv_iconst (pc := 67) (v := 0) hx hb dX2_init_67 rfl ?_
  refine j_ldcS (pc := 68) cx hS rfl hf (tx := "skin") (List.mem_of_getElem? (i := 8) rfl) dX2_init_68 (fun y12 hf => ?_)
  refine j_sR (pc := 70) cx hS hf rfl ok_java_lang_String dX2_init_70 (fun h H locs hf hS => ?_)
  refine lv_dup (pc := 71) hx hb dX2_init_71 rfl ?_
  refine lv_iconst (pc := 72) (v := 1) hx hb dX2_init_72 rfl ?_
  refine j_ldcS (pc := 73) cx hS rfl hf (tx := "lines") (List.mem_of_getElem? (i := 9) rfl) dX2_init_73 (fun y13 hf => ?_)
  refine j_sR (pc := 75) cx hS hf rfl ok_java_lang_String dX2_init_75 (fun h H locs hf hS => ?_)
  refine lv_dup (pc := 76) hx hb dX2_init_76 rfl ?_
  refine lv_iconst (pc := 77) (v := 2) hx hb dX2_init_77 rfl ?_
  refine j_ldcS (pc := 78) cx hS rfl hf (tx := "thick") (List.mem_of_getElem? (i := 10) rfl) dX2_init_78 (fun y14 hf => ?_)
  refine j_sR (pc := 80) cx hS hf rfl ok_java_lang_String dX2_init_80 (fun h H locs hf hS => ?_)
  refine lv_dup (pc := 81) hx hb dX2_init_81 rfl ?_
  refine lv_iconst (pc := 82) (v := 3) hx hb dX2_init_82 rfl ?_
  refine j_ldcS (pc := 83) cx hS rfl hf (tx := "hole") (List.mem_of_getElem? (i := 11) rfl) dX2_init_83 (fun y15 hf => ?_)
  refine j_sR (pc := 85) cx hS hf rfl ok_java_lang_String dX2_init_85 (fun h H locs hf hS => ?_)
  refine lv_dup (pc := 86) hx hb dX2_init_86 rfl ?_
  refine lv_iconst (pc := 87) (v := 4) hx hb dX2_init_87 rfl ?_
  refine j_ldcS (pc := 88) cx hS rfl hf (tx := "text") (List.mem_of_getElem? (i := 12) rfl) dX2_init_88 (fun y16 hf => ?_)
  refine j_sR (pc := 90) cx hS hf rfl ok_java_lang_String dX2_init_90 (fun h H locs hf hS => ?_)
  refine lv_dup (pc := 91) hx hb dX2_init_91 rfl ?_
  refine lv_iconst (pc := 92) (v := 5) hx hb dX2_init_92 rfl ?_
  refine j_ldcS (pc := 93) cx hS rfl hf (tx := "damp") (List.mem_of_getElem? (i := 13) rfl) dX2_init_93 (fun y17 hf => ?_)
  refine j_sR (pc := 95) cx hS hf rfl ok_java_lang_String dX2_init_95 (fun h H locs hf hS => ?_)
  refine lv_dup (pc := 96) hx hb dX2_init_96 rfl ?_
  refine lv_bipush (pc := 97) (v := 6) hx hb dX2_init_97 rfl ?_
  refine j_ldcS (pc := 99) cx hS rfl hf (tx := "shows") (List.mem_of_getElem? (i := 14) rfl) dX2_init_99 (fun y18 hf => ?_)
  refine j_sR (pc := 101) cx hS hf rfl ok_java_lang_String dX2_init_101 (fun h H locs hf hS => ?_)
  refine lv_dup (pc := 102) hx hb dX2_init_102 rfl ?_
  refine lv_bipush (pc := 103) (v := 7) hx hb dX2_init_103 rfl ?_
  refine j_ldcS (pc := 105) cx hS rfl hf (tx := "write") (List.mem_of_getElem? (i := 15) rfl) dX2_init_105 (fun y19 hf => ?_)
  refine j_sR (pc := 107) cx hS hf rfl ok_java_lang_String dX2_init_107 (fun h H locs hf hS => ?_)
  refine lv_dup (pc := 108) hx hb dX2_init_108 rfl ?_
  refine lv_bipush (pc := 109) (v := 8) hx hb dX2_init_109 rfl ?_
  refine j_ldcS (pc := 111) cx hS rfl hf (tx := "scrape") (List.mem_of_getElem? (i := 16) rfl) dX2_init_111 (fun y20 hf => ?_)
  refine j_sR (pc := 113) cx hS hf rfl ok_java_lang_String dX2_init_113 (fun h H locs hf hS => ?_)
  refine lv_dup (pc := 114) hx hb dX2_init_114 rfl ?_
  refine lv_bipush (pc := 115) (v := 9) hx hb dX2_init_115 rfl ?_
  refine j_ldcS (pc := 117) cx hS rfl hf (tx := "third") (List.mem_of_getElem? (i := 17) rfl) dX2_init_117 (fun y21 hf => ?_)
  refine j_sR (pc := 119) cx hS hf rfl ok_java_lang_String dX2_init_119 (fun h H locs hf hS => ?_)
  refine lv_dup (pc := 120) hx hb dX2_init_120 rfl ?_
  refine lv_bipush (pc := 121) (v := 10) hx hb dX2_init_121 rfl ?_
  refine j_ldcS (pc := 123) cx hS rfl hf (tx := "week") (List.mem_of_getElem? (i := 18) rfl) dX2_init_123 (fun y22 hf => ?_)
  refine j_sR (pc := 125) cx hS hf rfl ok_java_lang_String dX2_init_125 (fun h H locs hf hS => ?_)
  refine lv_dup (pc := 126) hx hb dX2_init_126 rfl ?_
  refine lv_bipush (pc := 127) (v := 11) hx hb dX2_init_127 rfl ?_
  refine j_ldcS (pc := 129) cx hS rfl hf (tx := "gall") (List.mem_of_getElem? (i := 19) rfl) dX2_init_129 (fun y23 hf => ?_)
  refine j_sR (pc := 131) cx hS hf rfl ok_java_lang_String dX2_init_131 (fun h H locs hf hS => ?_)
  refine lv_dup (pc := 132) hx hb dX2_init_132 rfl ?_
  refine lv_bipush (pc := 133) (v := 12) hx hb dX2_init_133 rfl ?_
  refine j_ldcS (pc := 135) cx hS rfl hf (tx := "soot") (List.mem_of_getElem? (i := 20) rfl) dX2_init_135 (fun y24 hf => ?_)
  refine j_sR (pc := 137) cx hS hf rfl ok_java_lang_String dX2_init_137 (fun h H locs hf hS => ?_)
  refine lv_dup (pc := 138) hx hb dX2_init_138 rfl ?_
  refine lv_bipush (pc := 139) (v := 13) hx hb dX2_init_139 rfl ?_
  refine j_ldcS (pc := 141) cx hS rfl hf (tx := "not") (List.mem_of_getElem? (i := 21) rfl) dX2_init_141 (fun y25 hf => ?_)
  refine j_sR (pc := 143) cx hS hf rfl ok_java_lang_String dX2_init_143 (fun h H locs hf hS => ?_)
  refine lv_dup (pc := 144) hx hb dX2_init_144 rfl ?_
  refine lv_bipush (pc := 145) (v := 14) hx hb dX2_init_145 rfl ?_
  refine j_ldcS (pc := 147) cx hS rfl hf (tx := "and") (List.mem_of_getElem? (i := 22) rfl) dX2_init_147 (fun y26 hf => ?_)
  refine j_sR (pc := 149) cx hS hf rfl ok_java_lang_String dX2_init_149 (fun h H locs hf hS => ?_)
  refine lv_dup (pc := 150) hx hb dX2_init_150 rfl ?_
  refine lv_bipush (pc := 151) (v := 15) hx hb dX2_init_151 rfl ?_
  refine j_ldcS (pc := 153) cx hS rfl hf (tx := "or") (List.mem_of_getElem? (i := 23) rfl) dX2_init_153 (fun y27 hf => ?_)
  refine j_sR (pc := 155) cx hS hf rfl ok_java_lang_String dX2_init_155 (fun h H locs hf hS => ?_)
  refine j_pRa (pc := 156) cx hS hf fp_WornSkin_Reader_kept (Or.inr ⟨rfl, hin, rfl⟩) q207 dX2_init_156 (fun h H locs hf hS => ?_)
  refine lv_aload_n (pc := 159) hx hb dX2_init_159 rfl (lv_at hl 0 rfl) ?_
  refine lv_iconst (pc := 160) (v := 2) hx hb dX2_init_160 rfl ?_
  refine j_naR (pc := 161) cx hS hf rfl q179 q180 dX2_init_161 hm (fun q28 h H cells slots hf hS => ?_)
  refine lv_dup (pc := 164) hx hb dX2_init_164 rfl ?_
  refine lv_iconst (pc := 165) (v := 0) hx hb dX2_init_165 rfl ?_
  refine j_ldcS (pc := 166) cx hS rfl hf (tx := "soot") (List.mem_of_getElem? (i := 20) rfl) dX2_init_166 (fun y29 hf => ?_)
  refine j_sR (pc := 168) cx hS hf rfl ok_java_lang_String dX2_init_168 (fun h H locs hf hS => ?_)
  refine lv_dup (pc := 169) hx hb dX2_init_169 rfl ?_
  refine lv_iconst (pc := 170) (v := 1) hx hb dX2_init_170 rfl ?_
  refine j_ldcS (pc := 171) cx hS rfl hf (tx := "gall") (List.mem_of_getElem? (i := 19) rfl) dX2_init_171 (fun y30 hf => ?_)
  refine j_sR (pc := 173) cx hS hf rfl ok_java_lang_String dX2_init_173 (fun h H locs hf hS => ?_)
  refine j_pRa (pc := 174) cx hS hf fp_WornSkin_Reader_inks (Or.inr ⟨rfl, hin, rfl⟩) q208 dX2_init_174 (fun h H locs hf hS => ?_)
  refine lv_aload_n (pc := 177) hx hb dX2_init_177 rfl (lv_at hl 0 rfl) ?_
  refine lv_iconst (pc := 178) (v := 4) hx hb dX2_init_178 rfl ?_
  refine j_naR (pc := 179) cx hS hf rfl q179 q180 dX2_init_179 hm (fun q31 h H cells slots hf hS => ?_)
  refine lv_dup (pc := 182) hx hb dX2_init_182 rfl ?_
  refine lv_iconst (pc := 183) (v := 0) hx hb dX2_init_183 rfl ?_
  refine j_ldcS (pc := 184) cx hS rfl hf (tx := "write") (List.mem_of_getElem? (i := 15) rfl) dX2_init_184 (fun y32 hf => ?_)
  refine j_sR (pc := 186) cx hS hf rfl ok_java_lang_String dX2_init_186 (fun h H locs hf hS => ?_)
  refine lv_dup (pc := 187) hx hb dX2_init_187 rfl ?_
  refine lv_iconst (pc := 188) (v := 1) hx hb dX2_init_188 rfl ?_
  refine j_ldcS (pc := 189) cx hS rfl hf (tx := "scrape") (List.mem_of_getElem? (i := 16) rfl) dX2_init_189 (fun y33 hf => ?_)
  refine j_sR (pc := 191) cx hS hf rfl ok_java_lang_String dX2_init_191 (fun h H locs hf hS => ?_)
  refine lv_dup (pc := 192) hx hb dX2_init_192 rfl ?_
  refine lv_iconst (pc := 193) (v := 2) hx hb dX2_init_193 rfl ?_
  refine j_ldcS (pc := 194) cx hS rfl hf (tx := "third") (List.mem_of_getElem? (i := 17) rfl) dX2_init_194 (fun y34 hf => ?_)
  refine j_sR (pc := 196) cx hS hf rfl ok_java_lang_String dX2_init_196 (fun h H locs hf hS => ?_)
  refine lv_dup (pc := 197) hx hb dX2_init_197 rfl ?_
  refine lv_iconst (pc := 198) (v := 3) hx hb dX2_init_198 rfl ?_
  refine j_ldcS (pc := 199) cx hS rfl hf (tx := "week") (List.mem_of_getElem? (i := 18) rfl) dX2_init_199 (fun y35 hf => ?_)
  refine j_sR (pc := 201) cx hS hf rfl ok_java_lang_String dX2_init_201 (fun h H locs hf hS => ?_)
  refine j_pRa (pc := 202) cx hS hf fp_WornSkin_Reader_acts (Or.inr ⟨rfl, hin, rfl⟩) q209 dX2_init_202 (fun h H locs hf hS => ?_)
  refine lv_aload_n (pc := 205) hx hb dX2_init_205 rfl (lv_at hl 0 rfl) ?_
  refine lv_sipush (pc := 206) (v := 1000) hx hb dX2_init_206 rfl ?_
  refine j_naG (pc := 209) cx hS hf (ty := .int) rfl rfl (fun _ => rfl) (by decide) q247 dX2_init_209 (fun _ hh => by cases hh) hm (fun q36 h H cells slots hf hS => ?_)
  refine j_pRa (pc := 211) cx hS hf fp_WornSkin_Reader_tape (Or.inr ⟨rfl, hin, rfl⟩) q211 dX2_init_211 (fun h H locs hf hS => ?_)
  refine lv_aload_n (pc := 214) hx hb dX2_init_214 rfl (lv_at hl 0 rfl) ?_
  refine lv_sipush (pc := 215) (v := 1001) hx hb dX2_init_215 rfl ?_
  refine j_naG (pc := 218) cx hS hf (ty := .int) rfl rfl (fun _ => rfl) (by decide) q247 dX2_init_218 (fun _ hh => by cases hh) hm (fun q37 h H cells slots hf hS => ?_)
  refine j_pRa (pc := 220) cx hS hf fp_WornSkin_Reader_sort (Or.inr ⟨rfl, hin, rfl⟩) q214 dX2_init_220 (fun h H locs hf hS => ?_)
  refine lv_aload_n (pc := 223) hx hb dX2_init_223 rfl (lv_at hl 0 rfl) ?_
  refine lv_sipush (pc := 224) (v := 1001) hx hb dX2_init_224 rfl ?_
  refine j_naG (pc := 227) cx hS hf (ty := .long) rfl rfl (fun _ => rfl) (by decide) q248 dX2_init_227 (fun _ hh => by cases hh) hm (fun q38 h H cells slots hf hS => ?_)
  refine j_pRa (pc := 229) cx hS hf fp_WornSkin_Reader_value (Or.inr ⟨rfl, hin, rfl⟩) q215 dX2_init_229 (fun h H locs hf hS => ?_)
  refine lv_aload_n (pc := 232) hx hb dX2_init_232 rfl (lv_at hl 0 rfl) ?_
  refine lv_sipush (pc := 233) (v := 1001) hx hb dX2_init_233 rfl ?_
  refine j_naG (pc := 236) cx hS hf (ty := .int) rfl rfl (fun _ => rfl) (by decide) q247 dX2_init_236 (fun _ hh => by cases hh) hm (fun q39 h H cells slots hf hS => ?_)
  refine j_pRa (pc := 238) cx hS hf fp_WornSkin_Reader_place (Or.inr ⟨rfl, hin, rfl⟩) q216 dX2_init_238 (fun h H locs hf hS => ?_)
  exact j_vret (pc := 241) cx hS hf e1 e2 dX2_init_241
theorem metX2_init (l : Launch) (a0 : Nat) (h h' : jH) (r : Unit) (hf : (fX2_init a0).1 h = some (r, h')) : jMet l yX2_init (ws_ yX2_init cX2_init 1 (Option.none : Option Jvm.ClassFile.FieldType)) (1) (20) [.ref a0] h h' (.returned none) := by
  refine jStart rfl (jle hf) (Nat.le_of_ble_eq_true rfl) ?_
  intro p e s m below meth c D dA H0 mc ms ls cx hnm e1 e2 hS hl
  exact wX2_init_0 cx e1 e2 hnm a0  _ _ _ _ _ _ hf hS hl
def fX2_feed_73 (N : Nat) (a0 : Nat) : jM Unit := jR ()
def fX2_feed_67 (N : Nat) (k3 : Int64 → Int32 → jM Unit) (a0 : Nat) (x1 : Int64) (x3 : Int32) : jM Unit := k3 x1 (x3 + (-8))
def fX2_feed_36 (N : Nat) (k3 : Int64 → Int32 → jM Unit) (a0 : Nat) (x1 : Int64) (x3 : Int32) (x4 : Int32) : jM Unit := jB (jgI [1] 7 (some a0)) fun y1 => if 1000 ≤ y1 then (fX2_feed_67 N k3 a0 x1 x3) else (jB (jgR [1] 6 (some a0)) fun y2 => jB (jgI [1] 7 (some a0)) fun y3 => jB (jsI 0 y2 y3 x4) fun _ => jB (jgI [1] 7 (some a0)) fun y4 => jB (jpI [1] 7 (some a0) (y4 + 1)) fun _ => fX2_feed_67 N k3 a0 x1 x3)
def fX2_feed_3 (N : Nat) (a0 : Nat) : Nat → Int64 → Int32 → jM Unit
  | 0, _, _ => jE
  | n + 1, x1, x3 => if x3 < 0 then (fX2_feed_73 N a0) else (if ((((x1.toUInt64 >>> (x3.toInt64.toUInt64 &&& Int64.toUInt64 63)).toInt64) &&& 255).toInt32) = 10 then (fX2_feed_36 N (fX2_feed_3 N a0 n) a0 x1 x3 ((((x1.toUInt64 >>> (x3.toInt64.toUInt64 &&& Int64.toUInt64 63)).toInt64) &&& 255).toInt32)) else (jB (fX1_within ((((x1.toUInt64 >>> (x3.toInt64.toUInt64 &&& Int64.toUInt64 63)).toInt64) &&& 255).toInt32) 32 126) fun y1 => if y1 = 0 then (fX2_feed_67 N (fX2_feed_3 N a0 n) a0 x1 x3) else (fX2_feed_36 N (fX2_feed_3 N a0 n) a0 x1 x3 ((((x1.toUInt64 >>> (x3.toInt64.toUInt64 &&& Int64.toUInt64 63)).toInt64) &&& 255).toInt32))))
def fX2_feed (N : Nat) (a0 : Nat) (x1 : Int64) : jM Unit := fX2_feed_3 N a0 N x1 56
theorem wX2_feed_73 {N : Nat} {r : Unit} (cx : jCx p s m args meth c cX2_feed "WornSkin$Reader" 5 (Option.none : Option Jvm.ClassFile.FieldType) D dA H0 hs.2.2.2.2) (e1 : h'.2.2.1 = hs.2.2.1 + mc) (e2 : h'.2.2.2.1 = hs.2.2.2.1 + ms) (a0 : Nat) (hth : jTh hs a0 1) : ∀ (h : jH) (H : Heap) (locs : List Loc) (cells slots : Nat) (ls : Array Slot), (fX2_feed_73 N a0).1 h = some (r, h') → jS D dA H0 hs h H locs cells slots → lv_has ls 5 [(0, .ref a0)] → W p l e { frames := 1, cells := mc, slots := ms, locals := 22 } s m args below meth c H locs cells slots (jQ D dA H0 below s (.returned none) h' mc ms) (F0 m 73 ls []) := by
  have hx := cx.1
  have hb := cx.2.1
  have hown := cx.2.2.2.1
  have hts := cx.2.2.2.2.1
  have hm : h'.2.2.1 ≤ hs.2.2.1 + mc ∧ h'.2.2.2.1 ≤ hs.2.2.2.1 + ms := ⟨Nat.le_of_eq e1, Nat.le_of_eq e2⟩
  intro h H locs cells slots ls hf hS hl
  unfold fX2_feed_73 at hf
  exact j_vret (pc := 73) cx hS hf e1 e2 dX2_feed_73
theorem wX2_feed_67 {N : Nat} {k3 : Int64 → Int32 → jM Unit} {r : Unit} (cx : jCx p s m args meth c cX2_feed "WornSkin$Reader" 5 (Option.none : Option Jvm.ClassFile.FieldType) D dA H0 hs.2.2.2.2) (e1 : h'.2.2.1 = hs.2.2.1 + mc) (e2 : h'.2.2.2.1 = hs.2.2.2.1 + ms) (a0 : Nat) (hth : jTh hs a0 1) (hk3 : ∀ (x1 : Int64) (x3 : Int32), ∀ (h : jH) (H : Heap) (locs : List Loc) (cells slots : Nat) (ls : Array Slot), (k3 x1 x3).1 h = some (r, h') → jS D dA H0 hs h H locs cells slots → lv_has ls 5 [(0, .ref a0), (1, .long x1), (3, .int x3)] → W p l e { frames := 1, cells := mc, slots := ms, locals := 22 } s m args below meth c H locs cells slots (jQ D dA H0 below s (.returned none) h' mc ms) (F0 m 3 ls [])) : ∀ (x1 : Int64) (x3 : Int32), ∀ (h : jH) (H : Heap) (locs : List Loc) (cells slots : Nat) (ls : Array Slot), (fX2_feed_67 N k3 a0 x1 x3).1 h = some (r, h') → jS D dA H0 hs h H locs cells slots → lv_has ls 5 [(0, .ref a0), (1, .long x1), (3, .int x3)] → W p l e { frames := 1, cells := mc, slots := ms, locals := 22 } s m args below meth c H locs cells slots (jQ D dA H0 below s (.returned none) h' mc ms) (F0 m 67 ls []) := by
  have hx := cx.1
  have hb := cx.2.1
  have hown := cx.2.2.2.1
  have hts := cx.2.2.2.2.1
  have hm : h'.2.2.1 ≤ hs.2.2.1 + mc ∧ h'.2.2.2.1 ≤ hs.2.2.2.1 + ms := ⟨Nat.le_of_eq e1, Nat.le_of_eq e2⟩
  intro x1 x3 h H locs cells slots ls hf hS hl
  unfold fX2_feed_67 at hf
  refine lv_iinc (pc := 67) (v := (x3 + (-8))) (lv' := [(3, .int (x3 + (-8))), (0, .ref a0), (1, .long x1)]) hx hb dX2_feed_67 hl (k := 2) rfl rfl (Nat.le_of_ble_eq_true rfl) rfl (fun ls hl => ?_)
  refine lv_goto (pc := 70) (tgt := 3) hx hb dX2_feed_70 (by decide) ?_
  exact hk3 _ _ _ _ _ _ _ _ hf hS (lv_sub hl [1, 2, 0] rfl)
theorem wX2_feed_36 {N : Nat} {k3 : Int64 → Int32 → jM Unit} {r : Unit} (cx : jCx p s m args meth c cX2_feed "WornSkin$Reader" 5 (Option.none : Option Jvm.ClassFile.FieldType) D dA H0 hs.2.2.2.2) (e1 : h'.2.2.1 = hs.2.2.1 + mc) (e2 : h'.2.2.2.1 = hs.2.2.2.1 + ms) (a0 : Nat) (hth : jTh hs a0 1) (hk3 : ∀ (x1 : Int64) (x3 : Int32), ∀ (h : jH) (H : Heap) (locs : List Loc) (cells slots : Nat) (ls : Array Slot), (k3 x1 x3).1 h = some (r, h') → jS D dA H0 hs h H locs cells slots → lv_has ls 5 [(0, .ref a0), (1, .long x1), (3, .int x3)] → W p l e { frames := 1, cells := mc, slots := ms, locals := 22 } s m args below meth c H locs cells slots (jQ D dA H0 below s (.returned none) h' mc ms) (F0 m 3 ls [])) : ∀ (x1 : Int64) (x3 : Int32) (x4 : Int32), ∀ (h : jH) (H : Heap) (locs : List Loc) (cells slots : Nat) (ls : Array Slot), (fX2_feed_36 N k3 a0 x1 x3 x4).1 h = some (r, h') → jS D dA H0 hs h H locs cells slots → lv_has ls 5 [(0, .ref a0), (1, .long x1), (3, .int x3), (4, .int x4)] → W p l e { frames := 1, cells := mc, slots := ms, locals := 22 } s m args below meth c H locs cells slots (jQ D dA H0 below s (.returned none) h' mc ms) (F0 m 36 ls []) := by
  have hx := cx.1
  have hb := cx.2.1
  have hown := cx.2.2.2.1
  have hts := cx.2.2.2.2.1
  have hm : h'.2.2.1 ≤ hs.2.2.1 + mc ∧ h'.2.2.2.1 ≤ hs.2.2.2.1 + ms := ⟨Nat.le_of_eq e1, Nat.le_of_eq e2⟩
  intro x1 x3 x4 h H locs cells slots ls hf hS hl
  unfold fX2_feed_36 at hf
  refine lv_aload_n (pc := 36) hx hb dX2_feed_36 rfl (lv_at hl 0 rfl) ?_
  refine j_gI (pc := 37) cx hS hf fd_WornSkin_Reader_taped q212 dX2_feed_37 (fun y1 hf => ?_)
  refine lv_sipush (pc := 40) (v := 1000) hx hb dX2_feed_40 rfl ?_
  refine lv_icmp_ge (pc := 43) (tgt := 67) hx hb dX2_feed_43 (by decide) (fun hc => ?_) (fun hc => ?_)
  · have hf := jI_t hf hc
    exact wX2_feed_67 cx e1 e2 a0 hth hk3 _ _ _ _ _ _ _ _ hf hS (lv_sub hl [0, 1, 2] rfl)
  · have hf := jI_f hf hc
    refine lv_aload_n (pc := 46) hx hb dX2_feed_46 rfl (lv_at hl 0 rfl) ?_
    refine j_gR (pc := 47) cx hS hf fd_WornSkin_Reader_tape q211 dX2_feed_47 (fun y2 hf => ?_)
    refine lv_aload_n (pc := 50) hx hb dX2_feed_50 rfl (lv_at hl 0 rfl) ?_
    refine j_gI (pc := 51) cx hS hf fd_WornSkin_Reader_taped q212 dX2_feed_51 (fun y3 hf => ?_)
    refine lv_iload (pc := 54) hx hb dX2_feed_54 (lv_at hl 3 rfl) ?_
    refine j_sI (pc := 56) cx hS hf rfl dX2_feed_56 (fun h H locs hf hS => ?_)
    refine lv_aload_n (pc := 57) hx hb dX2_feed_57 rfl (lv_at hl 0 rfl) ?_
    refine lv_dup (pc := 58) hx hb dX2_feed_58 rfl ?_
    refine j_gI (pc := 59) cx hS hf fd_WornSkin_Reader_taped q212 dX2_feed_59 (fun y4 hf => ?_)
    refine lv_iconst (pc := 62) (v := 1) hx hb dX2_feed_62 rfl ?_
    refine lv_iadd (pc := 63) hx hb dX2_feed_63 ?_
    refine j_pI (pc := 64) cx hS hf fp_WornSkin_Reader_taped (Or.inl rfl) q212 dX2_feed_64 (fun h H locs hf hS => ?_)
    exact wX2_feed_67 cx e1 e2 a0 hth hk3 _ _ _ _ _ _ _ _ hf hS (lv_sub hl [0, 1, 2] rfl)
theorem wX2_feed_3 {N : Nat} {r : Unit} (cx : jCx p s m args meth c cX2_feed "WornSkin$Reader" 5 (Option.none : Option Jvm.ClassFile.FieldType) D dA H0 hs.2.2.2.2) (e1 : h'.2.2.1 = hs.2.2.1 + mc) (e2 : h'.2.2.2.1 = hs.2.2.2.1 + ms) (a0 : Nat) (hth : jTh hs a0 1) : ∀ (n : Nat) (x1 : Int64) (x3 : Int32), ∀ (h : jH) (H : Heap) (locs : List Loc) (cells slots : Nat) (ls : Array Slot), (fX2_feed_3 N a0 n x1 x3).1 h = some (r, h') → jS D dA H0 hs h H locs cells slots → lv_has ls 5 [(0, .ref a0), (1, .long x1), (3, .int x3)] → W p l e { frames := 1, cells := mc, slots := ms, locals := 22 } s m args below meth c H locs cells slots (jQ D dA H0 below s (.returned none) h' mc ms) (F0 m 3 ls []) := by
  have hx := cx.1
  have hb := cx.2.1
  have hown := cx.2.2.2.1
  have hts := cx.2.2.2.2.1
  have hm : h'.2.2.1 ≤ hs.2.2.1 + mc ∧ h'.2.2.2.1 ≤ hs.2.2.2.1 + ms := ⟨Nat.le_of_eq e1, Nat.le_of_eq e2⟩
  intro n
  induction n with
  | zero =>
    intro x1 x3 h H locs cells slots ls hf hS hl
    exact jE_f hf
  | succ n ih =>
    intro x1 x3 h H locs cells slots ls hf hS hl
    unfold fX2_feed_3 at hf
    refine lv_iload_n (pc := 3) hx hb dX2_feed_3 rfl (lv_at hl 2 rfl) ?_
    refine lv_if_lt (pc := 4) (tgt := 73) hx hb dX2_feed_4 (by decide) (fun hc => ?_) (fun hc => ?_)
    · have hf := jI_t hf hc
      exact wX2_feed_73 cx e1 e2 a0 hth _ _ _ _ _ _ hf hS (lv_sub hl [0] rfl)
    · have hf := jI_f hf hc
      refine lv_lload_n (pc := 7) hx hb dX2_feed_7 rfl (lv_at hl 1 rfl) ?_
      refine lv_iload_n (pc := 8) hx hb dX2_feed_8 rfl (lv_at hl 2 rfl) ?_
      refine lv_lushr (pc := 9) (v := (x1.toUInt64 >>> (x3.toInt64.toUInt64 &&& Int64.toUInt64 63)).toInt64) hx hb dX2_feed_9 rfl ?_
      refine lv_ldc2 (pc := 10) (v := 255) hx hb hown (hts _ q466) dX2_feed_10 ?_
      refine lv_land (pc := 13) hx hb dX2_feed_13 ?_
      refine lv_l2i (pc := 14) (v := (((x1.toUInt64 >>> (x3.toInt64.toUInt64 &&& Int64.toUInt64 63)).toInt64) &&& 255).toInt32) hx hb dX2_feed_14 rfl ?_
      refine lv_istore (pc := 15) (i := 4) (lv' := [(4, .int ((((x1.toUInt64 >>> (x3.toInt64.toUInt64 &&& Int64.toUInt64 63)).toInt64) &&& 255).toInt32)), (0, .ref a0), (1, .long x1), (3, .int x3)]) hx hb dX2_feed_15 hl (Nat.le_of_ble_eq_true rfl) rfl (fun ls hl => ?_)
      refine lv_iload (pc := 17) hx hb dX2_feed_17 (lv_at hl 0 rfl) ?_
      refine lv_bipush (pc := 19) (v := 10) hx hb dX2_feed_19 rfl ?_
      refine lv_icmp_eq (pc := 21) (tgt := 36) hx hb dX2_feed_21 (by decide) (fun hc => ?_) (fun hc => ?_)
      · have hf := jI_t hf hc
        exact wX2_feed_36 cx e1 e2 a0 hth ih _ _ _ _ _ _ _ _ _ hf hS (lv_sub hl [1, 2, 3, 0] rfl)
      · have hf := jI_f hf hc
        refine lv_iload (pc := 24) hx hb dX2_feed_24 (lv_at hl 0 rfl) ?_
        refine lv_bipush (pc := 26) (v := 32) hx hb dX2_feed_26 rfl ?_
        refine lv_bipush (pc := 28) (v := 126) hx hb dX2_feed_28 rfl ?_
        obtain ⟨y1, h1, e9, hf⟩ := jB_some hf
        refine j_callSN (pc := 30) (st1 := [.int y1]) (As := [.int ((((x1.toUInt64 >>> (x3.toInt64.toUInt64 &&& Int64.toUInt64 63)).toInt64) &&& 255).toInt32), .int 32, .int 126]) (rest := []) cx hS rfl hl.1 hm (metX1_within l _ _ _ _ _ _ e9) (jle hf) q469 q468 q467 q112 pdX1_within rfl rfl (Nat.le_of_ble_eq_true rfl) ⟨Nat.le_of_ble_eq_true rfl, Nat.le_of_ble_eq_true rfl⟩ dX2_feed_30 rfl (fun H locs cells slots hS => ?_)
        refine lv_if_eq (pc := 33) (tgt := 67) hx hb dX2_feed_33 (by decide) (fun hc => ?_) (fun hc => ?_)
        · have hf := jI_t hf hc
          exact wX2_feed_67 cx e1 e2 a0 hth ih _ _ _ _ _ _ _ _ hf hS (lv_sub hl [1, 2, 3] rfl)
        · have hf := jI_f hf hc
          exact wX2_feed_36 cx e1 e2 a0 hth ih _ _ _ _ _ _ _ _ _ hf hS (lv_sub hl [1, 2, 3, 0] rfl)
theorem wX2_feed_0 {N : Nat} {r : Unit} (cx : jCx p s m args meth c cX2_feed "WornSkin$Reader" 5 (Option.none : Option Jvm.ClassFile.FieldType) D dA H0 hs.2.2.2.2) (e1 : h'.2.2.1 = hs.2.2.1 + mc) (e2 : h'.2.2.2.1 = hs.2.2.2.1 + ms) (a0 : Nat) (hth : jTh hs a0 1) : ∀ (x1 : Int64), ∀ (h : jH) (H : Heap) (locs : List Loc) (cells slots : Nat) (ls : Array Slot), (fX2_feed N a0 x1).1 h = some (r, h') → jS D dA H0 hs h H locs cells slots → lv_has ls 5 [(0, .ref a0), (1, .long x1)] → W p l e { frames := 1, cells := mc, slots := ms, locals := 22 } s m args below meth c H locs cells slots (jQ D dA H0 below s (.returned none) h' mc ms) (F0 m 0 ls []) := by
  have hx := cx.1
  have hb := cx.2.1
  have hown := cx.2.2.2.1
  have hts := cx.2.2.2.2.1
  have hm : h'.2.2.1 ≤ hs.2.2.1 + mc ∧ h'.2.2.2.1 ≤ hs.2.2.2.1 + ms := ⟨Nat.le_of_eq e1, Nat.le_of_eq e2⟩
  intro x1 h H locs cells slots ls hf hS hl
  unfold fX2_feed at hf
  refine lv_bipush (pc := 0) (v := 56) hx hb dX2_feed_0 rfl ?_
  refine lv_istore_n (pc := 2) (i := 3) (lv' := [(3, .int 56), (0, .ref a0), (1, .long x1)]) hx hb dX2_feed_2 rfl hl (Nat.le_of_ble_eq_true rfl) rfl (fun ls hl => ?_)
  exact wX2_feed_3 cx e1 e2 a0 hth N _ _ _ _ _ _ _ _ hf hS (lv_sub hl [1, 2, 0] rfl)
theorem metX2_feed (l : Launch) (N : Nat) (a0 : Nat) (x1 : Int64) (h h' : jH) (r : Unit) (hth : jcd h a0 = some 1) (hf : (fX2_feed N a0 x1).1 h = some (r, h')) : jMet l yX2_feed (ws_ yX2_feed cX2_feed 5 (Option.none : Option Jvm.ClassFile.FieldType)) (1) (22) [.ref a0, .long x1] h h' (.returned none) := by
  refine jStart rfl (jle hf) (Nat.le_of_ble_eq_true rfl) ?_
  intro p e s m below meth c D dA H0 mc ms ls cx hnm e1 e2 hS hl
  have hth := jTh.mk hS hth
  exact wX2_feed_0 cx e1 e2 a0 hth _ _ _ _ _ _ _ hf hS hl
def fX2_isLetter (x0 : Int32) : jM Int32 := jB (fX1_within x0 97 122) fun y1 => jRn .boolean y1
theorem wX2_isLetter_0 {r : Int32} (cx : jCx p s m args meth c cX2_isLetter "WornSkin$Reader" 1 (Option.some Jvm.ClassFile.FieldType.boolean) D dA H0 hs.2.2.2.2) (e1 : h'.2.2.1 = hs.2.2.1 + mc) (e2 : h'.2.2.2.1 = hs.2.2.2.1 + ms) : ∀ (x0 : Int32), ∀ (h : jH) (H : Heap) (locs : List Loc) (cells slots : Nat) (ls : Array Slot), (fX2_isLetter x0).1 h = some (r, h') → jS D dA H0 hs h H locs cells slots → lv_has ls 1 [(0, .int x0)] → W p l e { frames := 1, cells := mc, slots := ms, locals := 22 } s m args below meth c H locs cells slots (jQ D dA H0 below s (.returned (some (.int r))) h' mc ms) (F0 m 0 ls []) := by
  have hx := cx.1
  have hb := cx.2.1
  have hown := cx.2.2.2.1
  have hts := cx.2.2.2.2.1
  have hm : h'.2.2.1 ≤ hs.2.2.1 + mc ∧ h'.2.2.2.1 ≤ hs.2.2.2.1 + ms := ⟨Nat.le_of_eq e1, Nat.le_of_eq e2⟩
  intro x0 h H locs cells slots ls hf hS hl
  unfold fX2_isLetter at hf
  refine lv_iload_n (pc := 0) hx hb dX2_isLetter_0 rfl (lv_at hl 0 rfl) ?_
  refine lv_bipush (pc := 1) (v := 97) hx hb dX2_isLetter_1 rfl ?_
  refine lv_bipush (pc := 3) (v := 122) hx hb dX2_isLetter_3 rfl ?_
  obtain ⟨y1, h1, e9, hf⟩ := jB_some hf
  refine j_callSN (pc := 5) (st1 := [.int y1]) (As := [.int x0, .int 97, .int 122]) (rest := []) cx hS rfl hl.1 hm (metX1_within l _ _ _ _ _ _ e9) (jle hf) q469 q468 q467 q112 pdX1_within rfl rfl (Nat.le_of_ble_eq_true rfl) ⟨Nat.le_of_ble_eq_true rfl, Nat.le_of_ble_eq_true rfl⟩ dX2_isLetter_5 rfl (fun H locs cells slots hS => ?_)
  exact j_zret (pc := 8) cx (Or.inl rfl) hS hf e1 e2 dX2_isLetter_8
theorem metX2_isLetter (l : Launch) (x0 : Int32) (h h' : jH) (r : Int32) (hf : (fX2_isLetter x0).1 h = some (r, h')) : jMet l yX2_isLetter (ws_ yX2_isLetter cX2_isLetter 1 (Option.some Jvm.ClassFile.FieldType.boolean)) (1) (22) [.int x0] h h' (.returned (some (.int r))) := by
  refine jStart rfl (jle hf) (Nat.le_of_ble_eq_true rfl) ?_
  intro p e s m below meth c D dA H0 mc ms ls cx hnm e1 e2 hS hl
  exact wX2_isLetter_0 cx e1 e2 _ _ _ _ _ _ _ hf hS hl
def fX2_isDigit (x0 : Int32) : jM Int32 := jB (fX1_within x0 48 57) fun y1 => jRn .boolean y1
theorem wX2_isDigit_0 {r : Int32} (cx : jCx p s m args meth c cX2_isDigit "WornSkin$Reader" 1 (Option.some Jvm.ClassFile.FieldType.boolean) D dA H0 hs.2.2.2.2) (e1 : h'.2.2.1 = hs.2.2.1 + mc) (e2 : h'.2.2.2.1 = hs.2.2.2.1 + ms) : ∀ (x0 : Int32), ∀ (h : jH) (H : Heap) (locs : List Loc) (cells slots : Nat) (ls : Array Slot), (fX2_isDigit x0).1 h = some (r, h') → jS D dA H0 hs h H locs cells slots → lv_has ls 1 [(0, .int x0)] → W p l e { frames := 1, cells := mc, slots := ms, locals := 22 } s m args below meth c H locs cells slots (jQ D dA H0 below s (.returned (some (.int r))) h' mc ms) (F0 m 0 ls []) := by
  have hx := cx.1
  have hb := cx.2.1
  have hown := cx.2.2.2.1
  have hts := cx.2.2.2.2.1
  have hm : h'.2.2.1 ≤ hs.2.2.1 + mc ∧ h'.2.2.2.1 ≤ hs.2.2.2.1 + ms := ⟨Nat.le_of_eq e1, Nat.le_of_eq e2⟩
  intro x0 h H locs cells slots ls hf hS hl
  unfold fX2_isDigit at hf
  refine lv_iload_n (pc := 0) hx hb dX2_isDigit_0 rfl (lv_at hl 0 rfl) ?_
  refine lv_bipush (pc := 1) (v := 48) hx hb dX2_isDigit_1 rfl ?_
  refine lv_bipush (pc := 3) (v := 57) hx hb dX2_isDigit_3 rfl ?_
  obtain ⟨y1, h1, e9, hf⟩ := jB_some hf
  refine j_callSN (pc := 5) (st1 := [.int y1]) (As := [.int x0, .int 48, .int 57]) (rest := []) cx hS rfl hl.1 hm (metX1_within l _ _ _ _ _ _ e9) (jle hf) q469 q468 q467 q112 pdX1_within rfl rfl (Nat.le_of_ble_eq_true rfl) ⟨Nat.le_of_ble_eq_true rfl, Nat.le_of_ble_eq_true rfl⟩ dX2_isDigit_5 rfl (fun H locs cells slots hS => ?_)
  exact j_zret (pc := 8) cx (Or.inl rfl) hS hf e1 e2 dX2_isDigit_8
theorem metX2_isDigit (l : Launch) (x0 : Int32) (h h' : jH) (r : Int32) (hf : (fX2_isDigit x0).1 h = some (r, h')) : jMet l yX2_isDigit (ws_ yX2_isDigit cX2_isDigit 1 (Option.some Jvm.ClassFile.FieldType.boolean)) (1) (22) [.int x0] h h' (.returned (some (.int r))) := by
  refine jStart rfl (jle hf) (Nat.le_of_ble_eq_true rfl) ?_
  intro p e s m below meth c D dA H0 mc ms ls cx hnm e1 e2 hS hl
  exact wX2_isDigit_0 cx e1 e2 _ _ _ _ _ _ _ hf hS hl
def fX2_cut_268 (N : Nat) (a0 : Nat) (x1 : Int32) (x2 : Int32) : jM Unit := jB (jgR [1] 8 (some a0)) fun y1 => jB (jsI 0 y1 x2 0) fun _ => jB (jgR [1] 10 (some a0)) fun y2 => jB (jsI 0 y2 x2 x1) fun _ => jB (jpI [1] 11 (some a0) 0) fun _ => jR ()
def fX2_cut_246 (N : Nat) (k14 : Int32 → Int32 → Int32 → jM Unit) (a0 : Nat) (x1 : Int32) (x2 : Int32) (x3 : Int32) (x5 : Int32) (x6 : Int64) : jM Unit := jB (jgR [1] 9 (some a0)) fun y1 => jB (jsL 1 y1 x2 x6) fun _ => jB (jgR [1] 10 (some a0)) fun y2 => jB (jsI 0 y2 x2 x5) fun _ => k14 x1 (x2 + 1) x3
def fX2_cut_245 (N : Nat) (k14 : Int32 → Int32 → Int32 → jM Unit) (a0 : Nat) (x1 : Int32) (x2 : Int32) (x3 : Int32) (x5 : Int32) (x6 : Int64) (v0 : Option Nat) (v1 : Int32) (v2 : Int32) : jM Unit := jB (jsI 0 v0 v1 v2) fun _ => fX2_cut_246 N k14 a0 x1 x2 x3 x5 x6
def fX2_cut_213 (N : Nat) (k14 : Int32 → Int32 → Int32 → jM Unit) (a0 : Nat) (x1 : Int32) (x2 : Int32) (x3 : Int32) (x5 : Int32) (x6 : Int64) (v0 : Option Nat) (v1 : Int32) (v2 : Int32) : jM Unit := jB (jsI 0 v0 v1 v2) fun _ => fX2_cut_246 N k14 a0 x1 x2 x3 x5 x6
def fX2_cut_195 (N : Nat) (k14 : Int32 → Int32 → Int32 → jM Unit) (a0 : Nat) (x1 : Int32) (x2 : Int32) (x3 : Int32) (x5 : Int32) (x6 : Int64) : jM Unit := jB (jgR [1] 8 (some a0)) fun y1 => if (x3 - x5) ≤ 4 then (fX2_cut_213 N k14 a0 x1 x2 x3 x5 x6 y1 x2 2) else (fX2_cut_213 N k14 a0 x1 x2 x3 x5 x6 y1 x2 4)
def fX2_cut_189 (N : Nat) (k144 : Int32 → Int32 → Int32 → Int32 → Int64 → jM Unit) (a0 : Nat) (x1 : Int32) (x2 : Int32) (x3 : Int32) (x5 : Int32) (x6 : Int64) : jM Unit := k144 x1 x2 (x3 + 1) x5 x6
def fX2_cut_144 (N : Nat) (k14 : Int32 → Int32 → Int32 → jM Unit) (a0 : Nat) : Nat → Int32 → Int32 → Int32 → Int32 → Int64 → jM Unit
  | 0, _, _, _, _, _ => jE
  | n + 1, x1, x2, x3, x5, x6 => if x1 ≤ x3 then (fX2_cut_195 N k14 a0 x1 x2 x3 x5 x6) else (jB (jgR [1] 6 (some a0)) fun y1 => jB (jaI 0 y1 x3) fun y2 => jB (fX2_isDigit y2) fun y3 => if y3 = 0 then (fX2_cut_195 N k14 a0 x1 x2 x3 x5 x6) else (if 4 ≤ (x3 - x5) then (fX2_cut_189 N (fX2_cut_144 N k14 a0 n) a0 x1 x2 x3 x5 x6) else (jB (jgR [1] 6 (some a0)) fun y4 => jB (jaI 0 y4 x3) fun y5 => fX2_cut_189 N (fX2_cut_144 N k14 a0 n) a0 x1 x2 x3 x5 (((10 * x6) + (y5.toInt64)) - 48))))
def fX2_cut_132 (N : Nat) (k14 : Int32 → Int32 → Int32 → jM Unit) (a0 : Nat) (x1 : Int32) (x2 : Int32) (x3 : Int32) (x5 : Int32) (x6 : Int64) (v0 : Option Nat) (v1 : Int32) (v2 : Int32) : jM Unit := jB (jsI 0 v0 v1 v2) fun _ => fX2_cut_246 N k14 a0 x1 x2 x3 x5 x6
def fX2_cut_113 (N : Nat) (k14 : Int32 → Int32 → Int32 → jM Unit) (a0 : Nat) (x1 : Int32) (x2 : Int32) (x3 : Int32) (x5 : Int32) (x6 : Int64) : jM Unit := jB (jgR [1] 8 (some a0)) fun y1 => if (x3 - x5) ≤ 8 then (fX2_cut_132 N k14 a0 x1 x2 x3 x5 x6 y1 x2 1) else (fX2_cut_132 N k14 a0 x1 x2 x3 x5 x6 y1 x2 4)
def fX2_cut_107 (N : Nat) (k61 : Int32 → Int32 → Int32 → Int32 → Int64 → jM Unit) (a0 : Nat) (x1 : Int32) (x2 : Int32) (x3 : Int32) (x5 : Int32) (x6 : Int64) : jM Unit := k61 x1 x2 (x3 + 1) x5 x6
def fX2_cut_61 (N : Nat) (k14 : Int32 → Int32 → Int32 → jM Unit) (a0 : Nat) : Nat → Int32 → Int32 → Int32 → Int32 → Int64 → jM Unit
  | 0, _, _, _, _, _ => jE
  | n + 1, x1, x2, x3, x5, x6 => if x1 ≤ x3 then (fX2_cut_113 N k14 a0 x1 x2 x3 x5 x6) else (jB (jgR [1] 6 (some a0)) fun y1 => jB (jaI 0 y1 x3) fun y2 => jB (fX2_isLetter y2) fun y3 => if y3 = 0 then (fX2_cut_113 N k14 a0 x1 x2 x3 x5 x6) else (if 8 ≤ (x3 - x5) then (fX2_cut_107 N (fX2_cut_61 N k14 a0 n) a0 x1 x2 x3 x5 x6) else (jB (jgR [1] 6 (some a0)) fun y4 => jB (jaI 0 y4 x3) fun y5 => fX2_cut_107 N (fX2_cut_61 N k14 a0 n) a0 x1 x2 x3 x5 (((27 * x6) + (y5.toInt64)) - 96))))
def fX2_cut_41 (N : Nat) (k14 : Int32 → Int32 → Int32 → jM Unit) (a0 : Nat) (x1 : Int32) (x2 : Int32) (x3 : Int32) : jM Unit := k14 x1 x2 (x3 + 1)
def fX2_cut_14 (N : Nat) (a0 : Nat) : Nat → Int32 → Int32 → Int32 → jM Unit
  | 0, _, _, _ => jE
  | n + 1, x1, x2, x3 => if x1 ≤ x3 then (fX2_cut_268 N a0 x1 x2) else (jB (jgR [1] 6 (some a0)) fun y1 => jB (jaI 0 y1 x3) fun y2 => if y2 = 10 then (fX2_cut_41 N (fX2_cut_14 N a0 n) a0 x1 x2 x3) else (if y2 = 32 then (fX2_cut_41 N (fX2_cut_14 N a0 n) a0 x1 x2 x3) else (jB (fX2_isLetter y2) fun y3 => if y3 = 0 then (jB (fX2_isDigit y2) fun y4 => if y4 = 0 then (jB (jgR [1] 8 (some a0)) fun y5 => jB (jK 25) fun y6 => jB (jrc 33 y6) fun b8 => jB (fJ5_indexOf N b8 y2) fun y7 => if y7 < 0 then (fX2_cut_245 N (fX2_cut_14 N a0 n) a0 x1 x2 (x3 + 1) x3 (y2.toInt64) y5 x2 4) else (fX2_cut_245 N (fX2_cut_14 N a0 n) a0 x1 x2 (x3 + 1) x3 (y2.toInt64) y5 x2 3)) else (fX2_cut_144 N (fX2_cut_14 N a0 n) a0 N x1 x2 x3 x3 0)) else (fX2_cut_61 N (fX2_cut_14 N a0 n) a0 N x1 x2 x3 x3 0))))
def fX2_cut (N : Nat) (a0 : Nat) : jM Unit := jB (jgI [1] 7 (some a0)) fun y1 => jB (jpI [1] 7 (some a0) 0) fun _ => fX2_cut_14 N a0 N y1 0 0
theorem wX2_cut_268 {N : Nat} {r : Unit} (cx : jCx p s m args meth c cX2_cut "WornSkin$Reader" 8 (Option.none : Option Jvm.ClassFile.FieldType) D dA H0 hs.2.2.2.2) (e1 : h'.2.2.1 = hs.2.2.1 + mc) (e2 : h'.2.2.2.1 = hs.2.2.2.1 + ms) (a0 : Nat) (hth : jTh hs a0 1) : ∀ (x1 : Int32) (x2 : Int32), ∀ (h : jH) (H : Heap) (locs : List Loc) (cells slots : Nat) (ls : Array Slot), (fX2_cut_268 N a0 x1 x2).1 h = some (r, h') → jS D dA H0 hs h H locs cells slots → lv_has ls 8 [(0, .ref a0), (1, .int x1), (2, .int x2)] → W p l e { frames := 4, cells := mc, slots := ms, locals := 96 } s m args below meth c H locs cells slots (jQ D dA H0 below s (.returned none) h' mc ms) (F0 m 268 ls []) := by
  have hx := cx.1
  have hb := cx.2.1
  have hown := cx.2.2.2.1
  have hts := cx.2.2.2.2.1
  have hm : h'.2.2.1 ≤ hs.2.2.1 + mc ∧ h'.2.2.2.1 ≤ hs.2.2.2.1 + ms := ⟨Nat.le_of_eq e1, Nat.le_of_eq e2⟩
  intro x1 x2 h H locs cells slots ls hf hS hl
  unfold fX2_cut_268 at hf
  refine lv_aload_n (pc := 268) hx hb dX2_cut_268 rfl (lv_at hl 0 rfl) ?_
  refine j_gR (pc := 269) cx hS hf fd_WornSkin_Reader_sort q214 dX2_cut_269 (fun y1 hf => ?_)
  refine lv_iload_n (pc := 272) hx hb dX2_cut_272 rfl (lv_at hl 2 rfl) ?_
  refine lv_iconst (pc := 273) (v := 0) hx hb dX2_cut_273 rfl ?_
  refine j_sI (pc := 274) cx hS hf rfl dX2_cut_274 (fun h H locs hf hS => ?_)
  refine lv_aload_n (pc := 275) hx hb dX2_cut_275 rfl (lv_at hl 0 rfl) ?_
  refine j_gR (pc := 276) cx hS hf fd_WornSkin_Reader_place q216 dX2_cut_276 (fun y2 hf => ?_)
  refine lv_iload_n (pc := 279) hx hb dX2_cut_279 rfl (lv_at hl 2 rfl) ?_
  refine lv_iload_n (pc := 280) hx hb dX2_cut_280 rfl (lv_at hl 1 rfl) ?_
  refine j_sI (pc := 281) cx hS hf rfl dX2_cut_281 (fun h H locs hf hS => ?_)
  refine lv_aload_n (pc := 282) hx hb dX2_cut_282 rfl (lv_at hl 0 rfl) ?_
  refine lv_iconst (pc := 283) (v := 0) hx hb dX2_cut_283 rfl ?_
  refine j_pI (pc := 284) cx hS hf fp_WornSkin_Reader_at (Or.inl rfl) q217 dX2_cut_284 (fun h H locs hf hS => ?_)
  exact j_vret (pc := 287) cx hS hf e1 e2 dX2_cut_287
theorem wX2_cut_246 {N : Nat} {k14 : Int32 → Int32 → Int32 → jM Unit} {r : Unit} (cx : jCx p s m args meth c cX2_cut "WornSkin$Reader" 8 (Option.none : Option Jvm.ClassFile.FieldType) D dA H0 hs.2.2.2.2) (e1 : h'.2.2.1 = hs.2.2.1 + mc) (e2 : h'.2.2.2.1 = hs.2.2.2.1 + ms) (a0 : Nat) (hth : jTh hs a0 1) (hk14 : ∀ (x1 : Int32) (x2 : Int32) (x3 : Int32), ∀ (h : jH) (H : Heap) (locs : List Loc) (cells slots : Nat) (ls : Array Slot), (k14 x1 x2 x3).1 h = some (r, h') → jS D dA H0 hs h H locs cells slots → lv_has ls 8 [(0, .ref a0), (1, .int x1), (2, .int x2), (3, .int x3)] → W p l e { frames := 4, cells := mc, slots := ms, locals := 96 } s m args below meth c H locs cells slots (jQ D dA H0 below s (.returned none) h' mc ms) (F0 m 14 ls [])) : ∀ (x1 : Int32) (x2 : Int32) (x3 : Int32) (x5 : Int32) (x6 : Int64), ∀ (h : jH) (H : Heap) (locs : List Loc) (cells slots : Nat) (ls : Array Slot), (fX2_cut_246 N k14 a0 x1 x2 x3 x5 x6).1 h = some (r, h') → jS D dA H0 hs h H locs cells slots → lv_has ls 8 [(0, .ref a0), (1, .int x1), (2, .int x2), (3, .int x3), (5, .int x5), (6, .long x6)] → W p l e { frames := 4, cells := mc, slots := ms, locals := 96 } s m args below meth c H locs cells slots (jQ D dA H0 below s (.returned none) h' mc ms) (F0 m 246 ls []) := by
  have hx := cx.1
  have hb := cx.2.1
  have hown := cx.2.2.2.1
  have hts := cx.2.2.2.2.1
  have hm : h'.2.2.1 ≤ hs.2.2.1 + mc ∧ h'.2.2.2.1 ≤ hs.2.2.2.1 + ms := ⟨Nat.le_of_eq e1, Nat.le_of_eq e2⟩
  intro x1 x2 x3 x5 x6 h H locs cells slots ls hf hS hl
  unfold fX2_cut_246 at hf
  refine lv_aload_n (pc := 246) hx hb dX2_cut_246 rfl (lv_at hl 0 rfl) ?_
  refine j_gR (pc := 247) cx hS hf fd_WornSkin_Reader_value q215 dX2_cut_247 (fun y1 hf => ?_)
  refine lv_iload_n (pc := 250) hx hb dX2_cut_250 rfl (lv_at hl 2 rfl) ?_
  refine lv_lload (pc := 251) hx hb dX2_cut_251 (lv_at hl 5 rfl) ?_
  refine j_sL (pc := 253) cx hS hf rfl dX2_cut_253 (fun h H locs hf hS => ?_)
  refine lv_aload_n (pc := 254) hx hb dX2_cut_254 rfl (lv_at hl 0 rfl) ?_
  refine j_gR (pc := 255) cx hS hf fd_WornSkin_Reader_place q216 dX2_cut_255 (fun y2 hf => ?_)
  refine lv_iload_n (pc := 258) hx hb dX2_cut_258 rfl (lv_at hl 2 rfl) ?_
  refine lv_iload (pc := 259) hx hb dX2_cut_259 (lv_at hl 4 rfl) ?_
  refine j_sI (pc := 261) cx hS hf rfl dX2_cut_261 (fun h H locs hf hS => ?_)
  refine lv_iinc (pc := 262) (v := (x2 + 1)) (lv' := [(2, .int (x2 + 1)), (0, .ref a0), (1, .int x1), (3, .int x3), (5, .int x5), (6, .long x6)]) hx hb dX2_cut_262 hl (k := 2) rfl rfl (Nat.le_of_ble_eq_true rfl) rfl (fun ls hl => ?_)
  refine lv_goto (pc := 265) (tgt := 14) hx hb dX2_cut_265 (by decide) ?_
  exact hk14 _ _ _ _ _ _ _ _ _ hf hS (lv_sub hl [1, 2, 0, 3] rfl)
theorem wX2_cut_245 {N : Nat} {k14 : Int32 → Int32 → Int32 → jM Unit} {r : Unit} (cx : jCx p s m args meth c cX2_cut "WornSkin$Reader" 8 (Option.none : Option Jvm.ClassFile.FieldType) D dA H0 hs.2.2.2.2) (e1 : h'.2.2.1 = hs.2.2.1 + mc) (e2 : h'.2.2.2.1 = hs.2.2.2.1 + ms) (a0 : Nat) (hth : jTh hs a0 1) (hk14 : ∀ (x1 : Int32) (x2 : Int32) (x3 : Int32), ∀ (h : jH) (H : Heap) (locs : List Loc) (cells slots : Nat) (ls : Array Slot), (k14 x1 x2 x3).1 h = some (r, h') → jS D dA H0 hs h H locs cells slots → lv_has ls 8 [(0, .ref a0), (1, .int x1), (2, .int x2), (3, .int x3)] → W p l e { frames := 4, cells := mc, slots := ms, locals := 96 } s m args below meth c H locs cells slots (jQ D dA H0 below s (.returned none) h' mc ms) (F0 m 14 ls [])) : ∀ (x1 : Int32) (x2 : Int32) (x3 : Int32) (x5 : Int32) (x6 : Int64) (v0 : Option Nat) (v1 : Int32) (v2 : Int32), ∀ (h : jH) (H : Heap) (locs : List Loc) (cells slots : Nat) (ls : Array Slot), (fX2_cut_245 N k14 a0 x1 x2 x3 x5 x6 v0 v1 v2).1 h = some (r, h') → jS D dA H0 hs h H locs cells slots → lv_has ls 8 [(0, .ref a0), (1, .int x1), (2, .int x2), (3, .int x3), (5, .int x5), (6, .long x6)] → W p l e { frames := 4, cells := mc, slots := ms, locals := 96 } s m args below meth c H locs cells slots (jQ D dA H0 below s (.returned none) h' mc ms) (F0 m 245 ls [.int v2, .int v1, va_rf v0]) := by
  have hx := cx.1
  have hb := cx.2.1
  have hown := cx.2.2.2.1
  have hts := cx.2.2.2.2.1
  have hm : h'.2.2.1 ≤ hs.2.2.1 + mc ∧ h'.2.2.2.1 ≤ hs.2.2.2.1 + ms := ⟨Nat.le_of_eq e1, Nat.le_of_eq e2⟩
  intro x1 x2 x3 x5 x6 v0 v1 v2 h H locs cells slots ls hf hS hl
  unfold fX2_cut_245 at hf
  refine j_sI (pc := 245) cx hS hf rfl dX2_cut_245 (fun h H locs hf hS => ?_)
  exact wX2_cut_246 cx e1 e2 a0 hth hk14 _ _ _ _ _ _ _ _ _ _ _ hf hS hl
theorem wX2_cut_213 {N : Nat} {k14 : Int32 → Int32 → Int32 → jM Unit} {r : Unit} (cx : jCx p s m args meth c cX2_cut "WornSkin$Reader" 8 (Option.none : Option Jvm.ClassFile.FieldType) D dA H0 hs.2.2.2.2) (e1 : h'.2.2.1 = hs.2.2.1 + mc) (e2 : h'.2.2.2.1 = hs.2.2.2.1 + ms) (a0 : Nat) (hth : jTh hs a0 1) (hk14 : ∀ (x1 : Int32) (x2 : Int32) (x3 : Int32), ∀ (h : jH) (H : Heap) (locs : List Loc) (cells slots : Nat) (ls : Array Slot), (k14 x1 x2 x3).1 h = some (r, h') → jS D dA H0 hs h H locs cells slots → lv_has ls 8 [(0, .ref a0), (1, .int x1), (2, .int x2), (3, .int x3)] → W p l e { frames := 4, cells := mc, slots := ms, locals := 96 } s m args below meth c H locs cells slots (jQ D dA H0 below s (.returned none) h' mc ms) (F0 m 14 ls [])) : ∀ (x1 : Int32) (x2 : Int32) (x3 : Int32) (x5 : Int32) (x6 : Int64) (v0 : Option Nat) (v1 : Int32) (v2 : Int32), ∀ (h : jH) (H : Heap) (locs : List Loc) (cells slots : Nat) (ls : Array Slot), (fX2_cut_213 N k14 a0 x1 x2 x3 x5 x6 v0 v1 v2).1 h = some (r, h') → jS D dA H0 hs h H locs cells slots → lv_has ls 8 [(0, .ref a0), (1, .int x1), (2, .int x2), (3, .int x3), (5, .int x5), (6, .long x6)] → W p l e { frames := 4, cells := mc, slots := ms, locals := 96 } s m args below meth c H locs cells slots (jQ D dA H0 below s (.returned none) h' mc ms) (F0 m 213 ls [.int v2, .int v1, va_rf v0]) := by
  have hx := cx.1
  have hb := cx.2.1
  have hown := cx.2.2.2.1
  have hts := cx.2.2.2.2.1
  have hm : h'.2.2.1 ≤ hs.2.2.1 + mc ∧ h'.2.2.2.1 ≤ hs.2.2.2.1 + ms := ⟨Nat.le_of_eq e1, Nat.le_of_eq e2⟩
  intro x1 x2 x3 x5 x6 v0 v1 v2 h H locs cells slots ls hf hS hl
  unfold fX2_cut_213 at hf
  refine j_sI (pc := 213) cx hS hf rfl dX2_cut_213 (fun h H locs hf hS => ?_)
  refine lv_goto (pc := 214) (tgt := 246) hx hb dX2_cut_214 (by decide) ?_
  exact wX2_cut_246 cx e1 e2 a0 hth hk14 _ _ _ _ _ _ _ _ _ _ _ hf hS hl
theorem wX2_cut_195 {N : Nat} {k14 : Int32 → Int32 → Int32 → jM Unit} {r : Unit} (cx : jCx p s m args meth c cX2_cut "WornSkin$Reader" 8 (Option.none : Option Jvm.ClassFile.FieldType) D dA H0 hs.2.2.2.2) (e1 : h'.2.2.1 = hs.2.2.1 + mc) (e2 : h'.2.2.2.1 = hs.2.2.2.1 + ms) (a0 : Nat) (hth : jTh hs a0 1) (hk14 : ∀ (x1 : Int32) (x2 : Int32) (x3 : Int32), ∀ (h : jH) (H : Heap) (locs : List Loc) (cells slots : Nat) (ls : Array Slot), (k14 x1 x2 x3).1 h = some (r, h') → jS D dA H0 hs h H locs cells slots → lv_has ls 8 [(0, .ref a0), (1, .int x1), (2, .int x2), (3, .int x3)] → W p l e { frames := 4, cells := mc, slots := ms, locals := 96 } s m args below meth c H locs cells slots (jQ D dA H0 below s (.returned none) h' mc ms) (F0 m 14 ls [])) : ∀ (x1 : Int32) (x2 : Int32) (x3 : Int32) (x5 : Int32) (x6 : Int64), ∀ (h : jH) (H : Heap) (locs : List Loc) (cells slots : Nat) (ls : Array Slot), (fX2_cut_195 N k14 a0 x1 x2 x3 x5 x6).1 h = some (r, h') → jS D dA H0 hs h H locs cells slots → lv_has ls 8 [(0, .ref a0), (1, .int x1), (2, .int x2), (3, .int x3), (5, .int x5), (6, .long x6)] → W p l e { frames := 4, cells := mc, slots := ms, locals := 96 } s m args below meth c H locs cells slots (jQ D dA H0 below s (.returned none) h' mc ms) (F0 m 195 ls []) := by
  have hx := cx.1
  have hb := cx.2.1
  have hown := cx.2.2.2.1
  have hts := cx.2.2.2.2.1
  have hm : h'.2.2.1 ≤ hs.2.2.1 + mc ∧ h'.2.2.2.1 ≤ hs.2.2.2.1 + ms := ⟨Nat.le_of_eq e1, Nat.le_of_eq e2⟩
  intro x1 x2 x3 x5 x6 h H locs cells slots ls hf hS hl
  unfold fX2_cut_195 at hf
  refine lv_aload_n (pc := 195) hx hb dX2_cut_195 rfl (lv_at hl 0 rfl) ?_
  refine j_gR (pc := 196) cx hS hf fd_WornSkin_Reader_sort q214 dX2_cut_196 (fun y1 hf => ?_)
  refine lv_iload_n (pc := 199) hx hb dX2_cut_199 rfl (lv_at hl 2 rfl) ?_
  refine lv_iload_n (pc := 200) hx hb dX2_cut_200 rfl (lv_at hl 3 rfl) ?_
  refine lv_iload (pc := 201) hx hb dX2_cut_201 (lv_at hl 4 rfl) ?_
  refine lv_isub (pc := 203) hx hb dX2_cut_203 ?_
  refine lv_iconst (pc := 204) (v := 4) hx hb dX2_cut_204 rfl ?_
  refine lv_icmp_le (pc := 205) (tgt := 212) hx hb dX2_cut_205 (by decide) (fun hc => ?_) (fun hc => ?_)
  · have hf := jI_t hf hc
    refine lv_iconst (pc := 212) (v := 2) hx hb dX2_cut_212 rfl ?_
    exact wX2_cut_213 cx e1 e2 a0 hth hk14 _ _ _ _ _ _ _ _ _ _ _ _ _ _ hf hS hl
  · have hf := jI_f hf hc
    refine lv_iconst (pc := 208) (v := 4) hx hb dX2_cut_208 rfl ?_
    refine lv_goto (pc := 209) (tgt := 213) hx hb dX2_cut_209 (by decide) ?_
    exact wX2_cut_213 cx e1 e2 a0 hth hk14 _ _ _ _ _ _ _ _ _ _ _ _ _ _ hf hS hl
theorem wX2_cut_189 {N : Nat} {k144 : Int32 → Int32 → Int32 → Int32 → Int64 → jM Unit} {r : Unit} (cx : jCx p s m args meth c cX2_cut "WornSkin$Reader" 8 (Option.none : Option Jvm.ClassFile.FieldType) D dA H0 hs.2.2.2.2) (e1 : h'.2.2.1 = hs.2.2.1 + mc) (e2 : h'.2.2.2.1 = hs.2.2.2.1 + ms) (a0 : Nat) (hth : jTh hs a0 1) (hk144 : ∀ (x1 : Int32) (x2 : Int32) (x3 : Int32) (x5 : Int32) (x6 : Int64), ∀ (h : jH) (H : Heap) (locs : List Loc) (cells slots : Nat) (ls : Array Slot), (k144 x1 x2 x3 x5 x6).1 h = some (r, h') → jS D dA H0 hs h H locs cells slots → lv_has ls 8 [(0, .ref a0), (1, .int x1), (2, .int x2), (3, .int x3), (5, .int x5), (6, .long x6)] → W p l e { frames := 4, cells := mc, slots := ms, locals := 96 } s m args below meth c H locs cells slots (jQ D dA H0 below s (.returned none) h' mc ms) (F0 m 144 ls [])) : ∀ (x1 : Int32) (x2 : Int32) (x3 : Int32) (x5 : Int32) (x6 : Int64), ∀ (h : jH) (H : Heap) (locs : List Loc) (cells slots : Nat) (ls : Array Slot), (fX2_cut_189 N k144 a0 x1 x2 x3 x5 x6).1 h = some (r, h') → jS D dA H0 hs h H locs cells slots → lv_has ls 8 [(0, .ref a0), (1, .int x1), (2, .int x2), (3, .int x3), (5, .int x5), (6, .long x6)] → W p l e { frames := 4, cells := mc, slots := ms, locals := 96 } s m args below meth c H locs cells slots (jQ D dA H0 below s (.returned none) h' mc ms) (F0 m 189 ls []) := by
  have hx := cx.1
  have hb := cx.2.1
  have hown := cx.2.2.2.1
  have hts := cx.2.2.2.2.1
  have hm : h'.2.2.1 ≤ hs.2.2.1 + mc ∧ h'.2.2.2.1 ≤ hs.2.2.2.1 + ms := ⟨Nat.le_of_eq e1, Nat.le_of_eq e2⟩
  intro x1 x2 x3 x5 x6 h H locs cells slots ls hf hS hl
  unfold fX2_cut_189 at hf
  refine lv_iinc (pc := 189) (v := (x3 + 1)) (lv' := [(3, .int (x3 + 1)), (0, .ref a0), (1, .int x1), (2, .int x2), (5, .int x5), (6, .long x6)]) hx hb dX2_cut_189 hl (k := 3) rfl rfl (Nat.le_of_ble_eq_true rfl) rfl (fun ls hl => ?_)
  refine lv_goto (pc := 192) (tgt := 144) hx hb dX2_cut_192 (by decide) ?_
  exact hk144 _ _ _ _ _ _ _ _ _ _ _ hf hS (lv_sub hl [1, 2, 3, 0, 4, 5] rfl)
theorem wX2_cut_144 {N : Nat} {k14 : Int32 → Int32 → Int32 → jM Unit} {r : Unit} (cx : jCx p s m args meth c cX2_cut "WornSkin$Reader" 8 (Option.none : Option Jvm.ClassFile.FieldType) D dA H0 hs.2.2.2.2) (e1 : h'.2.2.1 = hs.2.2.1 + mc) (e2 : h'.2.2.2.1 = hs.2.2.2.1 + ms) (a0 : Nat) (hth : jTh hs a0 1) (hk14 : ∀ (x1 : Int32) (x2 : Int32) (x3 : Int32), ∀ (h : jH) (H : Heap) (locs : List Loc) (cells slots : Nat) (ls : Array Slot), (k14 x1 x2 x3).1 h = some (r, h') → jS D dA H0 hs h H locs cells slots → lv_has ls 8 [(0, .ref a0), (1, .int x1), (2, .int x2), (3, .int x3)] → W p l e { frames := 4, cells := mc, slots := ms, locals := 96 } s m args below meth c H locs cells slots (jQ D dA H0 below s (.returned none) h' mc ms) (F0 m 14 ls [])) : ∀ (n : Nat) (x1 : Int32) (x2 : Int32) (x3 : Int32) (x5 : Int32) (x6 : Int64), ∀ (h : jH) (H : Heap) (locs : List Loc) (cells slots : Nat) (ls : Array Slot), (fX2_cut_144 N k14 a0 n x1 x2 x3 x5 x6).1 h = some (r, h') → jS D dA H0 hs h H locs cells slots → lv_has ls 8 [(0, .ref a0), (1, .int x1), (2, .int x2), (3, .int x3), (5, .int x5), (6, .long x6)] → W p l e { frames := 4, cells := mc, slots := ms, locals := 96 } s m args below meth c H locs cells slots (jQ D dA H0 below s (.returned none) h' mc ms) (F0 m 144 ls []) := by
  have hx := cx.1
  have hb := cx.2.1
  have hown := cx.2.2.2.1
  have hts := cx.2.2.2.2.1
  have hm : h'.2.2.1 ≤ hs.2.2.1 + mc ∧ h'.2.2.2.1 ≤ hs.2.2.2.1 + ms := ⟨Nat.le_of_eq e1, Nat.le_of_eq e2⟩
  intro n
  induction n with
  | zero =>
    intro x1 x2 x3 x5 x6 h H locs cells slots ls hf hS hl
    exact jE_f hf
  | succ n ih =>
    intro x1 x2 x3 x5 x6 h H locs cells slots ls hf hS hl
    unfold fX2_cut_144 at hf
    refine lv_iload_n (pc := 144) hx hb dX2_cut_144 rfl (lv_at hl 3 rfl) ?_
    refine lv_iload_n (pc := 145) hx hb dX2_cut_145 rfl (lv_at hl 1 rfl) ?_
    refine lv_icmp_ge (pc := 146) (tgt := 195) hx hb dX2_cut_146 (by decide) (fun hc => ?_) (fun hc => ?_)
    · have hf := jI_t hf hc
      exact wX2_cut_195 cx e1 e2 a0 hth hk14 _ _ _ _ _ _ _ _ _ _ _ hf hS hl
    · have hf := jI_f hf hc
      refine lv_aload_n (pc := 149) hx hb dX2_cut_149 rfl (lv_at hl 0 rfl) ?_
      refine j_gR (pc := 150) cx hS hf fd_WornSkin_Reader_tape q211 dX2_cut_150 (fun y1 hf => ?_)
      refine lv_iload_n (pc := 153) hx hb dX2_cut_153 rfl (lv_at hl 3 rfl) ?_
      refine j_aI (pc := 154) cx hS hf rfl dX2_cut_154 (fun y2 hf => ?_)
      obtain ⟨y3, h1, e9, hf⟩ := jB_some hf
      refine j_callS (pc := 155) (st1 := [.int y3]) (As := [.int y2]) (rest := []) cx hS rfl hl.1 hm (metX2_isDigit l _ _ _ _ e9) (jle hf) (lw_S q488 q489 q113 q490) pdX2_isDigit rfl rfl (Nat.le_of_ble_eq_true rfl) ⟨Nat.le_of_ble_eq_true rfl, Nat.le_of_ble_eq_true rfl⟩ dX2_cut_155 rfl (fun H locs cells slots hS => ?_)
      refine lv_if_eq (pc := 158) (tgt := 195) hx hb dX2_cut_158 (by decide) (fun hc => ?_) (fun hc => ?_)
      · have hf := jI_t hf hc
        exact wX2_cut_195 cx e1 e2 a0 hth hk14 _ _ _ _ _ _ _ _ _ _ _ hf hS hl
      · have hf := jI_f hf hc
        refine lv_iload_n (pc := 161) hx hb dX2_cut_161 rfl (lv_at hl 3 rfl) ?_
        refine lv_iload (pc := 162) hx hb dX2_cut_162 (lv_at hl 4 rfl) ?_
        refine lv_isub (pc := 164) hx hb dX2_cut_164 ?_
        refine lv_iconst (pc := 165) (v := 4) hx hb dX2_cut_165 rfl ?_
        refine lv_icmp_ge (pc := 166) (tgt := 189) hx hb dX2_cut_166 (by decide) (fun hc => ?_) (fun hc => ?_)
        · have hf := jI_t hf hc
          exact wX2_cut_189 cx e1 e2 a0 hth ih _ _ _ _ _ _ _ _ _ _ _ hf hS hl
        · have hf := jI_f hf hc
          refine lv_ldc2 (pc := 169) (v := 10) hx hb hown (hts _ q491) dX2_cut_169 ?_
          refine lv_lload (pc := 172) hx hb dX2_cut_172 (lv_at hl 5 rfl) ?_
          refine lv_lmul (pc := 174) hx hb dX2_cut_174 ?_
          refine lv_aload_n (pc := 175) hx hb dX2_cut_175 rfl (lv_at hl 0 rfl) ?_
          refine j_gR (pc := 176) cx hS hf fd_WornSkin_Reader_tape q211 dX2_cut_176 (fun y4 hf => ?_)
          refine lv_iload_n (pc := 179) hx hb dX2_cut_179 rfl (lv_at hl 3 rfl) ?_
          refine j_aI (pc := 180) cx hS hf rfl dX2_cut_180 (fun y5 hf => ?_)
          refine lv_i2l (pc := 181) (v := y5.toInt64) hx hb dX2_cut_181 rfl ?_
          refine lv_ladd (pc := 182) hx hb dX2_cut_182 ?_
          refine lv_ldc2 (pc := 183) (v := 48) hx hb hown (hts _ q492) dX2_cut_183 ?_
          refine lv_lsub (pc := 186) hx hb dX2_cut_186 ?_
          refine lv_lstore (pc := 187) (i := 6) (lv' := [(6, .long (((10 * x6) + (y5.toInt64)) - 48)), (0, .ref a0), (1, .int x1), (2, .int x2), (3, .int x3), (5, .int x5)]) hx hb dX2_cut_187 hl (Nat.le_of_ble_eq_true rfl) rfl (fun ls hl => ?_)
          exact wX2_cut_189 cx e1 e2 a0 hth ih _ _ _ _ _ _ _ _ _ _ _ hf hS (lv_sub hl [1, 2, 3, 4, 5, 0] rfl)
theorem wX2_cut_132 {N : Nat} {k14 : Int32 → Int32 → Int32 → jM Unit} {r : Unit} (cx : jCx p s m args meth c cX2_cut "WornSkin$Reader" 8 (Option.none : Option Jvm.ClassFile.FieldType) D dA H0 hs.2.2.2.2) (e1 : h'.2.2.1 = hs.2.2.1 + mc) (e2 : h'.2.2.2.1 = hs.2.2.2.1 + ms) (a0 : Nat) (hth : jTh hs a0 1) (hk14 : ∀ (x1 : Int32) (x2 : Int32) (x3 : Int32), ∀ (h : jH) (H : Heap) (locs : List Loc) (cells slots : Nat) (ls : Array Slot), (k14 x1 x2 x3).1 h = some (r, h') → jS D dA H0 hs h H locs cells slots → lv_has ls 8 [(0, .ref a0), (1, .int x1), (2, .int x2), (3, .int x3)] → W p l e { frames := 4, cells := mc, slots := ms, locals := 96 } s m args below meth c H locs cells slots (jQ D dA H0 below s (.returned none) h' mc ms) (F0 m 14 ls [])) : ∀ (x1 : Int32) (x2 : Int32) (x3 : Int32) (x5 : Int32) (x6 : Int64) (v0 : Option Nat) (v1 : Int32) (v2 : Int32), ∀ (h : jH) (H : Heap) (locs : List Loc) (cells slots : Nat) (ls : Array Slot), (fX2_cut_132 N k14 a0 x1 x2 x3 x5 x6 v0 v1 v2).1 h = some (r, h') → jS D dA H0 hs h H locs cells slots → lv_has ls 8 [(0, .ref a0), (1, .int x1), (2, .int x2), (3, .int x3), (5, .int x5), (6, .long x6)] → W p l e { frames := 4, cells := mc, slots := ms, locals := 96 } s m args below meth c H locs cells slots (jQ D dA H0 below s (.returned none) h' mc ms) (F0 m 132 ls [.int v2, .int v1, va_rf v0]) := by
  have hx := cx.1
  have hb := cx.2.1
  have hown := cx.2.2.2.1
  have hts := cx.2.2.2.2.1
  have hm : h'.2.2.1 ≤ hs.2.2.1 + mc ∧ h'.2.2.2.1 ≤ hs.2.2.2.1 + ms := ⟨Nat.le_of_eq e1, Nat.le_of_eq e2⟩
  intro x1 x2 x3 x5 x6 v0 v1 v2 h H locs cells slots ls hf hS hl
  unfold fX2_cut_132 at hf
  refine j_sI (pc := 132) cx hS hf rfl dX2_cut_132 (fun h H locs hf hS => ?_)
  refine lv_goto (pc := 133) (tgt := 246) hx hb dX2_cut_133 (by decide) ?_
  exact wX2_cut_246 cx e1 e2 a0 hth hk14 _ _ _ _ _ _ _ _ _ _ _ hf hS hl
theorem wX2_cut_113 {N : Nat} {k14 : Int32 → Int32 → Int32 → jM Unit} {r : Unit} (cx : jCx p s m args meth c cX2_cut "WornSkin$Reader" 8 (Option.none : Option Jvm.ClassFile.FieldType) D dA H0 hs.2.2.2.2) (e1 : h'.2.2.1 = hs.2.2.1 + mc) (e2 : h'.2.2.2.1 = hs.2.2.2.1 + ms) (a0 : Nat) (hth : jTh hs a0 1) (hk14 : ∀ (x1 : Int32) (x2 : Int32) (x3 : Int32), ∀ (h : jH) (H : Heap) (locs : List Loc) (cells slots : Nat) (ls : Array Slot), (k14 x1 x2 x3).1 h = some (r, h') → jS D dA H0 hs h H locs cells slots → lv_has ls 8 [(0, .ref a0), (1, .int x1), (2, .int x2), (3, .int x3)] → W p l e { frames := 4, cells := mc, slots := ms, locals := 96 } s m args below meth c H locs cells slots (jQ D dA H0 below s (.returned none) h' mc ms) (F0 m 14 ls [])) : ∀ (x1 : Int32) (x2 : Int32) (x3 : Int32) (x5 : Int32) (x6 : Int64), ∀ (h : jH) (H : Heap) (locs : List Loc) (cells slots : Nat) (ls : Array Slot), (fX2_cut_113 N k14 a0 x1 x2 x3 x5 x6).1 h = some (r, h') → jS D dA H0 hs h H locs cells slots → lv_has ls 8 [(0, .ref a0), (1, .int x1), (2, .int x2), (3, .int x3), (5, .int x5), (6, .long x6)] → W p l e { frames := 4, cells := mc, slots := ms, locals := 96 } s m args below meth c H locs cells slots (jQ D dA H0 below s (.returned none) h' mc ms) (F0 m 113 ls []) := by
  have hx := cx.1
  have hb := cx.2.1
  have hown := cx.2.2.2.1
  have hts := cx.2.2.2.2.1
  have hm : h'.2.2.1 ≤ hs.2.2.1 + mc ∧ h'.2.2.2.1 ≤ hs.2.2.2.1 + ms := ⟨Nat.le_of_eq e1, Nat.le_of_eq e2⟩
  intro x1 x2 x3 x5 x6 h H locs cells slots ls hf hS hl
  unfold fX2_cut_113 at hf
  refine lv_aload_n (pc := 113) hx hb dX2_cut_113 rfl (lv_at hl 0 rfl) ?_
  refine j_gR (pc := 114) cx hS hf fd_WornSkin_Reader_sort q214 dX2_cut_114 (fun y1 hf => ?_)
  refine lv_iload_n (pc := 117) hx hb dX2_cut_117 rfl (lv_at hl 2 rfl) ?_
  refine lv_iload_n (pc := 118) hx hb dX2_cut_118 rfl (lv_at hl 3 rfl) ?_
  refine lv_iload (pc := 119) hx hb dX2_cut_119 (lv_at hl 4 rfl) ?_
  refine lv_isub (pc := 121) hx hb dX2_cut_121 ?_
  refine lv_bipush (pc := 122) (v := 8) hx hb dX2_cut_122 rfl ?_
  refine lv_icmp_le (pc := 124) (tgt := 131) hx hb dX2_cut_124 (by decide) (fun hc => ?_) (fun hc => ?_)
  · have hf := jI_t hf hc
    refine lv_iconst (pc := 131) (v := 1) hx hb dX2_cut_131 rfl ?_
    exact wX2_cut_132 cx e1 e2 a0 hth hk14 _ _ _ _ _ _ _ _ _ _ _ _ _ _ hf hS hl
  · have hf := jI_f hf hc
    refine lv_iconst (pc := 127) (v := 4) hx hb dX2_cut_127 rfl ?_
    refine lv_goto (pc := 128) (tgt := 132) hx hb dX2_cut_128 (by decide) ?_
    exact wX2_cut_132 cx e1 e2 a0 hth hk14 _ _ _ _ _ _ _ _ _ _ _ _ _ _ hf hS hl
theorem wX2_cut_107 {N : Nat} {k61 : Int32 → Int32 → Int32 → Int32 → Int64 → jM Unit} {r : Unit} (cx : jCx p s m args meth c cX2_cut "WornSkin$Reader" 8 (Option.none : Option Jvm.ClassFile.FieldType) D dA H0 hs.2.2.2.2) (e1 : h'.2.2.1 = hs.2.2.1 + mc) (e2 : h'.2.2.2.1 = hs.2.2.2.1 + ms) (a0 : Nat) (hth : jTh hs a0 1) (hk61 : ∀ (x1 : Int32) (x2 : Int32) (x3 : Int32) (x5 : Int32) (x6 : Int64), ∀ (h : jH) (H : Heap) (locs : List Loc) (cells slots : Nat) (ls : Array Slot), (k61 x1 x2 x3 x5 x6).1 h = some (r, h') → jS D dA H0 hs h H locs cells slots → lv_has ls 8 [(0, .ref a0), (1, .int x1), (2, .int x2), (3, .int x3), (5, .int x5), (6, .long x6)] → W p l e { frames := 4, cells := mc, slots := ms, locals := 96 } s m args below meth c H locs cells slots (jQ D dA H0 below s (.returned none) h' mc ms) (F0 m 61 ls [])) : ∀ (x1 : Int32) (x2 : Int32) (x3 : Int32) (x5 : Int32) (x6 : Int64), ∀ (h : jH) (H : Heap) (locs : List Loc) (cells slots : Nat) (ls : Array Slot), (fX2_cut_107 N k61 a0 x1 x2 x3 x5 x6).1 h = some (r, h') → jS D dA H0 hs h H locs cells slots → lv_has ls 8 [(0, .ref a0), (1, .int x1), (2, .int x2), (3, .int x3), (5, .int x5), (6, .long x6)] → W p l e { frames := 4, cells := mc, slots := ms, locals := 96 } s m args below meth c H locs cells slots (jQ D dA H0 below s (.returned none) h' mc ms) (F0 m 107 ls []) := by
  have hx := cx.1
  have hb := cx.2.1
  have hown := cx.2.2.2.1
  have hts := cx.2.2.2.2.1
  have hm : h'.2.2.1 ≤ hs.2.2.1 + mc ∧ h'.2.2.2.1 ≤ hs.2.2.2.1 + ms := ⟨Nat.le_of_eq e1, Nat.le_of_eq e2⟩
  intro x1 x2 x3 x5 x6 h H locs cells slots ls hf hS hl
  unfold fX2_cut_107 at hf
  refine lv_iinc (pc := 107) (v := (x3 + 1)) (lv' := [(3, .int (x3 + 1)), (0, .ref a0), (1, .int x1), (2, .int x2), (5, .int x5), (6, .long x6)]) hx hb dX2_cut_107 hl (k := 3) rfl rfl (Nat.le_of_ble_eq_true rfl) rfl (fun ls hl => ?_)
  refine lv_goto (pc := 110) (tgt := 61) hx hb dX2_cut_110 (by decide) ?_
  exact hk61 _ _ _ _ _ _ _ _ _ _ _ hf hS (lv_sub hl [1, 2, 3, 0, 4, 5] rfl)
theorem wX2_cut_61 {N : Nat} {k14 : Int32 → Int32 → Int32 → jM Unit} {r : Unit} (cx : jCx p s m args meth c cX2_cut "WornSkin$Reader" 8 (Option.none : Option Jvm.ClassFile.FieldType) D dA H0 hs.2.2.2.2) (e1 : h'.2.2.1 = hs.2.2.1 + mc) (e2 : h'.2.2.2.1 = hs.2.2.2.1 + ms) (a0 : Nat) (hth : jTh hs a0 1) (hk14 : ∀ (x1 : Int32) (x2 : Int32) (x3 : Int32), ∀ (h : jH) (H : Heap) (locs : List Loc) (cells slots : Nat) (ls : Array Slot), (k14 x1 x2 x3).1 h = some (r, h') → jS D dA H0 hs h H locs cells slots → lv_has ls 8 [(0, .ref a0), (1, .int x1), (2, .int x2), (3, .int x3)] → W p l e { frames := 4, cells := mc, slots := ms, locals := 96 } s m args below meth c H locs cells slots (jQ D dA H0 below s (.returned none) h' mc ms) (F0 m 14 ls [])) : ∀ (n : Nat) (x1 : Int32) (x2 : Int32) (x3 : Int32) (x5 : Int32) (x6 : Int64), ∀ (h : jH) (H : Heap) (locs : List Loc) (cells slots : Nat) (ls : Array Slot), (fX2_cut_61 N k14 a0 n x1 x2 x3 x5 x6).1 h = some (r, h') → jS D dA H0 hs h H locs cells slots → lv_has ls 8 [(0, .ref a0), (1, .int x1), (2, .int x2), (3, .int x3), (5, .int x5), (6, .long x6)] → W p l e { frames := 4, cells := mc, slots := ms, locals := 96 } s m args below meth c H locs cells slots (jQ D dA H0 below s (.returned none) h' mc ms) (F0 m 61 ls []) := by
  have hx := cx.1
  have hb := cx.2.1
  have hown := cx.2.2.2.1
  have hts := cx.2.2.2.2.1
  have hm : h'.2.2.1 ≤ hs.2.2.1 + mc ∧ h'.2.2.2.1 ≤ hs.2.2.2.1 + ms := ⟨Nat.le_of_eq e1, Nat.le_of_eq e2⟩
  intro n
  induction n with
  | zero =>
    intro x1 x2 x3 x5 x6 h H locs cells slots ls hf hS hl
    exact jE_f hf
  | succ n ih =>
    intro x1 x2 x3 x5 x6 h H locs cells slots ls hf hS hl
    unfold fX2_cut_61 at hf
    refine lv_iload_n (pc := 61) hx hb dX2_cut_61 rfl (lv_at hl 3 rfl) ?_
    refine lv_iload_n (pc := 62) hx hb dX2_cut_62 rfl (lv_at hl 1 rfl) ?_
    refine lv_icmp_ge (pc := 63) (tgt := 113) hx hb dX2_cut_63 (by decide) (fun hc => ?_) (fun hc => ?_)
    · have hf := jI_t hf hc
      exact wX2_cut_113 cx e1 e2 a0 hth hk14 _ _ _ _ _ _ _ _ _ _ _ hf hS hl
    · have hf := jI_f hf hc
      refine lv_aload_n (pc := 66) hx hb dX2_cut_66 rfl (lv_at hl 0 rfl) ?_
      refine j_gR (pc := 67) cx hS hf fd_WornSkin_Reader_tape q211 dX2_cut_67 (fun y1 hf => ?_)
      refine lv_iload_n (pc := 70) hx hb dX2_cut_70 rfl (lv_at hl 3 rfl) ?_
      refine j_aI (pc := 71) cx hS hf rfl dX2_cut_71 (fun y2 hf => ?_)
      obtain ⟨y3, h1, e9, hf⟩ := jB_some hf
      refine j_callS (pc := 72) (st1 := [.int y3]) (As := [.int y2]) (rest := []) cx hS rfl hl.1 hm (metX2_isLetter l _ _ _ _ e9) (jle hf) (lw_S q483 q484 q113 q485) pdX2_isLetter rfl rfl (Nat.le_of_ble_eq_true rfl) ⟨Nat.le_of_ble_eq_true rfl, Nat.le_of_ble_eq_true rfl⟩ dX2_cut_72 rfl (fun H locs cells slots hS => ?_)
      refine lv_if_eq (pc := 75) (tgt := 113) hx hb dX2_cut_75 (by decide) (fun hc => ?_) (fun hc => ?_)
      · have hf := jI_t hf hc
        exact wX2_cut_113 cx e1 e2 a0 hth hk14 _ _ _ _ _ _ _ _ _ _ _ hf hS hl
      · have hf := jI_f hf hc
        refine lv_iload_n (pc := 78) hx hb dX2_cut_78 rfl (lv_at hl 3 rfl) ?_
        refine lv_iload (pc := 79) hx hb dX2_cut_79 (lv_at hl 4 rfl) ?_
        refine lv_isub (pc := 81) hx hb dX2_cut_81 ?_
        refine lv_bipush (pc := 82) (v := 8) hx hb dX2_cut_82 rfl ?_
        refine lv_icmp_ge (pc := 84) (tgt := 107) hx hb dX2_cut_84 (by decide) (fun hc => ?_) (fun hc => ?_)
        · have hf := jI_t hf hc
          exact wX2_cut_107 cx e1 e2 a0 hth ih _ _ _ _ _ _ _ _ _ _ _ hf hS hl
        · have hf := jI_f hf hc
          refine lv_ldc2 (pc := 87) (v := 27) hx hb hown (hts _ q486) dX2_cut_87 ?_
          refine lv_lload (pc := 90) hx hb dX2_cut_90 (lv_at hl 5 rfl) ?_
          refine lv_lmul (pc := 92) hx hb dX2_cut_92 ?_
          refine lv_aload_n (pc := 93) hx hb dX2_cut_93 rfl (lv_at hl 0 rfl) ?_
          refine j_gR (pc := 94) cx hS hf fd_WornSkin_Reader_tape q211 dX2_cut_94 (fun y4 hf => ?_)
          refine lv_iload_n (pc := 97) hx hb dX2_cut_97 rfl (lv_at hl 3 rfl) ?_
          refine j_aI (pc := 98) cx hS hf rfl dX2_cut_98 (fun y5 hf => ?_)
          refine lv_i2l (pc := 99) (v := y5.toInt64) hx hb dX2_cut_99 rfl ?_
          refine lv_ladd (pc := 100) hx hb dX2_cut_100 ?_
          refine lv_ldc2 (pc := 101) (v := 96) hx hb hown (hts _ q487) dX2_cut_101 ?_
          refine lv_lsub (pc := 104) hx hb dX2_cut_104 ?_
          refine lv_lstore (pc := 105) (i := 6) (lv' := [(6, .long (((27 * x6) + (y5.toInt64)) - 96)), (0, .ref a0), (1, .int x1), (2, .int x2), (3, .int x3), (5, .int x5)]) hx hb dX2_cut_105 hl (Nat.le_of_ble_eq_true rfl) rfl (fun ls hl => ?_)
          exact wX2_cut_107 cx e1 e2 a0 hth ih _ _ _ _ _ _ _ _ _ _ _ hf hS (lv_sub hl [1, 2, 3, 4, 5, 0] rfl)
theorem wX2_cut_41 {N : Nat} {k14 : Int32 → Int32 → Int32 → jM Unit} {r : Unit} (cx : jCx p s m args meth c cX2_cut "WornSkin$Reader" 8 (Option.none : Option Jvm.ClassFile.FieldType) D dA H0 hs.2.2.2.2) (e1 : h'.2.2.1 = hs.2.2.1 + mc) (e2 : h'.2.2.2.1 = hs.2.2.2.1 + ms) (a0 : Nat) (hth : jTh hs a0 1) (hk14 : ∀ (x1 : Int32) (x2 : Int32) (x3 : Int32), ∀ (h : jH) (H : Heap) (locs : List Loc) (cells slots : Nat) (ls : Array Slot), (k14 x1 x2 x3).1 h = some (r, h') → jS D dA H0 hs h H locs cells slots → lv_has ls 8 [(0, .ref a0), (1, .int x1), (2, .int x2), (3, .int x3)] → W p l e { frames := 4, cells := mc, slots := ms, locals := 96 } s m args below meth c H locs cells slots (jQ D dA H0 below s (.returned none) h' mc ms) (F0 m 14 ls [])) : ∀ (x1 : Int32) (x2 : Int32) (x3 : Int32), ∀ (h : jH) (H : Heap) (locs : List Loc) (cells slots : Nat) (ls : Array Slot), (fX2_cut_41 N k14 a0 x1 x2 x3).1 h = some (r, h') → jS D dA H0 hs h H locs cells slots → lv_has ls 8 [(0, .ref a0), (1, .int x1), (2, .int x2), (3, .int x3)] → W p l e { frames := 4, cells := mc, slots := ms, locals := 96 } s m args below meth c H locs cells slots (jQ D dA H0 below s (.returned none) h' mc ms) (F0 m 41 ls []) := by
  have hx := cx.1
  have hb := cx.2.1
  have hown := cx.2.2.2.1
  have hts := cx.2.2.2.2.1
  have hm : h'.2.2.1 ≤ hs.2.2.1 + mc ∧ h'.2.2.2.1 ≤ hs.2.2.2.1 + ms := ⟨Nat.le_of_eq e1, Nat.le_of_eq e2⟩
  intro x1 x2 x3 h H locs cells slots ls hf hS hl
  unfold fX2_cut_41 at hf
  refine lv_iinc (pc := 41) (v := (x3 + 1)) (lv' := [(3, .int (x3 + 1)), (0, .ref a0), (1, .int x1), (2, .int x2)]) hx hb dX2_cut_41 hl (k := 3) rfl rfl (Nat.le_of_ble_eq_true rfl) rfl (fun ls hl => ?_)
  refine lv_goto (pc := 44) (tgt := 14) hx hb dX2_cut_44 (by decide) ?_
  exact hk14 _ _ _ _ _ _ _ _ _ hf hS (lv_sub hl [1, 2, 3, 0] rfl)
theorem wX2_cut_14 {N : Nat} {r : Unit} (cx : jCx p s m args meth c cX2_cut "WornSkin$Reader" 8 (Option.none : Option Jvm.ClassFile.FieldType) D dA H0 hs.2.2.2.2) (e1 : h'.2.2.1 = hs.2.2.1 + mc) (e2 : h'.2.2.2.1 = hs.2.2.2.1 + ms) (a0 : Nat) (hth : jTh hs a0 1) : ∀ (n : Nat) (x1 : Int32) (x2 : Int32) (x3 : Int32), ∀ (h : jH) (H : Heap) (locs : List Loc) (cells slots : Nat) (ls : Array Slot), (fX2_cut_14 N a0 n x1 x2 x3).1 h = some (r, h') → jS D dA H0 hs h H locs cells slots → lv_has ls 8 [(0, .ref a0), (1, .int x1), (2, .int x2), (3, .int x3)] → W p l e { frames := 4, cells := mc, slots := ms, locals := 96 } s m args below meth c H locs cells slots (jQ D dA H0 below s (.returned none) h' mc ms) (F0 m 14 ls []) := by
  have hx := cx.1
  have hb := cx.2.1
  have hown := cx.2.2.2.1
  have hts := cx.2.2.2.2.1
  have hm : h'.2.2.1 ≤ hs.2.2.1 + mc ∧ h'.2.2.2.1 ≤ hs.2.2.2.1 + ms := ⟨Nat.le_of_eq e1, Nat.le_of_eq e2⟩
  intro n
  induction n with
  | zero =>
    intro x1 x2 x3 h H locs cells slots ls hf hS hl
    exact jE_f hf
  | succ n ih =>
    intro x1 x2 x3 h H locs cells slots ls hf hS hl
    unfold fX2_cut_14 at hf
    refine lv_iload_n (pc := 14) hx hb dX2_cut_14 rfl (lv_at hl 3 rfl) ?_
    refine lv_iload_n (pc := 15) hx hb dX2_cut_15 rfl (lv_at hl 1 rfl) ?_
    refine lv_icmp_ge (pc := 16) (tgt := 268) hx hb dX2_cut_16 (by decide) (fun hc => ?_) (fun hc => ?_)
    · have hf := jI_t hf hc
      exact wX2_cut_268 cx e1 e2 a0 hth _ _ _ _ _ _ _ _ hf hS (lv_sub hl [0, 1, 2] rfl)
    · have hf := jI_f hf hc
      refine lv_aload_n (pc := 19) hx hb dX2_cut_19 rfl (lv_at hl 0 rfl) ?_
      refine j_gR (pc := 20) cx hS hf fd_WornSkin_Reader_tape q211 dX2_cut_20 (fun y1 hf => ?_)
      refine lv_iload_n (pc := 23) hx hb dX2_cut_23 rfl (lv_at hl 3 rfl) ?_
      refine j_aI (pc := 24) cx hS hf rfl dX2_cut_24 (fun y2 hf => ?_)
      refine lv_istore (pc := 25) (i := 4) (lv' := [(4, .int y2), (0, .ref a0), (1, .int x1), (2, .int x2), (3, .int x3)]) hx hb dX2_cut_25 hl (Nat.le_of_ble_eq_true rfl) rfl (fun ls hl => ?_)
      refine lv_iload (pc := 27) hx hb dX2_cut_27 (lv_at hl 0 rfl) ?_
      refine lv_bipush (pc := 29) (v := 10) hx hb dX2_cut_29 rfl ?_
      refine lv_icmp_eq (pc := 31) (tgt := 41) hx hb dX2_cut_31 (by decide) (fun hc => ?_) (fun hc => ?_)
      · have hf := jI_t hf hc
        exact wX2_cut_41 cx e1 e2 a0 hth ih _ _ _ _ _ _ _ _ _ hf hS (lv_sub hl [1, 2, 3, 4] rfl)
      · have hf := jI_f hf hc
        refine lv_iload (pc := 34) hx hb dX2_cut_34 (lv_at hl 0 rfl) ?_
        refine lv_bipush (pc := 36) (v := 32) hx hb dX2_cut_36 rfl ?_
        refine lv_icmp_ne (pc := 38) (tgt := 47) hx hb dX2_cut_38 (by decide) (fun hc => ?_) (fun hc => ?_)
        · have hf := jI_f hf hc
          refine lv_iload_n (pc := 47) hx hb dX2_cut_47 rfl (lv_at hl 4 rfl) ?_
          refine lv_istore (pc := 48) (i := 5) (lv' := [(5, .int x3), (4, .int y2), (0, .ref a0), (1, .int x1), (2, .int x2), (3, .int x3)]) hx hb dX2_cut_48 hl (Nat.le_of_ble_eq_true rfl) rfl (fun ls hl => ?_)
          refine lv_lconst (pc := 50) (v := 0) hx hb dX2_cut_50 rfl ?_
          refine lv_lstore (pc := 51) (i := 6) (lv' := [(6, .long 0), (5, .int x3), (4, .int y2), (0, .ref a0), (1, .int x1), (2, .int x2), (3, .int x3)]) hx hb dX2_cut_51 hl (Nat.le_of_ble_eq_true rfl) rfl (fun ls hl => ?_)
          refine lv_iload (pc := 53) hx hb dX2_cut_53 (lv_at hl 2 rfl) ?_
          obtain ⟨y3, h1, e9, hf⟩ := jB_some hf
          refine j_callS (pc := 55) (st1 := [.int y3]) (As := [.int y2]) (rest := []) cx hS rfl hl.1 hm (metX2_isLetter l _ _ _ _ e9) (jle hf) (lw_S q483 q484 q113 q485) pdX2_isLetter rfl rfl (Nat.le_of_ble_eq_true rfl) ⟨Nat.le_of_ble_eq_true rfl, Nat.le_of_ble_eq_true rfl⟩ dX2_cut_55 rfl (fun H locs cells slots hS => ?_)
          refine lv_if_eq (pc := 58) (tgt := 136) hx hb dX2_cut_58 (by decide) (fun hc => ?_) (fun hc => ?_)
          · have hf := jI_t hf hc
            refine lv_iload (pc := 136) hx hb dX2_cut_136 (lv_at hl 2 rfl) ?_
            obtain ⟨y4, h1, e9, hf⟩ := jB_some hf
            refine j_callS (pc := 138) (st1 := [.int y4]) (As := [.int y2]) (rest := []) cx hS rfl hl.1 hm (metX2_isDigit l _ _ _ _ e9) (jle hf) (lw_S q488 q489 q113 q490) pdX2_isDigit rfl rfl (Nat.le_of_ble_eq_true rfl) ⟨Nat.le_of_ble_eq_true rfl, Nat.le_of_ble_eq_true rfl⟩ dX2_cut_138 rfl (fun H locs cells slots hS => ?_)
            refine lv_if_eq (pc := 141) (tgt := 217) hx hb dX2_cut_141 (by decide) (fun hc => ?_) (fun hc => ?_)
            · have hf := jI_t hf hc
              refine lv_iload (pc := 217) hx hb dX2_cut_217 (lv_at hl 2 rfl) ?_
              refine lv_i2l (pc := 219) (v := y2.toInt64) hx hb dX2_cut_219 rfl ?_
              refine lv_lstore (pc := 220) (i := 6) (lv' := [(6, .long (y2.toInt64)), (5, .int x3), (4, .int y2), (0, .ref a0), (1, .int x1), (2, .int x2), (3, .int x3)]) hx hb dX2_cut_220 hl (Nat.le_of_ble_eq_true rfl) rfl (fun ls hl => ?_)
              refine lv_iinc (pc := 222) (v := (x3 + 1)) (lv' := [(3, .int (x3 + 1)), (6, .long (y2.toInt64)), (5, .int x3), (4, .int y2), (0, .ref a0), (1, .int x1), (2, .int x2)]) hx hb dX2_cut_222 hl (k := 6) rfl rfl (Nat.le_of_ble_eq_true rfl) rfl (fun ls hl => ?_)
              refine lv_aload_n (pc := 225) hx hb dX2_cut_225 rfl (lv_at hl 4 rfl) ?_
              refine j_gR (pc := 226) cx hS hf fd_WornSkin_Reader_sort q214 dX2_cut_226 (fun y5 hf => ?_)
              refine lv_iload_n (pc := 229) hx hb dX2_cut_229 rfl (lv_at hl 6 rfl) ?_
              refine j_ldcS (pc := 230) cx hS rfl hf (tx := "()<=+-*;") (List.mem_of_getElem? (i := 24) rfl) dX2_cut_230 (fun y6 hf => ?_)
              refine lv_iload (pc := 232) hx hb dX2_cut_232 (lv_at hl 3 rfl) ?_
              obtain ⟨b8, eb, hrc, hf⟩ := jrc_s hf
              refine j_nn (pc := 234) eb [.int y2] [.int x2, va_rf y5] rfl ?_
              obtain ⟨y7, h1, e9, hf⟩ := jB_some hf
              refine j_callV (pc := 234) (st1 := [.int y7, .int x2, va_rf y5]) (As := [.int y2]) (rest := [.int x2, va_rf y5]) cx hS rfl hl.1 hm (metJ5_indexOf l _ _ _ _ _ _ hrc e9) (jle hf) hrc rfl (lw_V q494 q495 q496 q124 q497) pdJ5_indexOf rfl rfl (by simp only [List.map_cons, List.map_nil, List.sum_cons, List.sum_nil, jrfc]; exact Nat.le_of_ble_eq_true rfl) ⟨Nat.le_of_ble_eq_true rfl, Nat.le_of_ble_eq_true rfl⟩ dX2_cut_234 rfl (fun H locs cells slots hS => ?_)
              refine lv_if_lt (pc := 237) (tgt := 244) hx hb dX2_cut_237 (by decide) (fun hc => ?_) (fun hc => ?_)
              · have hf := jI_t hf hc
                refine lv_iconst (pc := 244) (v := 4) hx hb dX2_cut_244 rfl ?_
                exact wX2_cut_245 cx e1 e2 a0 hth ih _ _ _ _ _ _ _ _ _ _ _ _ _ _ hf hS (lv_sub hl [4, 5, 6, 0, 2, 1] rfl)
              · have hf := jI_f hf hc
                refine lv_iconst (pc := 240) (v := 3) hx hb dX2_cut_240 rfl ?_
                refine lv_goto (pc := 241) (tgt := 245) hx hb dX2_cut_241 (by decide) ?_
                exact wX2_cut_245 cx e1 e2 a0 hth ih _ _ _ _ _ _ _ _ _ _ _ _ _ _ hf hS (lv_sub hl [4, 5, 6, 0, 2, 1] rfl)
            · have hf := jI_f hf hc
              exact wX2_cut_144 cx e1 e2 a0 hth ih N _ _ _ _ _ _ _ _ _ _ _ hf hS (lv_sub hl [3, 4, 5, 6, 1, 0] rfl)
          · have hf := jI_f hf hc
            exact wX2_cut_61 cx e1 e2 a0 hth ih N _ _ _ _ _ _ _ _ _ _ _ hf hS (lv_sub hl [3, 4, 5, 6, 1, 0] rfl)
        · have hf := jI_t hf hc
          exact wX2_cut_41 cx e1 e2 a0 hth ih _ _ _ _ _ _ _ _ _ hf hS (lv_sub hl [1, 2, 3, 4] rfl)
theorem wX2_cut_0 {N : Nat} {r : Unit} (cx : jCx p s m args meth c cX2_cut "WornSkin$Reader" 8 (Option.none : Option Jvm.ClassFile.FieldType) D dA H0 hs.2.2.2.2) (e1 : h'.2.2.1 = hs.2.2.1 + mc) (e2 : h'.2.2.2.1 = hs.2.2.2.1 + ms) (a0 : Nat) (hth : jTh hs a0 1) : ∀ (h : jH) (H : Heap) (locs : List Loc) (cells slots : Nat) (ls : Array Slot), (fX2_cut N a0).1 h = some (r, h') → jS D dA H0 hs h H locs cells slots → lv_has ls 8 [(0, .ref a0)] → W p l e { frames := 4, cells := mc, slots := ms, locals := 96 } s m args below meth c H locs cells slots (jQ D dA H0 below s (.returned none) h' mc ms) (F0 m 0 ls []) := by
  have hx := cx.1
  have hb := cx.2.1
  have hown := cx.2.2.2.1
  have hts := cx.2.2.2.2.1
  have hm : h'.2.2.1 ≤ hs.2.2.1 + mc ∧ h'.2.2.2.1 ≤ hs.2.2.2.1 + ms := ⟨Nat.le_of_eq e1, Nat.le_of_eq e2⟩
  intro h H locs cells slots ls hf hS hl
  unfold fX2_cut at hf
  refine lv_aload_n (pc := 0) hx hb dX2_cut_0 rfl (lv_at hl 0 rfl) ?_
  refine j_gI (pc := 1) cx hS hf fd_WornSkin_Reader_taped q212 dX2_cut_1 (fun y1 hf => ?_)
  refine lv_istore_n (pc := 4) (i := 1) (lv' := [(1, .int y1), (0, .ref a0)]) hx hb dX2_cut_4 rfl hl (Nat.le_of_ble_eq_true rfl) rfl (fun ls hl => ?_)
  refine lv_aload_n (pc := 5) hx hb dX2_cut_5 rfl (lv_at hl 1 rfl) ?_
  refine lv_iconst (pc := 6) (v := 0) hx hb dX2_cut_6 rfl ?_
  refine j_pI (pc := 7) cx hS hf fp_WornSkin_Reader_taped (Or.inl rfl) q212 dX2_cut_7 (fun h H locs hf hS => ?_)
  refine lv_iconst (pc := 10) (v := 0) hx hb dX2_cut_10 rfl ?_
  refine lv_istore_n (pc := 11) (i := 2) (lv' := [(2, .int 0), (1, .int y1), (0, .ref a0)]) hx hb dX2_cut_11 rfl hl (Nat.le_of_ble_eq_true rfl) rfl (fun ls hl => ?_)
  refine lv_iconst (pc := 12) (v := 0) hx hb dX2_cut_12 rfl ?_
  refine lv_istore_n (pc := 13) (i := 3) (lv' := [(3, .int 0), (2, .int 0), (1, .int y1), (0, .ref a0)]) hx hb dX2_cut_13 rfl hl (Nat.le_of_ble_eq_true rfl) rfl (fun ls hl => ?_)
  exact wX2_cut_14 cx e1 e2 a0 hth N _ _ _ _ _ _ _ _ _ hf hS (lv_sub hl [3, 2, 1, 0] rfl)
theorem metX2_cut (l : Launch) (N : Nat) (a0 : Nat) (h h' : jH) (r : Unit) (hth : jcd h a0 = some 1) (hf : (fX2_cut N a0).1 h = some (r, h')) : jMet l yX2_cut (ws_ yX2_cut cX2_cut 8 (Option.none : Option Jvm.ClassFile.FieldType)) (4) (96) [.ref a0] h h' (.returned none) := by
  refine jStart rfl (jle hf) (Nat.le_of_ble_eq_true rfl) ?_
  intro p e s m below meth c D dA H0 mc ms ls cx hnm e1 e2 hS hl
  have hth := jTh.mk hS hth
  exact wX2_cut_0 cx e1 e2 a0 hth  _ _ _ _ _ _ hf hS hl
def fX2_word_35 (N : Nat) (x1 : Int64) : jM Int64 := jR x1
def fX2_word_4 (N : Nat) : Nat → Option Nat → Int64 → Int32 → jM Int64
  | 0, _, _, _ => jE
  | n + 1, x0, x1, x3 => jB (jrc 33 x0) fun b2 => jB (fJ5_length b2) fun y1 => if y1 ≤ x3 then (fX2_word_35 N x1) else (jB (jrc 33 x0) fun b4 => jB (fJ5_charAt b4 x3) fun y3 => fX2_word_4 N n x0 (((27 * x1) + (y3.toInt64)) - 96) (x3 + 1))
def fX2_word (N : Nat) (x0 : Option Nat) : jM Int64 := fX2_word_4 N N x0 0 0
theorem wX2_word_35 {N : Nat} {r : Int64} (cx : jCx p s m args meth c cX2_word "WornSkin$Reader" 4 (Option.some Jvm.ClassFile.FieldType.long) D dA H0 hs.2.2.2.2) (e1 : h'.2.2.1 = hs.2.2.1 + mc) (e2 : h'.2.2.2.1 = hs.2.2.2.1 + ms) : ∀ (x1 : Int64), ∀ (h : jH) (H : Heap) (locs : List Loc) (cells slots : Nat) (ls : Array Slot), (fX2_word_35 N x1).1 h = some (r, h') → jS D dA H0 hs h H locs cells slots → lv_has ls 4 [(1, .long x1)] → W p l e { frames := 4, cells := mc, slots := ms, locals := 85 } s m args below meth c H locs cells slots (jQ D dA H0 below s (.returned (some (.long r))) h' mc ms) (F0 m 35 ls []) := by
  have hx := cx.1
  have hb := cx.2.1
  have hown := cx.2.2.2.1
  have hts := cx.2.2.2.2.1
  have hm : h'.2.2.1 ≤ hs.2.2.1 + mc ∧ h'.2.2.2.1 ≤ hs.2.2.2.1 + ms := ⟨Nat.le_of_eq e1, Nat.le_of_eq e2⟩
  intro x1 h H locs cells slots ls hf hS hl
  unfold fX2_word_35 at hf
  refine lv_lload_n (pc := 35) hx hb dX2_word_35 rfl (lv_at hl 0 rfl) ?_
  exact j_lret (pc := 36) cx hS hf e1 e2 dX2_word_36
theorem wX2_word_4 {N : Nat} {r : Int64} (cx : jCx p s m args meth c cX2_word "WornSkin$Reader" 4 (Option.some Jvm.ClassFile.FieldType.long) D dA H0 hs.2.2.2.2) (e1 : h'.2.2.1 = hs.2.2.1 + mc) (e2 : h'.2.2.2.1 = hs.2.2.2.1 + ms) : ∀ (n : Nat) (x0 : Option Nat) (x1 : Int64) (x3 : Int32), ∀ (h : jH) (H : Heap) (locs : List Loc) (cells slots : Nat) (ls : Array Slot), (fX2_word_4 N n x0 x1 x3).1 h = some (r, h') → jS D dA H0 hs h H locs cells slots → lv_has ls 4 [(0, va_rf x0), (1, .long x1), (3, .int x3)] → W p l e { frames := 4, cells := mc, slots := ms, locals := 85 } s m args below meth c H locs cells slots (jQ D dA H0 below s (.returned (some (.long r))) h' mc ms) (F0 m 4 ls []) := by
  have hx := cx.1
  have hb := cx.2.1
  have hown := cx.2.2.2.1
  have hts := cx.2.2.2.2.1
  have hm : h'.2.2.1 ≤ hs.2.2.1 + mc ∧ h'.2.2.2.1 ≤ hs.2.2.2.1 + ms := ⟨Nat.le_of_eq e1, Nat.le_of_eq e2⟩
  intro n
  induction n with
  | zero =>
    intro x0 x1 x3 h H locs cells slots ls hf hS hl
    exact jE_f hf
  | succ n ih =>
    intro x0 x1 x3 h H locs cells slots ls hf hS hl
    unfold fX2_word_4 at hf
    refine lv_iload_n (pc := 4) hx hb dX2_word_4 rfl (lv_at hl 2 rfl) ?_
    refine j_aload_n (pc := 5) (r := x0) hx hb dX2_word_5 rfl (lv_at hl 0 rfl) ?_
    obtain ⟨b2, eb, hrc, hf⟩ := jrc_s hf
    refine j_nn (pc := 6) eb [] [.int x3] rfl ?_
    obtain ⟨y1, h1, e9, hf⟩ := jB_some hf
    refine j_callV (pc := 6) (st1 := [.int y1, .int x3]) (As := []) (rest := [.int x3]) cx hS rfl hl.1 hm (metJ5_length l _ _ _ _ hrc e9) (jle hf) hrc rfl (lw_V q589 q509 q510 q124 q511) pdJ5_length rfl rfl (Nat.le_of_ble_eq_true rfl) ⟨Nat.le_of_ble_eq_true rfl, Nat.le_of_ble_eq_true rfl⟩ dX2_word_6 rfl (fun H locs cells slots hS => ?_)
    refine lv_icmp_ge (pc := 9) (tgt := 35) hx hb dX2_word_9 (by decide) (fun hc => ?_) (fun hc => ?_)
    · have hf := jI_t hf hc
      exact wX2_word_35 cx e1 e2 _ _ _ _ _ _ _ hf hS (lv_sub hl [1] rfl)
    · have hf := jI_f hf hc
      refine lv_ldc2 (pc := 12) (v := 27) hx hb hown (hts _ q486) dX2_word_12 ?_
      refine lv_lload_n (pc := 15) hx hb dX2_word_15 rfl (lv_at hl 1 rfl) ?_
      refine lv_lmul (pc := 16) hx hb dX2_word_16 ?_
      refine j_aload_n (pc := 17) (r := x0) hx hb dX2_word_17 rfl (lv_at hl 0 rfl) ?_
      refine lv_iload_n (pc := 18) hx hb dX2_word_18 rfl (lv_at hl 2 rfl) ?_
      obtain ⟨b4, eb, hrc, hf⟩ := jrc_s hf
      refine j_nn (pc := 19) eb [.int x3] [.long (27 * x1)] rfl ?_
      obtain ⟨y3, h1, e9, hf⟩ := jB_some hf
      refine j_callV (pc := 19) (st1 := [.int y3, .long (27 * x1)]) (As := [.int x3]) (rest := [.long (27 * x1)]) cx hS rfl hl.1 hm (metJ5_charAt l _ _ _ _ _ hrc e9) (jle hf) hrc rfl (lw_V q590 q591 q592 q124 q593) pdJ5_charAt rfl rfl (Nat.le_of_ble_eq_true rfl) ⟨Nat.le_of_ble_eq_true rfl, Nat.le_of_ble_eq_true rfl⟩ dX2_word_19 rfl (fun H locs cells slots hS => ?_)
      refine lv_i2l (pc := 22) (v := y3.toInt64) hx hb dX2_word_22 rfl ?_
      refine lv_ladd (pc := 23) hx hb dX2_word_23 ?_
      refine lv_ldc2 (pc := 24) (v := 96) hx hb hown (hts _ q487) dX2_word_24 ?_
      refine lv_lsub (pc := 27) hx hb dX2_word_27 ?_
      refine lv_lstore_n (pc := 28) (i := 1) (lv' := [(1, .long (((27 * x1) + (y3.toInt64)) - 96)), (0, va_rf x0), (3, .int x3)]) hx hb dX2_word_28 rfl hl (Nat.le_of_ble_eq_true rfl) (by cases x0 <;> rfl) (fun ls hl => ?_)
      refine lv_iinc (pc := 29) (v := (x3 + 1)) (lv' := [(3, .int (x3 + 1)), (1, .long (((27 * x1) + (y3.toInt64)) - 96)), (0, va_rf x0)]) hx hb dX2_word_29 hl (k := 2) rfl rfl (Nat.le_of_ble_eq_true rfl) rfl (fun ls hl => ?_)
      refine lv_goto (pc := 32) (tgt := 4) hx hb dX2_word_32 (by decide) ?_
      exact ih _ _ _ _ _ _ _ _ _ hf hS (lv_sub hl [2, 1, 0] rfl)
theorem wX2_word_0 {N : Nat} {r : Int64} (cx : jCx p s m args meth c cX2_word "WornSkin$Reader" 4 (Option.some Jvm.ClassFile.FieldType.long) D dA H0 hs.2.2.2.2) (e1 : h'.2.2.1 = hs.2.2.1 + mc) (e2 : h'.2.2.2.1 = hs.2.2.2.1 + ms) : ∀ (x0 : Option Nat), ∀ (h : jH) (H : Heap) (locs : List Loc) (cells slots : Nat) (ls : Array Slot), (fX2_word N x0).1 h = some (r, h') → jS D dA H0 hs h H locs cells slots → lv_has ls 4 [(0, va_rf x0)] → W p l e { frames := 4, cells := mc, slots := ms, locals := 85 } s m args below meth c H locs cells slots (jQ D dA H0 below s (.returned (some (.long r))) h' mc ms) (F0 m 0 ls []) := by
  have hx := cx.1
  have hb := cx.2.1
  have hown := cx.2.2.2.1
  have hts := cx.2.2.2.2.1
  have hm : h'.2.2.1 ≤ hs.2.2.1 + mc ∧ h'.2.2.2.1 ≤ hs.2.2.2.1 + ms := ⟨Nat.le_of_eq e1, Nat.le_of_eq e2⟩
  intro x0 h H locs cells slots ls hf hS hl
  unfold fX2_word at hf
  refine lv_lconst (pc := 0) (v := 0) hx hb dX2_word_0 rfl ?_
  refine lv_lstore_n (pc := 1) (i := 1) (lv' := [(1, .long 0), (0, va_rf x0)]) hx hb dX2_word_1 rfl hl (Nat.le_of_ble_eq_true rfl) (by cases x0 <;> rfl) (fun ls hl => ?_)
  refine lv_iconst (pc := 2) (v := 0) hx hb dX2_word_2 rfl ?_
  refine lv_istore_n (pc := 3) (i := 3) (lv' := [(3, .int 0), (1, .long 0), (0, va_rf x0)]) hx hb dX2_word_3 rfl hl (Nat.le_of_ble_eq_true rfl) rfl (fun ls hl => ?_)
  exact wX2_word_4 cx e1 e2 N _ _ _ _ _ _ _ _ _ hf hS (lv_sub hl [2, 1, 0] rfl)
theorem metX2_word (l : Launch) (N : Nat) (x0 : Option Nat) (h h' : jH) (r : Int64) (hf : (fX2_word N x0).1 h = some (r, h')) : jMet l yX2_word (ws_ yX2_word cX2_word 4 (Option.some Jvm.ClassFile.FieldType.long)) (4) (85) [va_rf x0] h h' (.returned (some (.long r))) := by
  refine jStart rfl (jle hf) (by cases x0 <;> exact Nat.le_of_ble_eq_true rfl) ?_
  intro p e s m below meth c D dA H0 mc ms ls cx hnm e1 e2 hS hl
  have hl : lv_has ls 4 [(0, va_rf x0)] := by cases x0 <;> exact hl
  exact wX2_word_0 cx e1 e2 _ _ _ _ _ _ _ hf hS hl
def fX2_isWord_35 (N : Nat) (a0 : Nat) (v0 : Int32) : jM Int32 := jRn .boolean v0
def fX2_isWord_34 (N : Nat) (a0 : Nat) : jM Int32 := fX2_isWord_35 N a0 0
def fX2_isWord (N : Nat) (a0 : Nat) (x1 : Option Nat) : jM Int32 := jB (jgR [1] 8 (some a0)) fun y1 => jB (jgI [1] 11 (some a0)) fun y2 => jB (jaI 0 y1 y2) fun y3 => if y3 = 1 then (jB (jgR [1] 9 (some a0)) fun y4 => jB (jgI [1] 11 (some a0)) fun y5 => jB (jaL 1 y4 y5) fun y6 => jB (fX2_word N x1) fun y7 => if (lg_cmp y6 y7) = 0 then (fX2_isWord_35 N a0 1) else (fX2_isWord_34 N a0)) else (fX2_isWord_34 N a0)
theorem wX2_isWord_35 {N : Nat} {r : Int32} (cx : jCx p s m args meth c cX2_isWord "WornSkin$Reader" 2 (Option.some Jvm.ClassFile.FieldType.boolean) D dA H0 hs.2.2.2.2) (e1 : h'.2.2.1 = hs.2.2.1 + mc) (e2 : h'.2.2.2.1 = hs.2.2.2.1 + ms) (a0 : Nat) (hth : jTh hs a0 1) : ∀ (v0 : Int32), ∀ (h : jH) (H : Heap) (locs : List Loc) (cells slots : Nat) (ls : Array Slot), (fX2_isWord_35 N a0 v0).1 h = some (r, h') → jS D dA H0 hs h H locs cells slots → lv_has ls 2 [(0, .ref a0)] → W p l e { frames := 5, cells := mc, slots := ms, locals := 108 } s m args below meth c H locs cells slots (jQ D dA H0 below s (.returned (some (.int r))) h' mc ms) (F0 m 35 ls [.int v0]) := by
  have hx := cx.1
  have hb := cx.2.1
  have hown := cx.2.2.2.1
  have hts := cx.2.2.2.2.1
  have hm : h'.2.2.1 ≤ hs.2.2.1 + mc ∧ h'.2.2.2.1 ≤ hs.2.2.2.1 + ms := ⟨Nat.le_of_eq e1, Nat.le_of_eq e2⟩
  intro v0 h H locs cells slots ls hf hS hl
  unfold fX2_isWord_35 at hf
  exact j_zret (pc := 35) cx (Or.inl rfl) hS hf e1 e2 dX2_isWord_35
theorem wX2_isWord_34 {N : Nat} {r : Int32} (cx : jCx p s m args meth c cX2_isWord "WornSkin$Reader" 2 (Option.some Jvm.ClassFile.FieldType.boolean) D dA H0 hs.2.2.2.2) (e1 : h'.2.2.1 = hs.2.2.1 + mc) (e2 : h'.2.2.2.1 = hs.2.2.2.1 + ms) (a0 : Nat) (hth : jTh hs a0 1) : ∀ (h : jH) (H : Heap) (locs : List Loc) (cells slots : Nat) (ls : Array Slot), (fX2_isWord_34 N a0).1 h = some (r, h') → jS D dA H0 hs h H locs cells slots → lv_has ls 2 [(0, .ref a0)] → W p l e { frames := 5, cells := mc, slots := ms, locals := 108 } s m args below meth c H locs cells slots (jQ D dA H0 below s (.returned (some (.int r))) h' mc ms) (F0 m 34 ls []) := by
  have hx := cx.1
  have hb := cx.2.1
  have hown := cx.2.2.2.1
  have hts := cx.2.2.2.2.1
  have hm : h'.2.2.1 ≤ hs.2.2.1 + mc ∧ h'.2.2.2.1 ≤ hs.2.2.2.1 + ms := ⟨Nat.le_of_eq e1, Nat.le_of_eq e2⟩
  intro h H locs cells slots ls hf hS hl
  unfold fX2_isWord_34 at hf
  refine lv_iconst (pc := 34) (v := 0) hx hb dX2_isWord_34 rfl ?_
  exact wX2_isWord_35 cx e1 e2 a0 hth _ _ _ _ _ _ _ hf hS hl
theorem wX2_isWord_0 {N : Nat} {r : Int32} (cx : jCx p s m args meth c cX2_isWord "WornSkin$Reader" 2 (Option.some Jvm.ClassFile.FieldType.boolean) D dA H0 hs.2.2.2.2) (e1 : h'.2.2.1 = hs.2.2.1 + mc) (e2 : h'.2.2.2.1 = hs.2.2.2.1 + ms) (a0 : Nat) (hth : jTh hs a0 1) : ∀ (x1 : Option Nat), ∀ (h : jH) (H : Heap) (locs : List Loc) (cells slots : Nat) (ls : Array Slot), (fX2_isWord N a0 x1).1 h = some (r, h') → jS D dA H0 hs h H locs cells slots → lv_has ls 2 [(0, .ref a0), (1, va_rf x1)] → W p l e { frames := 5, cells := mc, slots := ms, locals := 108 } s m args below meth c H locs cells slots (jQ D dA H0 below s (.returned (some (.int r))) h' mc ms) (F0 m 0 ls []) := by
  have hx := cx.1
  have hb := cx.2.1
  have hown := cx.2.2.2.1
  have hts := cx.2.2.2.2.1
  have hm : h'.2.2.1 ≤ hs.2.2.1 + mc ∧ h'.2.2.2.1 ≤ hs.2.2.2.1 + ms := ⟨Nat.le_of_eq e1, Nat.le_of_eq e2⟩
  intro x1 h H locs cells slots ls hf hS hl
  unfold fX2_isWord at hf
  refine lv_aload_n (pc := 0) hx hb dX2_isWord_0 rfl (lv_at hl 0 rfl) ?_
  refine j_gR (pc := 1) cx hS hf fd_WornSkin_Reader_sort q214 dX2_isWord_1 (fun y1 hf => ?_)
  refine lv_aload_n (pc := 4) hx hb dX2_isWord_4 rfl (lv_at hl 0 rfl) ?_
  refine j_gI (pc := 5) cx hS hf fd_WornSkin_Reader_at q217 dX2_isWord_5 (fun y2 hf => ?_)
  refine j_aI (pc := 8) cx hS hf rfl dX2_isWord_8 (fun y3 hf => ?_)
  refine lv_iconst (pc := 9) (v := 1) hx hb dX2_isWord_9 rfl ?_
  refine lv_icmp_ne (pc := 10) (tgt := 34) hx hb dX2_isWord_10 (by decide) (fun hc => ?_) (fun hc => ?_)
  · have hf := jI_f hf hc
    exact wX2_isWord_34 cx e1 e2 a0 hth _ _ _ _ _ _ hf hS (lv_sub hl [0] rfl)
  · have hf := jI_t hf hc
    refine lv_aload_n (pc := 13) hx hb dX2_isWord_13 rfl (lv_at hl 0 rfl) ?_
    refine j_gR (pc := 14) cx hS hf fd_WornSkin_Reader_value q215 dX2_isWord_14 (fun y4 hf => ?_)
    refine lv_aload_n (pc := 17) hx hb dX2_isWord_17 rfl (lv_at hl 0 rfl) ?_
    refine j_gI (pc := 18) cx hS hf fd_WornSkin_Reader_at q217 dX2_isWord_18 (fun y5 hf => ?_)
    refine j_aL (pc := 21) cx hS hf rfl dX2_isWord_21 (fun y6 hf => ?_)
    refine j_aload_n (pc := 22) (r := x1) hx hb dX2_isWord_22 rfl (lv_at hl 1 rfl) ?_
    obtain ⟨y7, h1, e9, hf⟩ := jB_some hf
    refine j_callS (pc := 23) (st1 := [.long y7, .long y6]) (As := [va_rf x1]) (rest := [.long y6]) cx hS rfl hl.1 hm (metX2_word l _ _ _ _ _ e9) (jle hf) (lw_S q586 q587 q113 q588) pdX2_word rfl rfl (Nat.le_of_ble_eq_true rfl) ⟨Nat.le_of_ble_eq_true rfl, Nat.le_of_ble_eq_true rfl⟩ dX2_isWord_23 rfl (fun H locs cells slots hS => ?_)
    refine W.lcmp (pc := 26) hx hb dX2_isWord_26 ?_
    refine lv_if_ne (pc := 27) (tgt := 34) hx hb dX2_isWord_27 (by decide) (fun hc => ?_) (fun hc => ?_)
    · have hf := jI_f hf hc
      exact wX2_isWord_34 cx e1 e2 a0 hth _ _ _ _ _ _ hf hS (lv_sub hl [0] rfl)
    · have hf := jI_t hf hc
      refine lv_iconst (pc := 30) (v := 1) hx hb dX2_isWord_30 rfl ?_
      refine lv_goto (pc := 31) (tgt := 35) hx hb dX2_isWord_31 (by decide) ?_
      exact wX2_isWord_35 cx e1 e2 a0 hth _ _ _ _ _ _ _ hf hS (lv_sub hl [0] rfl)
theorem metX2_isWord (l : Launch) (N : Nat) (a0 : Nat) (x1 : Option Nat) (h h' : jH) (r : Int32) (hth : jcd h a0 = some 1) (hf : (fX2_isWord N a0 x1).1 h = some (r, h')) : jMet l yX2_isWord (ws_ yX2_isWord cX2_isWord 2 (Option.some Jvm.ClassFile.FieldType.boolean)) (5) (108) [.ref a0, va_rf x1] h h' (.returned (some (.int r))) := by
  refine jStart rfl (jle hf) (by cases x1 <;> exact Nat.le_of_ble_eq_true rfl) ?_
  intro p e s m below meth c D dA H0 mc ms ls cx hnm e1 e2 hS hl
  have hl : lv_has ls 2 [(0, .ref a0), (1, va_rf x1)] := by cases x1 <;> exact hl
  have hth := jTh.mk hS hth
  exact wX2_isWord_0 cx e1 e2 a0 hth _ _ _ _ _ _ _ hf hS hl
def fX2_wrong (a0 : Nat) (x1 : Int32) : jM (Option Nat) := jB (jnw 9 7 [.null, .null, .null, .null, .null, .int 0, .int 0]) fun q1 => jB (jgR [1] 10 (some a0)) fun y2 => jB (jgI [1] 11 (some a0)) fun y3 => jB (jaI 0 y2 y3) fun y4 => jB (fX8_init q1 (x1 + (16 * y4))) fun _ => jR (some q1)
theorem wX2_wrong_0 {r : Option Nat} (cx : jCx p s m args meth c cX2_wrong "WornSkin$Reader" 2 (Option.some (Jvm.ClassFile.FieldType.object "WornSkin$Wrong")) D dA H0 hs.2.2.2.2) (e1 : h'.2.2.1 = hs.2.2.1 + mc) (e2 : h'.2.2.2.1 = hs.2.2.2.1 + ms) (hfl : l.stackTraces = false) (a0 : Nat) (hth : jTh hs a0 1) : ∀ (x1 : Int32), ∀ (h : jH) (H : Heap) (locs : List Loc) (cells slots : Nat) (ls : Array Slot), (fX2_wrong a0 x1).1 h = some (r, h') → jS D dA H0 hs h H locs cells slots → lv_has ls 2 [(0, .ref a0), (1, .int x1)] → W p l e { frames := 5, cells := mc, slots := ms, locals := 83 } s m args below meth c H locs cells slots (jQ D dA H0 below s (.returned (some (va_rf r))) h' mc ms) (F0 m 0 ls []) := by
  have hx := cx.1
  have hb := cx.2.1
  have hown := cx.2.2.2.1
  have hts := cx.2.2.2.2.1
  have hm : h'.2.2.1 ≤ hs.2.2.1 + mc ∧ h'.2.2.2.1 ≤ hs.2.2.2.1 + ms := ⟨Nat.le_of_eq e1, Nat.le_of_eq e2⟩
  intro x1 h H locs cells slots ls hf hS hl
  unfold fX2_wrong at hf
  refine j_new (pc := 0) cx hS hf cn_X8 q621 dX2_wrong_0 hm (fun q1 h H cells slots hf hS => ?_)
  refine lv_dup (pc := 3) hx hb dX2_wrong_3 rfl ?_
  refine lv_iload_n (pc := 4) hx hb dX2_wrong_4 rfl (lv_at hl 1 rfl) ?_
  refine lv_bipush (pc := 5) (v := 16) hx hb dX2_wrong_5 rfl ?_
  refine lv_aload_n (pc := 7) hx hb dX2_wrong_7 rfl (lv_at hl 0 rfl) ?_
  refine j_gR (pc := 8) cx hS hf fd_WornSkin_Reader_place q216 dX2_wrong_8 (fun y2 hf => ?_)
  refine lv_aload_n (pc := 11) hx hb dX2_wrong_11 rfl (lv_at hl 0 rfl) ?_
  refine j_gI (pc := 12) cx hS hf fd_WornSkin_Reader_at q217 dX2_wrong_12 (fun y3 hf => ?_)
  refine j_aI (pc := 15) cx hS hf rfl dX2_wrong_15 (fun y4 hf => ?_)
  refine lv_imul (pc := 16) hx hb dX2_wrong_16 ?_
  refine lv_iadd (pc := 17) hx hb dX2_wrong_17 ?_
  obtain ⟨_, h1, e9, hf⟩ := jB_some hf
  refine j_callI (pc := 18) (st1 := [.ref q1]) (As := [.int (x1 + (16 * y4))]) (rest := [.ref q1]) cx hS rfl hl.1 hm (metX8_init l hfl _ _ _ _ _ e9) (jle hf) rfl q661 q660 q659 q131 pdX8_init rfl rfl (Nat.le_of_ble_eq_true rfl) ⟨Nat.le_of_ble_eq_true rfl, Nat.le_of_ble_eq_true rfl⟩ dX2_wrong_18 rfl (fun H locs cells slots hS => ?_)
  exact j_aret (pc := 21) cx hS hf (Or.inl ⟨_, rfl⟩) e1 e2 dX2_wrong_21
theorem metX2_wrong (l : Launch) (hfl : l.stackTraces = false) (a0 : Nat) (x1 : Int32) (h h' : jH) (r : Option Nat) (hth : jcd h a0 = some 1) (hf : (fX2_wrong a0 x1).1 h = some (r, h')) : jMet l yX2_wrong (ws_ yX2_wrong cX2_wrong 2 (Option.some (Jvm.ClassFile.FieldType.object "WornSkin$Wrong"))) (5) (83) [.ref a0, .int x1] h h' (.returned (some (va_rf r))) := by
  refine jStart rfl (jle hf) (Nat.le_of_ble_eq_true rfl) ?_
  intro p e s m below meth c D dA H0 mc ms ls cx hnm e1 e2 hS hl
  have hth := jTh.mk hS hth
  exact wX2_wrong_0 cx e1 e2 hfl a0 hth _ _ _ _ _ _ _ hf hS hl
def fX2_which_26 (N : Nat) (a0 : Nat) : jM Int32 := jR (-1)
def fX2_which_18 (N : Nat) (a0 : Nat) (x2 : Int32) : jM Int32 := jR x2
def fX2_which_2 (N : Nat) (a0 : Nat) : Nat → Option Nat → Int32 → jM Int32
  | 0, _, _ => jE
  | n + 1, x1, x2 => jB (jln x1) fun y1 => if y1 ≤ x2 then (fX2_which_26 N a0) else (jB (jaR 5 x1 x2) fun y2 => jB (fX2_isWord N a0 y2) fun y3 => if y3 = 0 then (fX2_which_2 N a0 n x1 (x2 + 1)) else (fX2_which_18 N a0 x2))
def fX2_which (N : Nat) (a0 : Nat) (x1 : Option Nat) : jM Int32 := fX2_which_2 N a0 N x1 0
theorem wX2_which_26 {N : Nat} {r : Int32} (cx : jCx p s m args meth c cX2_which "WornSkin$Reader" 3 (Option.some Jvm.ClassFile.FieldType.int) D dA H0 hs.2.2.2.2) (e1 : h'.2.2.1 = hs.2.2.1 + mc) (e2 : h'.2.2.2.1 = hs.2.2.2.1 + ms) (a0 : Nat) (hth : jTh hs a0 1) : ∀ (h : jH) (H : Heap) (locs : List Loc) (cells slots : Nat) (ls : Array Slot), (fX2_which_26 N a0).1 h = some (r, h') → jS D dA H0 hs h H locs cells slots → lv_has ls 3 [(0, .ref a0)] → W p l e { frames := 6, cells := mc, slots := ms, locals := 129 } s m args below meth c H locs cells slots (jQ D dA H0 below s (.returned (some (.int r))) h' mc ms) (F0 m 26 ls []) := by
  have hx := cx.1
  have hb := cx.2.1
  have hown := cx.2.2.2.1
  have hts := cx.2.2.2.2.1
  have hm : h'.2.2.1 ≤ hs.2.2.1 + mc ∧ h'.2.2.2.1 ≤ hs.2.2.2.1 + ms := ⟨Nat.le_of_eq e1, Nat.le_of_eq e2⟩
  intro h H locs cells slots ls hf hS hl
  unfold fX2_which_26 at hf
  refine lv_iconst (pc := 26) (v := (-1)) hx hb dX2_which_26 rfl ?_
  exact j_iret (pc := 27) cx hS hf e1 e2 dX2_which_27
theorem wX2_which_18 {N : Nat} {r : Int32} (cx : jCx p s m args meth c cX2_which "WornSkin$Reader" 3 (Option.some Jvm.ClassFile.FieldType.int) D dA H0 hs.2.2.2.2) (e1 : h'.2.2.1 = hs.2.2.1 + mc) (e2 : h'.2.2.2.1 = hs.2.2.2.1 + ms) (a0 : Nat) (hth : jTh hs a0 1) : ∀ (x2 : Int32), ∀ (h : jH) (H : Heap) (locs : List Loc) (cells slots : Nat) (ls : Array Slot), (fX2_which_18 N a0 x2).1 h = some (r, h') → jS D dA H0 hs h H locs cells slots → lv_has ls 3 [(0, .ref a0), (2, .int x2)] → W p l e { frames := 6, cells := mc, slots := ms, locals := 129 } s m args below meth c H locs cells slots (jQ D dA H0 below s (.returned (some (.int r))) h' mc ms) (F0 m 18 ls []) := by
  have hx := cx.1
  have hb := cx.2.1
  have hown := cx.2.2.2.1
  have hts := cx.2.2.2.2.1
  have hm : h'.2.2.1 ≤ hs.2.2.1 + mc ∧ h'.2.2.2.1 ≤ hs.2.2.2.1 + ms := ⟨Nat.le_of_eq e1, Nat.le_of_eq e2⟩
  intro x2 h H locs cells slots ls hf hS hl
  unfold fX2_which_18 at hf
  refine lv_iload_n (pc := 18) hx hb dX2_which_18 rfl (lv_at hl 1 rfl) ?_
  exact j_iret (pc := 19) cx hS hf e1 e2 dX2_which_19
theorem wX2_which_2 {N : Nat} {r : Int32} (cx : jCx p s m args meth c cX2_which "WornSkin$Reader" 3 (Option.some Jvm.ClassFile.FieldType.int) D dA H0 hs.2.2.2.2) (e1 : h'.2.2.1 = hs.2.2.1 + mc) (e2 : h'.2.2.2.1 = hs.2.2.2.1 + ms) (a0 : Nat) (hth : jTh hs a0 1) : ∀ (n : Nat) (x1 : Option Nat) (x2 : Int32), ∀ (h : jH) (H : Heap) (locs : List Loc) (cells slots : Nat) (ls : Array Slot), (fX2_which_2 N a0 n x1 x2).1 h = some (r, h') → jS D dA H0 hs h H locs cells slots → lv_has ls 3 [(0, .ref a0), (1, va_rf x1), (2, .int x2)] → W p l e { frames := 6, cells := mc, slots := ms, locals := 129 } s m args below meth c H locs cells slots (jQ D dA H0 below s (.returned (some (.int r))) h' mc ms) (F0 m 2 ls []) := by
  have hx := cx.1
  have hb := cx.2.1
  have hown := cx.2.2.2.1
  have hts := cx.2.2.2.2.1
  have hm : h'.2.2.1 ≤ hs.2.2.1 + mc ∧ h'.2.2.2.1 ≤ hs.2.2.2.1 + ms := ⟨Nat.le_of_eq e1, Nat.le_of_eq e2⟩
  intro n
  induction n with
  | zero =>
    intro x1 x2 h H locs cells slots ls hf hS hl
    exact jE_f hf
  | succ n ih =>
    intro x1 x2 h H locs cells slots ls hf hS hl
    unfold fX2_which_2 at hf
    refine lv_iload_n (pc := 2) hx hb dX2_which_2 rfl (lv_at hl 2 rfl) ?_
    refine j_aload_n (pc := 3) (r := x1) hx hb dX2_which_3 rfl (lv_at hl 1 rfl) ?_
    refine j_ln (pc := 4) cx hS hf dX2_which_4 (fun y1 hf => ?_)
    refine lv_icmp_ge (pc := 5) (tgt := 26) hx hb dX2_which_5 (by decide) (fun hc => ?_) (fun hc => ?_)
    · have hf := jI_t hf hc
      exact wX2_which_26 cx e1 e2 a0 hth _ _ _ _ _ _ hf hS (lv_sub hl [0] rfl)
    · have hf := jI_f hf hc
      refine lv_aload_n (pc := 8) hx hb dX2_which_8 rfl (lv_at hl 0 rfl) ?_
      refine j_aload_n (pc := 9) (r := x1) hx hb dX2_which_9 rfl (lv_at hl 1 rfl) ?_
      refine lv_iload_n (pc := 10) hx hb dX2_which_10 rfl (lv_at hl 2 rfl) ?_
      refine j_aR (pc := 11) cx hS hf rfl dX2_which_11 (fun y2 hf => ?_)
      obtain ⟨y3, h1, e9, hf⟩ := jB_some hf
      refine j_callV (pc := 12) (st1 := [.int y3]) (As := [va_rf y2]) (rest := []) cx hS rfl hl.1 hm (metX2_isWord l _ _ _ _ _ _ (hth.at hS) e9) (jle hf) (hth.at hS) rfl (lw_V q582 q584 qs2 q113 q585) pdX2_isWord rfl rfl (Nat.le_of_ble_eq_true rfl) ⟨Nat.le_of_ble_eq_true rfl, Nat.le_of_ble_eq_true rfl⟩ dX2_which_12 rfl (fun H locs cells slots hS => ?_)
      refine lv_if_eq (pc := 15) (tgt := 20) hx hb dX2_which_15 (by decide) (fun hc => ?_) (fun hc => ?_)
      · have hf := jI_t hf hc
        refine lv_iinc (pc := 20) (v := (x2 + 1)) (lv' := [(2, .int (x2 + 1)), (0, .ref a0), (1, va_rf x1)]) hx hb dX2_which_20 hl (k := 2) rfl rfl (Nat.le_of_ble_eq_true rfl) (by cases x1 <;> rfl) (fun ls hl => ?_)
        refine lv_goto (pc := 23) (tgt := 2) hx hb dX2_which_23 (by decide) ?_
        exact ih _ _ _ _ _ _ _ _ hf hS (lv_sub hl [1, 2, 0] rfl)
      · have hf := jI_f hf hc
        exact wX2_which_18 cx e1 e2 a0 hth _ _ _ _ _ _ _ hf hS (lv_sub hl [0, 2] rfl)
theorem wX2_which_0 {N : Nat} {r : Int32} (cx : jCx p s m args meth c cX2_which "WornSkin$Reader" 3 (Option.some Jvm.ClassFile.FieldType.int) D dA H0 hs.2.2.2.2) (e1 : h'.2.2.1 = hs.2.2.1 + mc) (e2 : h'.2.2.2.1 = hs.2.2.2.1 + ms) (a0 : Nat) (hth : jTh hs a0 1) : ∀ (x1 : Option Nat), ∀ (h : jH) (H : Heap) (locs : List Loc) (cells slots : Nat) (ls : Array Slot), (fX2_which N a0 x1).1 h = some (r, h') → jS D dA H0 hs h H locs cells slots → lv_has ls 3 [(0, .ref a0), (1, va_rf x1)] → W p l e { frames := 6, cells := mc, slots := ms, locals := 129 } s m args below meth c H locs cells slots (jQ D dA H0 below s (.returned (some (.int r))) h' mc ms) (F0 m 0 ls []) := by
  have hx := cx.1
  have hb := cx.2.1
  have hown := cx.2.2.2.1
  have hts := cx.2.2.2.2.1
  have hm : h'.2.2.1 ≤ hs.2.2.1 + mc ∧ h'.2.2.2.1 ≤ hs.2.2.2.1 + ms := ⟨Nat.le_of_eq e1, Nat.le_of_eq e2⟩
  intro x1 h H locs cells slots ls hf hS hl
  unfold fX2_which at hf
  refine lv_iconst (pc := 0) (v := 0) hx hb dX2_which_0 rfl ?_
  refine lv_istore_n (pc := 1) (i := 2) (lv' := [(2, .int 0), (0, .ref a0), (1, va_rf x1)]) hx hb dX2_which_1 rfl hl (Nat.le_of_ble_eq_true rfl) (by cases x1 <;> rfl) (fun ls hl => ?_)
  exact wX2_which_2 cx e1 e2 a0 hth N _ _ _ _ _ _ _ _ hf hS (lv_sub hl [1, 2, 0] rfl)
theorem metX2_which (l : Launch) (N : Nat) (a0 : Nat) (x1 : Option Nat) (h h' : jH) (r : Int32) (hth : jcd h a0 = some 1) (hf : (fX2_which N a0 x1).1 h = some (r, h')) : jMet l yX2_which (ws_ yX2_which cX2_which 3 (Option.some Jvm.ClassFile.FieldType.int)) (6) (129) [.ref a0, va_rf x1] h h' (.returned (some (.int r))) := by
  refine jStart rfl (jle hf) (by cases x1 <;> exact Nat.le_of_ble_eq_true rfl) ?_
  intro p e s m below meth c D dA H0 mc ms ls cx hnm e1 e2 hS hl
  have hl : lv_has ls 3 [(0, .ref a0), (1, va_rf x1)] := by cases x1 <;> exact hl
  have hth := jTh.mk hS hth
  exact wX2_which_0 cx e1 e2 a0 hth _ _ _ _ _ _ _ hf hS hl
def fX2_isName_42 (N : Nat) (a0 : Nat) (v0 : Int32) : jM Int32 := jRn .boolean v0
def fX2_isName_41 (N : Nat) (a0 : Nat) : jM Int32 := fX2_isName_42 N a0 0
def fX2_isName (N : Nat) (a0 : Nat) : jM Int32 := jB (jgR [1] 8 (some a0)) fun y1 => jB (jgI [1] 11 (some a0)) fun y2 => jB (jaI 0 y1 y2) fun y3 => if y3 = 1 then (jB (jgR [1] 2 (some a0)) fun y4 => jB (fX2_which N a0 y4) fun y5 => if y5 = (-1) then (jB (jgR [1] 1 (some a0)) fun y6 => jB (fX2_which N a0 y6) fun y7 => if y7 = (-1) then (fX2_isName_42 N a0 1) else (fX2_isName_41 N a0)) else (fX2_isName_41 N a0)) else (fX2_isName_41 N a0)
theorem wX2_isName_42 {N : Nat} {r : Int32} (cx : jCx p s m args meth c cX2_isName "WornSkin$Reader" 1 (Option.some Jvm.ClassFile.FieldType.boolean) D dA H0 hs.2.2.2.2) (e1 : h'.2.2.1 = hs.2.2.1 + mc) (e2 : h'.2.2.2.1 = hs.2.2.2.1 + ms) (a0 : Nat) (hth : jTh hs a0 1) : ∀ (v0 : Int32), ∀ (h : jH) (H : Heap) (locs : List Loc) (cells slots : Nat) (ls : Array Slot), (fX2_isName_42 N a0 v0).1 h = some (r, h') → jS D dA H0 hs h H locs cells slots → lv_has ls 1 [(0, .ref a0)] → W p l e { frames := 7, cells := mc, slots := ms, locals := 151 } s m args below meth c H locs cells slots (jQ D dA H0 below s (.returned (some (.int r))) h' mc ms) (F0 m 42 ls [.int v0]) := by
  have hx := cx.1
  have hb := cx.2.1
  have hown := cx.2.2.2.1
  have hts := cx.2.2.2.2.1
  have hm : h'.2.2.1 ≤ hs.2.2.1 + mc ∧ h'.2.2.2.1 ≤ hs.2.2.2.1 + ms := ⟨Nat.le_of_eq e1, Nat.le_of_eq e2⟩
  intro v0 h H locs cells slots ls hf hS hl
  unfold fX2_isName_42 at hf
  exact j_zret (pc := 42) cx (Or.inl rfl) hS hf e1 e2 dX2_isName_42
theorem wX2_isName_41 {N : Nat} {r : Int32} (cx : jCx p s m args meth c cX2_isName "WornSkin$Reader" 1 (Option.some Jvm.ClassFile.FieldType.boolean) D dA H0 hs.2.2.2.2) (e1 : h'.2.2.1 = hs.2.2.1 + mc) (e2 : h'.2.2.2.1 = hs.2.2.2.1 + ms) (a0 : Nat) (hth : jTh hs a0 1) : ∀ (h : jH) (H : Heap) (locs : List Loc) (cells slots : Nat) (ls : Array Slot), (fX2_isName_41 N a0).1 h = some (r, h') → jS D dA H0 hs h H locs cells slots → lv_has ls 1 [(0, .ref a0)] → W p l e { frames := 7, cells := mc, slots := ms, locals := 151 } s m args below meth c H locs cells slots (jQ D dA H0 below s (.returned (some (.int r))) h' mc ms) (F0 m 41 ls []) := by
  have hx := cx.1
  have hb := cx.2.1
  have hown := cx.2.2.2.1
  have hts := cx.2.2.2.2.1
  have hm : h'.2.2.1 ≤ hs.2.2.1 + mc ∧ h'.2.2.2.1 ≤ hs.2.2.2.1 + ms := ⟨Nat.le_of_eq e1, Nat.le_of_eq e2⟩
  intro h H locs cells slots ls hf hS hl
  unfold fX2_isName_41 at hf
  refine lv_iconst (pc := 41) (v := 0) hx hb dX2_isName_41 rfl ?_
  exact wX2_isName_42 cx e1 e2 a0 hth _ _ _ _ _ _ _ hf hS hl
theorem wX2_isName_0 {N : Nat} {r : Int32} (cx : jCx p s m args meth c cX2_isName "WornSkin$Reader" 1 (Option.some Jvm.ClassFile.FieldType.boolean) D dA H0 hs.2.2.2.2) (e1 : h'.2.2.1 = hs.2.2.1 + mc) (e2 : h'.2.2.2.1 = hs.2.2.2.1 + ms) (a0 : Nat) (hth : jTh hs a0 1) : ∀ (h : jH) (H : Heap) (locs : List Loc) (cells slots : Nat) (ls : Array Slot), (fX2_isName N a0).1 h = some (r, h') → jS D dA H0 hs h H locs cells slots → lv_has ls 1 [(0, .ref a0)] → W p l e { frames := 7, cells := mc, slots := ms, locals := 151 } s m args below meth c H locs cells slots (jQ D dA H0 below s (.returned (some (.int r))) h' mc ms) (F0 m 0 ls []) := by
  have hx := cx.1
  have hb := cx.2.1
  have hown := cx.2.2.2.1
  have hts := cx.2.2.2.2.1
  have hm : h'.2.2.1 ≤ hs.2.2.1 + mc ∧ h'.2.2.2.1 ≤ hs.2.2.2.1 + ms := ⟨Nat.le_of_eq e1, Nat.le_of_eq e2⟩
  intro h H locs cells slots ls hf hS hl
  unfold fX2_isName at hf
  refine lv_aload_n (pc := 0) hx hb dX2_isName_0 rfl (lv_at hl 0 rfl) ?_
  refine j_gR (pc := 1) cx hS hf fd_WornSkin_Reader_sort q214 dX2_isName_1 (fun y1 hf => ?_)
  refine lv_aload_n (pc := 4) hx hb dX2_isName_4 rfl (lv_at hl 0 rfl) ?_
  refine j_gI (pc := 5) cx hS hf fd_WornSkin_Reader_at q217 dX2_isName_5 (fun y2 hf => ?_)
  refine j_aI (pc := 8) cx hS hf rfl dX2_isName_8 (fun y3 hf => ?_)
  refine lv_iconst (pc := 9) (v := 1) hx hb dX2_isName_9 rfl ?_
  refine lv_icmp_ne (pc := 10) (tgt := 41) hx hb dX2_isName_10 (by decide) (fun hc => ?_) (fun hc => ?_)
  · have hf := jI_f hf hc
    exact wX2_isName_41 cx e1 e2 a0 hth _ _ _ _ _ _ hf hS hl
  · have hf := jI_t hf hc
    refine lv_aload_n (pc := 13) hx hb dX2_isName_13 rfl (lv_at hl 0 rfl) ?_
    refine lv_aload_n (pc := 14) hx hb dX2_isName_14 rfl (lv_at hl 0 rfl) ?_
    refine j_gR (pc := 15) cx hS hf fd_WornSkin_Reader_kept q207 dX2_isName_15 (fun y4 hf => ?_)
    obtain ⟨y5, h1, e9, hf⟩ := jB_some hf
    refine j_callV (pc := 18) (st1 := [.int y5]) (As := [va_rf y4]) (rest := []) cx hS rfl hl.1 hm (metX2_which l _ _ _ _ _ _ (hth.at hS) e9) (jle hf) (hth.at hS) rfl (lw_V q686 q688 qs8 q113 q689) pdX2_which rfl rfl (Nat.le_of_ble_eq_true rfl) ⟨Nat.le_of_ble_eq_true rfl, Nat.le_of_ble_eq_true rfl⟩ dX2_isName_18 rfl (fun H locs cells slots hS => ?_)
    refine lv_iconst (pc := 21) (v := (-1)) hx hb dX2_isName_21 rfl ?_
    refine lv_icmp_ne (pc := 22) (tgt := 41) hx hb dX2_isName_22 (by decide) (fun hc => ?_) (fun hc => ?_)
    · have hf := jI_f hf hc
      exact wX2_isName_41 cx e1 e2 a0 hth _ _ _ _ _ _ hf hS hl
    · have hf := jI_t hf hc
      refine lv_aload_n (pc := 25) hx hb dX2_isName_25 rfl (lv_at hl 0 rfl) ?_
      refine lv_aload_n (pc := 26) hx hb dX2_isName_26 rfl (lv_at hl 0 rfl) ?_
      refine j_gR (pc := 27) cx hS hf fd_WornSkin_Reader_kinds q206 dX2_isName_27 (fun y6 hf => ?_)
      obtain ⟨y7, h1, e9, hf⟩ := jB_some hf
      refine j_callV (pc := 30) (st1 := [.int y7]) (As := [va_rf y6]) (rest := []) cx hS rfl hl.1 hm (metX2_which l _ _ _ _ _ _ (hth.at hS) e9) (jle hf) (hth.at hS) rfl (lw_V q686 q688 qs8 q113 q689) pdX2_which rfl rfl (Nat.le_of_ble_eq_true rfl) ⟨Nat.le_of_ble_eq_true rfl, Nat.le_of_ble_eq_true rfl⟩ dX2_isName_30 rfl (fun H locs cells slots hS => ?_)
      refine lv_iconst (pc := 33) (v := (-1)) hx hb dX2_isName_33 rfl ?_
      refine lv_icmp_ne (pc := 34) (tgt := 41) hx hb dX2_isName_34 (by decide) (fun hc => ?_) (fun hc => ?_)
      · have hf := jI_f hf hc
        exact wX2_isName_41 cx e1 e2 a0 hth _ _ _ _ _ _ hf hS hl
      · have hf := jI_t hf hc
        refine lv_iconst (pc := 37) (v := 1) hx hb dX2_isName_37 rfl ?_
        refine lv_goto (pc := 38) (tgt := 42) hx hb dX2_isName_38 (by decide) ?_
        exact wX2_isName_42 cx e1 e2 a0 hth _ _ _ _ _ _ _ hf hS hl
theorem metX2_isName (l : Launch) (N : Nat) (a0 : Nat) (h h' : jH) (r : Int32) (hth : jcd h a0 = some 1) (hf : (fX2_isName N a0).1 h = some (r, h')) : jMet l yX2_isName (ws_ yX2_isName cX2_isName 1 (Option.some Jvm.ClassFile.FieldType.boolean)) (7) (151) [.ref a0] h h' (.returned (some (.int r))) := by
  refine jStart rfl (jle hf) (Nat.le_of_ble_eq_true rfl) ?_
  intro p e s m below meth c D dA H0 mc ms ls cx hnm e1 e2 hS hl
  have hth := jTh.mk hS hth
  exact wX2_isName_0 cx e1 e2 a0 hth  _ _ _ _ _ _ hf hS hl
def fX2_newName (N : Nat) (a0 : Nat) (x1 : Int32) (x2 : Int32) : jM (Unit ⊕ Nat) := if x1 = 0 then (jB (jgI [1] 11 (some a0)) fun y1 => jB (jpI [1] 11 (some a0) (y1 + 1)) fun _ => jB (fX2_isName N a0) fun y2 => if y2 = 0 then (jB (fX2_wrong a0 1) fun y25 => jB (jnn0 y25) fun b26 => jR (.inr b26)) else (jB (jgR [1] 5 (some a0)) fun y3 => jB (jgR [1] 9 (some a0)) fun y4 => jB (jgI [1] 11 (some a0)) fun y5 => jB (jaL 1 y4 y5) fun y6 => jB (jrc 3 y3) fun b8 => jB (fX4_find N b8 y6) fun y7 => if y7 = (-1) then (jB (jgR [1] 5 (some a0)) fun y9 => jB (jgR [3] 0 y9) fun y10 => jB (jgR [1] 9 (some a0)) fun y11 => jB (jgI [1] 11 (some a0)) fun y12 => jB (jaL 1 y11 y12) fun y13 => jB (fJ13_valueOf y13) fun y14 => jB (jrc 4 y10) fun b16 => jB (fJ2_add b16 y14) fun y15 => jB (jgR [1] 5 (some a0)) fun y17 => jB (jgR [3] 1 y17) fun y18 => jB (fJ16_valueOf x2) fun y19 => jB (jrc 4 y18) fun b21 => jB (fJ2_add b21 y19) fun y20 => jB (jgI [1] 11 (some a0)) fun y22 => jB (jpI [1] 11 (some a0) (y22 + 1)) fun _ => jR (.inl ())) else (jB (fX2_wrong a0 3) fun y23 => jB (jnn0 y23) fun b24 => jR (.inr b24)))) else (jB (fX2_wrong a0 5) fun y27 => jB (jnn0 y27) fun b28 => jR (.inr b28))
theorem wX2_newName_0 {N : Nat} {r : Unit ⊕ Nat} (cx : jCx p s m args meth c cX2_newName "WornSkin$Reader" 3 (Option.none : Option Jvm.ClassFile.FieldType) D dA H0 hs.2.2.2.2) (e1 : h'.2.2.1 = hs.2.2.1 + mc) (e2 : h'.2.2.2.1 = hs.2.2.2.1 + ms) (hfl : l.stackTraces = false) (ht : c.exceptionTable.toList = []) (a0 : Nat) (hth : jTh hs a0 1) : ∀ (x1 : Int32) (x2 : Int32), ∀ (h : jH) (H : Heap) (locs : List Loc) (cells slots : Nat) (ls : Array Slot), (fX2_newName N a0 x1 x2).1 h = some (r, h') → jS D dA H0 hs h H locs cells slots → lv_has ls 3 [(0, .ref a0), (1, .int x1), (2, .int x2)] → W p l e { frames := 8, cells := mc, slots := ms, locals := 171 } s m args below meth c H locs cells slots (jQ D dA H0 below s (jOc (fun _ => none) r) h' mc ms) (F0 m 0 ls []) := by
  have hx := cx.1
  have hb := cx.2.1
  have hown := cx.2.2.2.1
  have hts := cx.2.2.2.2.1
  have hm : h'.2.2.1 ≤ hs.2.2.1 + mc ∧ h'.2.2.2.1 ≤ hs.2.2.2.1 + ms := ⟨Nat.le_of_eq e1, Nat.le_of_eq e2⟩
  intro x1 x2 h H locs cells slots ls hf hS hl
  unfold fX2_newName at hf
  refine lv_iload_n (pc := 0) hx hb dX2_newName_0 rfl (lv_at hl 1 rfl) ?_
  refine lv_if_eq (pc := 1) (tgt := 10) hx hb dX2_newName_1 (by decide) (fun hc => ?_) (fun hc => ?_)
  · have hf := jI_t hf hc
    refine lv_aload_n (pc := 10) hx hb dX2_newName_10 rfl (lv_at hl 0 rfl) ?_
    refine lv_dup (pc := 11) hx hb dX2_newName_11 rfl ?_
    refine j_gI (pc := 12) cx hS hf fd_WornSkin_Reader_at q217 dX2_newName_12 (fun y1 hf => ?_)
    refine lv_iconst (pc := 15) (v := 1) hx hb dX2_newName_15 rfl ?_
    refine lv_iadd (pc := 16) hx hb dX2_newName_16 ?_
    refine j_pI (pc := 17) cx hS hf fp_WornSkin_Reader_at (Or.inl rfl) q217 dX2_newName_17 (fun h H locs hf hS => ?_)
    refine lv_aload_n (pc := 20) hx hb dX2_newName_20 rfl (lv_at hl 0 rfl) ?_
    obtain ⟨y2, h1, e9, hf⟩ := jB_some hf
    refine j_callV (pc := 21) (st1 := [.int y2]) (As := []) (rest := []) cx hS rfl hl.1 hm (metX2_isName l _ _ _ _ _ (hth.at hS) e9) (jle hf) (hth.at hS) rfl (lw_V q682 q684 qs7 q113 q685) pdX2_isName rfl rfl (Nat.le_of_ble_eq_true rfl) ⟨Nat.le_of_ble_eq_true rfl, Nat.le_of_ble_eq_true rfl⟩ dX2_newName_21 rfl (fun H locs cells slots hS => ?_)
    refine lv_if_ne (pc := 24) (tgt := 33) hx hb dX2_newName_24 (by decide) (fun hc => ?_) (fun hc => ?_)
    · have hf := jI_f hf hc
      refine lv_aload_n (pc := 33) hx hb dX2_newName_33 rfl (lv_at hl 0 rfl) ?_
      refine j_gR (pc := 34) cx hS hf fd_WornSkin_Reader_draft q210 dX2_newName_34 (fun y3 hf => ?_)
      refine lv_aload_n (pc := 37) hx hb dX2_newName_37 rfl (lv_at hl 0 rfl) ?_
      refine j_gR (pc := 38) cx hS hf fd_WornSkin_Reader_value q215 dX2_newName_38 (fun y4 hf => ?_)
      refine lv_aload_n (pc := 41) hx hb dX2_newName_41 rfl (lv_at hl 0 rfl) ?_
      refine j_gI (pc := 42) cx hS hf fd_WornSkin_Reader_at q217 dX2_newName_42 (fun y5 hf => ?_)
      refine j_aL (pc := 45) cx hS hf rfl dX2_newName_45 (fun y6 hf => ?_)
      obtain ⟨b8, eb, hrc, hf⟩ := jrc_s hf
      refine j_nn (pc := 46) eb [.long y6] [] rfl ?_
      obtain ⟨y7, h1, e9, hf⟩ := jB_some hf
      refine j_callV (pc := 46) (st1 := [.int y7]) (As := [.long y6]) (rest := []) cx hS rfl hl.1 hm (metX4_find l _ _ _ _ _ _ hrc e9) (jle hf) hrc rfl (lw_V q690 q691 q692 q115 q693) pdX4_find rfl rfl (Nat.le_of_ble_eq_true rfl) ⟨Nat.le_of_ble_eq_true rfl, Nat.le_of_ble_eq_true rfl⟩ dX2_newName_46 rfl (fun H locs cells slots hS => ?_)
      refine lv_iconst (pc := 49) (v := (-1)) hx hb dX2_newName_49 rfl ?_
      refine lv_icmp_eq (pc := 50) (tgt := 59) hx hb dX2_newName_50 (by decide) (fun hc => ?_) (fun hc => ?_)
      · have hf := jI_t hf hc
        refine lv_aload_n (pc := 59) hx hb dX2_newName_59 rfl (lv_at hl 0 rfl) ?_
        refine j_gR (pc := 60) cx hS hf fd_WornSkin_Reader_draft q210 dX2_newName_60 (fun y9 hf => ?_)
        refine j_gR (pc := 63) cx hS hf fd_WornSkin_Library_names q329 dX2_newName_63 (fun y10 hf => ?_)
        refine lv_aload_n (pc := 66) hx hb dX2_newName_66 rfl (lv_at hl 0 rfl) ?_
        refine j_gR (pc := 67) cx hS hf fd_WornSkin_Reader_value q215 dX2_newName_67 (fun y11 hf => ?_)
        refine lv_aload_n (pc := 70) hx hb dX2_newName_70 rfl (lv_at hl 0 rfl) ?_
        refine j_gI (pc := 71) cx hS hf fd_WornSkin_Reader_at q217 dX2_newName_71 (fun y12 hf => ?_)
        refine j_aL (pc := 74) cx hS hf rfl dX2_newName_74 (fun y13 hf => ?_)
        obtain ⟨y14, h1, e9, hf⟩ := jB_some hf
        refine j_callS (pc := 75) (st1 := [va_rf y14, va_rf y10]) (As := [.long y13]) (rest := [va_rf y10]) cx hS rfl hl.1 hm (metJ13_valueOf l _ _ _ _ e9) (jle hf) (lw_S q706 q707 q133 q708) pdJ13_valueOf rfl rfl (by simp only [List.map_cons, List.map_nil, List.sum_cons, List.sum_nil, jrfc]; exact Nat.le_of_ble_eq_true rfl) ⟨Nat.le_of_ble_eq_true rfl, Nat.le_of_ble_eq_true rfl⟩ dX2_newName_75 rfl (fun H locs cells slots hS => ?_)
        obtain ⟨b16, eb, hrc, hf⟩ := jrc_s hf
        refine j_nn (pc := 78) eb [va_rf y14] [] rfl ?_
        obtain ⟨y15, h1, e9, hf⟩ := jB_some hf
        refine j_callV (pc := 78) (st1 := [.int y15]) (As := [va_rf y14]) (rest := []) cx hS rfl hl.1 hm (metJ2_add l _ _ _ _ _ hrc e9) (jle hf) hrc rfl (lw_V q726 q727 q728 q118 q729) pdJ2_add rfl rfl (Nat.le_of_ble_eq_true rfl) ⟨Nat.le_of_ble_eq_true rfl, Nat.le_of_ble_eq_true rfl⟩ dX2_newName_78 rfl (fun H locs cells slots hS => ?_)
        refine lv_pop (pc := 81) hx hb dX2_newName_81 rfl ?_
        refine lv_aload_n (pc := 82) hx hb dX2_newName_82 rfl (lv_at hl 0 rfl) ?_
        refine j_gR (pc := 83) cx hS hf fd_WornSkin_Reader_draft q210 dX2_newName_83 (fun y17 hf => ?_)
        refine j_gR (pc := 86) cx hS hf fd_WornSkin_Library_nameOf q331 dX2_newName_86 (fun y18 hf => ?_)
        refine lv_iload_n (pc := 89) hx hb dX2_newName_89 rfl (lv_at hl 2 rfl) ?_
        obtain ⟨y19, h1, e9, hf⟩ := jB_some hf
        refine j_callS (pc := 90) (st1 := [va_rf y19, va_rf y18]) (As := [.int x2]) (rest := [va_rf y18]) cx hS rfl hl.1 hm (metJ16_valueOf l _ _ _ _ e9) (jle hf) (lw_S q799 q800 q138 q801) pdJ16_valueOf rfl rfl (by simp only [List.map_cons, List.map_nil, List.sum_cons, List.sum_nil, jrfc]; exact Nat.le_of_ble_eq_true rfl) ⟨Nat.le_of_ble_eq_true rfl, Nat.le_of_ble_eq_true rfl⟩ dX2_newName_90 rfl (fun H locs cells slots hS => ?_)
        obtain ⟨b21, eb, hrc, hf⟩ := jrc_s hf
        refine j_nn (pc := 93) eb [va_rf y19] [] rfl ?_
        obtain ⟨y20, h1, e9, hf⟩ := jB_some hf
        refine j_callV (pc := 93) (st1 := [.int y20]) (As := [va_rf y19]) (rest := []) cx hS rfl hl.1 hm (metJ2_add l _ _ _ _ _ hrc e9) (jle hf) hrc rfl (lw_V q726 q727 q728 q118 q729) pdJ2_add rfl rfl (Nat.le_of_ble_eq_true rfl) ⟨Nat.le_of_ble_eq_true rfl, Nat.le_of_ble_eq_true rfl⟩ dX2_newName_93 rfl (fun H locs cells slots hS => ?_)
        refine lv_pop (pc := 96) hx hb dX2_newName_96 rfl ?_
        refine lv_aload_n (pc := 97) hx hb dX2_newName_97 rfl (lv_at hl 0 rfl) ?_
        refine lv_dup (pc := 98) hx hb dX2_newName_98 rfl ?_
        refine j_gI (pc := 99) cx hS hf fd_WornSkin_Reader_at q217 dX2_newName_99 (fun y22 hf => ?_)
        refine lv_iconst (pc := 102) (v := 1) hx hb dX2_newName_102 rfl ?_
        refine lv_iadd (pc := 103) hx hb dX2_newName_103 ?_
        refine j_pI (pc := 104) cx hS hf fp_WornSkin_Reader_at (Or.inl rfl) q217 dX2_newName_104 (fun h H locs hf hS => ?_)
        exact j_vretT (pc := 107) cx hS hf e1 e2 dX2_newName_107
      · have hf := jI_f hf hc
        refine lv_aload_n (pc := 53) hx hb dX2_newName_53 rfl (lv_at hl 0 rfl) ?_
        refine lv_iconst (pc := 54) (v := 3) hx hb dX2_newName_54 rfl ?_
        obtain ⟨y23, h1, e9, hf⟩ := jB_some hf
        refine j_callV (pc := 55) (st1 := [va_rf y23]) (As := [.int 3]) (rest := []) cx hS rfl hl.1 hm (metX2_wrong l hfl _ _ _ _ _ (hth.at hS) e9) (jle hf) (hth.at hS) rfl (lw_V q617 q619 qs5 q113 q620) pdX2_wrong rfl rfl (Nat.le_of_ble_eq_true rfl) ⟨Nat.le_of_ble_eq_true rfl, Nat.le_of_ble_eq_true rfl⟩ dX2_newName_55 rfl (fun H locs cells slots hS => ?_)
        exact j_athrow (pc := 58) (r := y23) cx hS ht hf e1 e2 dX2_newName_58
    · have hf := jI_t hf hc
      refine lv_aload_n (pc := 27) hx hb dX2_newName_27 rfl (lv_at hl 0 rfl) ?_
      refine lv_iconst (pc := 28) (v := 1) hx hb dX2_newName_28 rfl ?_
      obtain ⟨y25, h1, e9, hf⟩ := jB_some hf
      refine j_callV (pc := 29) (st1 := [va_rf y25]) (As := [.int 1]) (rest := []) cx hS rfl hl.1 hm (metX2_wrong l hfl _ _ _ _ _ (hth.at hS) e9) (jle hf) (hth.at hS) rfl (lw_V q617 q619 qs5 q113 q620) pdX2_wrong rfl rfl (Nat.le_of_ble_eq_true rfl) ⟨Nat.le_of_ble_eq_true rfl, Nat.le_of_ble_eq_true rfl⟩ dX2_newName_29 rfl (fun H locs cells slots hS => ?_)
      exact j_athrow (pc := 32) (r := y25) cx hS ht hf e1 e2 dX2_newName_32
  · have hf := jI_f hf hc
    refine lv_aload_n (pc := 4) hx hb dX2_newName_4 rfl (lv_at hl 0 rfl) ?_
    refine lv_iconst (pc := 5) (v := 5) hx hb dX2_newName_5 rfl ?_
    obtain ⟨y27, h1, e9, hf⟩ := jB_some hf
    refine j_callV (pc := 6) (st1 := [va_rf y27]) (As := [.int 5]) (rest := []) cx hS rfl hl.1 hm (metX2_wrong l hfl _ _ _ _ _ (hth.at hS) e9) (jle hf) (hth.at hS) rfl (lw_V q617 q619 qs5 q113 q620) pdX2_wrong rfl rfl (Nat.le_of_ble_eq_true rfl) ⟨Nat.le_of_ble_eq_true rfl, Nat.le_of_ble_eq_true rfl⟩ dX2_newName_6 rfl (fun H locs cells slots hS => ?_)
    exact j_athrow (pc := 9) (r := y27) cx hS ht hf e1 e2 dX2_newName_9
theorem metX2_newName (l : Launch) (hfl : l.stackTraces = false) (N : Nat) (a0 : Nat) (x1 : Int32) (x2 : Int32) (h h' : jH) (r : Unit ⊕ Nat) (hth : jcd h a0 = some 1) (hf : (fX2_newName N a0 x1 x2).1 h = some (r, h')) : jMet l yX2_newName (ws_ yX2_newName cX2_newName 3 (Option.none : Option Jvm.ClassFile.FieldType)) (8) (171) [.ref a0, .int x1, .int x2] h h' (jOc (fun _ => none) r) := by
  refine jStartT rfl (jle hf) (Nat.le_of_ble_eq_true rfl) ?_
  intro p e s m below meth c D dA H0 mc ms ls ht cx hnm e1 e2 hS hl
  have hth := jTh.mk hS hth
  exact wX2_newName_0 cx e1 e2 hfl ht a0 hth _ _ _ _ _ _ _ _ hf hS hl
def fX2_hasWord_20 (N : Nat) (a0 : Nat) (x2 : Int32) : jM Int32 := jRn .boolean x2
def fX2_hasWord (N : Nat) (a0 : Nat) (x1 : Option Nat) : jM Int32 := jB (fX2_isWord N a0 x1) fun y1 => if y1 = 0 then (fX2_hasWord_20 N a0 y1) else (jB (jgI [1] 11 (some a0)) fun y2 => jB (jpI [1] 11 (some a0) (y2 + 1)) fun _ => fX2_hasWord_20 N a0 y1)
theorem wX2_hasWord_20 {N : Nat} {r : Int32} (cx : jCx p s m args meth c cX2_hasWord "WornSkin$Reader" 3 (Option.some Jvm.ClassFile.FieldType.boolean) D dA H0 hs.2.2.2.2) (e1 : h'.2.2.1 = hs.2.2.1 + mc) (e2 : h'.2.2.2.1 = hs.2.2.2.1 + ms) (a0 : Nat) (hth : jTh hs a0 1) : ∀ (x2 : Int32), ∀ (h : jH) (H : Heap) (locs : List Loc) (cells slots : Nat) (ls : Array Slot), (fX2_hasWord_20 N a0 x2).1 h = some (r, h') → jS D dA H0 hs h H locs cells slots → lv_has ls 3 [(0, .ref a0), (2, .int x2)] → W p l e { frames := 6, cells := mc, slots := ms, locals := 129 } s m args below meth c H locs cells slots (jQ D dA H0 below s (.returned (some (.int r))) h' mc ms) (F0 m 20 ls []) := by
  have hx := cx.1
  have hb := cx.2.1
  have hown := cx.2.2.2.1
  have hts := cx.2.2.2.2.1
  have hm : h'.2.2.1 ≤ hs.2.2.1 + mc ∧ h'.2.2.2.1 ≤ hs.2.2.2.1 + ms := ⟨Nat.le_of_eq e1, Nat.le_of_eq e2⟩
  intro x2 h H locs cells slots ls hf hS hl
  unfold fX2_hasWord_20 at hf
  refine lv_iload_n (pc := 20) hx hb dX2_hasWord_20 rfl (lv_at hl 1 rfl) ?_
  exact j_zret (pc := 21) cx (Or.inl rfl) hS hf e1 e2 dX2_hasWord_21
theorem wX2_hasWord_0 {N : Nat} {r : Int32} (cx : jCx p s m args meth c cX2_hasWord "WornSkin$Reader" 3 (Option.some Jvm.ClassFile.FieldType.boolean) D dA H0 hs.2.2.2.2) (e1 : h'.2.2.1 = hs.2.2.1 + mc) (e2 : h'.2.2.2.1 = hs.2.2.2.1 + ms) (a0 : Nat) (hth : jTh hs a0 1) : ∀ (x1 : Option Nat), ∀ (h : jH) (H : Heap) (locs : List Loc) (cells slots : Nat) (ls : Array Slot), (fX2_hasWord N a0 x1).1 h = some (r, h') → jS D dA H0 hs h H locs cells slots → lv_has ls 3 [(0, .ref a0), (1, va_rf x1)] → W p l e { frames := 6, cells := mc, slots := ms, locals := 129 } s m args below meth c H locs cells slots (jQ D dA H0 below s (.returned (some (.int r))) h' mc ms) (F0 m 0 ls []) := by
  have hx := cx.1
  have hb := cx.2.1
  have hown := cx.2.2.2.1
  have hts := cx.2.2.2.2.1
  have hm : h'.2.2.1 ≤ hs.2.2.1 + mc ∧ h'.2.2.2.1 ≤ hs.2.2.2.1 + ms := ⟨Nat.le_of_eq e1, Nat.le_of_eq e2⟩
  intro x1 h H locs cells slots ls hf hS hl
  unfold fX2_hasWord at hf
  refine lv_aload_n (pc := 0) hx hb dX2_hasWord_0 rfl (lv_at hl 0 rfl) ?_
  refine j_aload_n (pc := 1) (r := x1) hx hb dX2_hasWord_1 rfl (lv_at hl 1 rfl) ?_
  obtain ⟨y1, h1, e9, hf⟩ := jB_some hf
  refine j_callV (pc := 2) (st1 := [.int y1]) (As := [va_rf x1]) (rest := []) cx hS rfl hl.1 hm (metX2_isWord l _ _ _ _ _ _ (hth.at hS) e9) (jle hf) (hth.at hS) rfl (lw_V q582 q584 qs2 q113 q585) pdX2_isWord rfl rfl (Nat.le_of_ble_eq_true rfl) ⟨Nat.le_of_ble_eq_true rfl, Nat.le_of_ble_eq_true rfl⟩ dX2_hasWord_2 rfl (fun H locs cells slots hS => ?_)
  refine lv_istore_n (pc := 5) (i := 2) (lv' := [(2, .int y1), (0, .ref a0), (1, va_rf x1)]) hx hb dX2_hasWord_5 rfl hl (Nat.le_of_ble_eq_true rfl) (by cases x1 <;> rfl) (fun ls hl => ?_)
  refine lv_iload_n (pc := 6) hx hb dX2_hasWord_6 rfl (lv_at hl 0 rfl) ?_
  refine lv_if_eq (pc := 7) (tgt := 20) hx hb dX2_hasWord_7 (by decide) (fun hc => ?_) (fun hc => ?_)
  · have hf := jI_t hf hc
    exact wX2_hasWord_20 cx e1 e2 a0 hth _ _ _ _ _ _ _ hf hS (lv_sub hl [1, 0] rfl)
  · have hf := jI_f hf hc
    refine lv_aload_n (pc := 10) hx hb dX2_hasWord_10 rfl (lv_at hl 1 rfl) ?_
    refine lv_dup (pc := 11) hx hb dX2_hasWord_11 rfl ?_
    refine j_gI (pc := 12) cx hS hf fd_WornSkin_Reader_at q217 dX2_hasWord_12 (fun y2 hf => ?_)
    refine lv_iconst (pc := 15) (v := 1) hx hb dX2_hasWord_15 rfl ?_
    refine lv_iadd (pc := 16) hx hb dX2_hasWord_16 ?_
    refine j_pI (pc := 17) cx hS hf fp_WornSkin_Reader_at (Or.inl rfl) q217 dX2_hasWord_17 (fun h H locs hf hS => ?_)
    exact wX2_hasWord_20 cx e1 e2 a0 hth _ _ _ _ _ _ _ hf hS (lv_sub hl [1, 0] rfl)
theorem metX2_hasWord (l : Launch) (N : Nat) (a0 : Nat) (x1 : Option Nat) (h h' : jH) (r : Int32) (hth : jcd h a0 = some 1) (hf : (fX2_hasWord N a0 x1).1 h = some (r, h')) : jMet l yX2_hasWord (ws_ yX2_hasWord cX2_hasWord 3 (Option.some Jvm.ClassFile.FieldType.boolean)) (6) (129) [.ref a0, va_rf x1] h h' (.returned (some (.int r))) := by
  refine jStart rfl (jle hf) (by cases x1 <;> exact Nat.le_of_ble_eq_true rfl) ?_
  intro p e s m below meth c D dA H0 mc ms ls cx hnm e1 e2 hS hl
  have hl : lv_has ls 3 [(0, .ref a0), (1, va_rf x1)] := by cases x1 <;> exact hl
  have hth := jTh.mk hS hth
  exact wX2_hasWord_0 cx e1 e2 a0 hth _ _ _ _ _ _ _ hf hS hl
def fX2_takeWord (N : Nat) (a0 : Nat) (x1 : Option Nat) : jM (Unit ⊕ Nat) := jB (fX2_hasWord N a0 x1) fun y1 => if y1 = 0 then (jB (fX2_wrong a0 1) fun y2 => jB (jnn0 y2) fun b3 => jR (.inr b3)) else (jR (.inl ()))
theorem wX2_takeWord_0 {N : Nat} {r : Unit ⊕ Nat} (cx : jCx p s m args meth c cX2_takeWord "WornSkin$Reader" 2 (Option.none : Option Jvm.ClassFile.FieldType) D dA H0 hs.2.2.2.2) (e1 : h'.2.2.1 = hs.2.2.1 + mc) (e2 : h'.2.2.2.1 = hs.2.2.2.1 + ms) (hfl : l.stackTraces = false) (ht : c.exceptionTable.toList = []) (a0 : Nat) (hth : jTh hs a0 1) : ∀ (x1 : Option Nat), ∀ (h : jH) (H : Heap) (locs : List Loc) (cells slots : Nat) (ls : Array Slot), (fX2_takeWord N a0 x1).1 h = some (r, h') → jS D dA H0 hs h H locs cells slots → lv_has ls 2 [(0, .ref a0), (1, va_rf x1)] → W p l e { frames := 7, cells := mc, slots := ms, locals := 151 } s m args below meth c H locs cells slots (jQ D dA H0 below s (jOc (fun _ => none) r) h' mc ms) (F0 m 0 ls []) := by
  have hx := cx.1
  have hb := cx.2.1
  have hown := cx.2.2.2.1
  have hts := cx.2.2.2.2.1
  have hm : h'.2.2.1 ≤ hs.2.2.1 + mc ∧ h'.2.2.2.1 ≤ hs.2.2.2.1 + ms := ⟨Nat.le_of_eq e1, Nat.le_of_eq e2⟩
  intro x1 h H locs cells slots ls hf hS hl
  unfold fX2_takeWord at hf
  refine lv_aload_n (pc := 0) hx hb dX2_takeWord_0 rfl (lv_at hl 0 rfl) ?_
  refine j_aload_n (pc := 1) (r := x1) hx hb dX2_takeWord_1 rfl (lv_at hl 1 rfl) ?_
  obtain ⟨y1, h1, e9, hf⟩ := jB_some hf
  refine j_callV (pc := 2) (st1 := [.int y1]) (As := [va_rf x1]) (rest := []) cx hS rfl hl.1 hm (metX2_hasWord l _ _ _ _ _ _ (hth.at hS) e9) (jle hf) (hth.at hS) rfl (lw_V q824 q826 qs14 q113 q827) pdX2_hasWord rfl rfl (Nat.le_of_ble_eq_true rfl) ⟨Nat.le_of_ble_eq_true rfl, Nat.le_of_ble_eq_true rfl⟩ dX2_takeWord_2 rfl (fun H locs cells slots hS => ?_)
  refine lv_if_ne (pc := 5) (tgt := 14) hx hb dX2_takeWord_5 (by decide) (fun hc => ?_) (fun hc => ?_)
  · have hf := jI_f hf hc
    exact j_vretT (pc := 14) cx hS hf e1 e2 dX2_takeWord_14
  · have hf := jI_t hf hc
    refine lv_aload_n (pc := 8) hx hb dX2_takeWord_8 rfl (lv_at hl 0 rfl) ?_
    refine lv_iconst (pc := 9) (v := 1) hx hb dX2_takeWord_9 rfl ?_
    obtain ⟨y2, h1, e9, hf⟩ := jB_some hf
    refine j_callV (pc := 10) (st1 := [va_rf y2]) (As := [.int 1]) (rest := []) cx hS rfl hl.1 hm (metX2_wrong l hfl _ _ _ _ _ (hth.at hS) e9) (jle hf) (hth.at hS) rfl (lw_V q617 q619 qs5 q113 q620) pdX2_wrong rfl rfl (Nat.le_of_ble_eq_true rfl) ⟨Nat.le_of_ble_eq_true rfl, Nat.le_of_ble_eq_true rfl⟩ dX2_takeWord_10 rfl (fun H locs cells slots hS => ?_)
    exact j_athrow (pc := 13) (r := y2) cx hS ht hf e1 e2 dX2_takeWord_13
theorem metX2_takeWord (l : Launch) (hfl : l.stackTraces = false) (N : Nat) (a0 : Nat) (x1 : Option Nat) (h h' : jH) (r : Unit ⊕ Nat) (hth : jcd h a0 = some 1) (hf : (fX2_takeWord N a0 x1).1 h = some (r, h')) : jMet l yX2_takeWord (ws_ yX2_takeWord cX2_takeWord 2 (Option.none : Option Jvm.ClassFile.FieldType)) (7) (151) [.ref a0, va_rf x1] h h' (jOc (fun _ => none) r) := by
  refine jStartT rfl (jle hf) (by cases x1 <;> exact Nat.le_of_ble_eq_true rfl) ?_
  intro p e s m below meth c D dA H0 mc ms ls ht cx hnm e1 e2 hS hl
  have hl : lv_has ls 2 [(0, .ref a0), (1, va_rf x1)] := by cases x1 <;> exact hl
  have hth := jTh.mk hS hth
  exact wX2_takeWord_0 cx e1 e2 hfl ht a0 hth _ _ _ _ _ _ _ hf hS hl
def fX2_number_2_49 (a0 : Nat) : jM (Int32 ⊕ Nat) := jB (fX2_wrong a0 4) fun y1 => jB (jnn0 y1) fun b2 => jR (.inr b2)
def fX2_number_2 (a0 : Nat) (x1 : Int32) (x2 : Int32) : jM (Int32 ⊕ Nat) := jB (jgR [1] 8 (some a0)) fun y1 => jB (jgI [1] 11 (some a0)) fun y2 => jB (jaI 0 y1 y2) fun y3 => if y3 = 2 then (jB (jgR [1] 9 (some a0)) fun y4 => jB (jgI [1] 11 (some a0)) fun y5 => jB (jaL 1 y4 y5) fun y6 => if (lg_cmp y6 (x1.toInt64)) < 0 then (fX2_number_2_49 a0) else (jB (jgR [1] 9 (some a0)) fun y7 => jB (jgI [1] 11 (some a0)) fun y8 => jB (jaL 1 y7 y8) fun y9 => if (lg_cmp y9 (x2.toInt64)) ≤ 0 then (jB (jgI [1] 11 (some a0)) fun y10 => jB (jpI [1] 11 (some a0) (y10 + 1)) fun _ => jB (jgR [1] 9 (some a0)) fun y11 => jB (jgI [1] 11 (some a0)) fun y12 => jB (jaL 1 y11 (y12 - 1)) fun y13 => jR (.inl (y13.toInt32))) else (fX2_number_2_49 a0))) else (jB (fX2_wrong a0 1) fun y14 => jB (jnn0 y14) fun b15 => jR (.inr b15))
theorem wX2_number_2_49 {r : Int32 ⊕ Nat} (cx : jCx p s m args meth c cX2_number_2 "WornSkin$Reader" 3 (Option.some Jvm.ClassFile.FieldType.int) D dA H0 hs.2.2.2.2) (e1 : h'.2.2.1 = hs.2.2.1 + mc) (e2 : h'.2.2.2.1 = hs.2.2.2.1 + ms) (hfl : l.stackTraces = false) (ht : c.exceptionTable.toList = []) (a0 : Nat) (hth : jTh hs a0 1) : ∀ (h : jH) (H : Heap) (locs : List Loc) (cells slots : Nat) (ls : Array Slot), (fX2_number_2_49 a0).1 h = some (r, h') → jS D dA H0 hs h H locs cells slots → lv_has ls 3 [(0, .ref a0)] → W p l e { frames := 6, cells := mc, slots := ms, locals := 104 } s m args below meth c H locs cells slots (jQ D dA H0 below s (jOc (fun v => some (.int v)) r) h' mc ms) (F0 m 49 ls []) := by
  have hx := cx.1
  have hb := cx.2.1
  have hown := cx.2.2.2.1
  have hts := cx.2.2.2.2.1
  have hm : h'.2.2.1 ≤ hs.2.2.1 + mc ∧ h'.2.2.2.1 ≤ hs.2.2.2.1 + ms := ⟨Nat.le_of_eq e1, Nat.le_of_eq e2⟩
  intro h H locs cells slots ls hf hS hl
  unfold fX2_number_2_49 at hf
  refine lv_aload_n (pc := 49) hx hb dX2_number_2_49 rfl (lv_at hl 0 rfl) ?_
  refine lv_iconst (pc := 50) (v := 4) hx hb dX2_number_2_50 rfl ?_
  obtain ⟨y1, h1, e9, hf⟩ := jB_some hf
  refine j_callV (pc := 51) (st1 := [va_rf y1]) (As := [.int 4]) (rest := []) cx hS rfl hl.1 hm (metX2_wrong l hfl _ _ _ _ _ (hth.at hS) e9) (jle hf) (hth.at hS) rfl (lw_V q617 q619 qs5 q113 q620) pdX2_wrong rfl rfl (Nat.le_of_ble_eq_true rfl) ⟨Nat.le_of_ble_eq_true rfl, Nat.le_of_ble_eq_true rfl⟩ dX2_number_2_51 rfl (fun H locs cells slots hS => ?_)
  exact j_athrow (pc := 54) (r := y1) cx hS ht hf e1 e2 dX2_number_2_54
theorem wX2_number_2_0 {r : Int32 ⊕ Nat} (cx : jCx p s m args meth c cX2_number_2 "WornSkin$Reader" 3 (Option.some Jvm.ClassFile.FieldType.int) D dA H0 hs.2.2.2.2) (e1 : h'.2.2.1 = hs.2.2.1 + mc) (e2 : h'.2.2.2.1 = hs.2.2.2.1 + ms) (hfl : l.stackTraces = false) (ht : c.exceptionTable.toList = []) (a0 : Nat) (hth : jTh hs a0 1) : ∀ (x1 : Int32) (x2 : Int32), ∀ (h : jH) (H : Heap) (locs : List Loc) (cells slots : Nat) (ls : Array Slot), (fX2_number_2 a0 x1 x2).1 h = some (r, h') → jS D dA H0 hs h H locs cells slots → lv_has ls 3 [(0, .ref a0), (1, .int x1), (2, .int x2)] → W p l e { frames := 6, cells := mc, slots := ms, locals := 104 } s m args below meth c H locs cells slots (jQ D dA H0 below s (jOc (fun v => some (.int v)) r) h' mc ms) (F0 m 0 ls []) := by
  have hx := cx.1
  have hb := cx.2.1
  have hown := cx.2.2.2.1
  have hts := cx.2.2.2.2.1
  have hm : h'.2.2.1 ≤ hs.2.2.1 + mc ∧ h'.2.2.2.1 ≤ hs.2.2.2.1 + ms := ⟨Nat.le_of_eq e1, Nat.le_of_eq e2⟩
  intro x1 x2 h H locs cells slots ls hf hS hl
  unfold fX2_number_2 at hf
  refine lv_aload_n (pc := 0) hx hb dX2_number_2_0 rfl (lv_at hl 0 rfl) ?_
  refine j_gR (pc := 1) cx hS hf fd_WornSkin_Reader_sort q214 dX2_number_2_1 (fun y1 hf => ?_)
  refine lv_aload_n (pc := 4) hx hb dX2_number_2_4 rfl (lv_at hl 0 rfl) ?_
  refine j_gI (pc := 5) cx hS hf fd_WornSkin_Reader_at q217 dX2_number_2_5 (fun y2 hf => ?_)
  refine j_aI (pc := 8) cx hS hf rfl dX2_number_2_8 (fun y3 hf => ?_)
  refine lv_iconst (pc := 9) (v := 2) hx hb dX2_number_2_9 rfl ?_
  refine lv_icmp_eq (pc := 10) (tgt := 19) hx hb dX2_number_2_10 (by decide) (fun hc => ?_) (fun hc => ?_)
  · have hf := jI_t hf hc
    refine lv_aload_n (pc := 19) hx hb dX2_number_2_19 rfl (lv_at hl 0 rfl) ?_
    refine j_gR (pc := 20) cx hS hf fd_WornSkin_Reader_value q215 dX2_number_2_20 (fun y4 hf => ?_)
    refine lv_aload_n (pc := 23) hx hb dX2_number_2_23 rfl (lv_at hl 0 rfl) ?_
    refine j_gI (pc := 24) cx hS hf fd_WornSkin_Reader_at q217 dX2_number_2_24 (fun y5 hf => ?_)
    refine j_aL (pc := 27) cx hS hf rfl dX2_number_2_27 (fun y6 hf => ?_)
    refine lv_iload_n (pc := 28) hx hb dX2_number_2_28 rfl (lv_at hl 1 rfl) ?_
    refine lv_i2l (pc := 29) (v := x1.toInt64) hx hb dX2_number_2_29 rfl ?_
    refine W.lcmp (pc := 30) hx hb dX2_number_2_30 ?_
    refine lv_if_lt (pc := 31) (tgt := 49) hx hb dX2_number_2_31 (by decide) (fun hc => ?_) (fun hc => ?_)
    · have hf := jI_t hf hc
      exact wX2_number_2_49 cx e1 e2 hfl ht a0 hth _ _ _ _ _ _ hf hS (lv_sub hl [0] rfl)
    · have hf := jI_f hf hc
      refine lv_aload_n (pc := 34) hx hb dX2_number_2_34 rfl (lv_at hl 0 rfl) ?_
      refine j_gR (pc := 35) cx hS hf fd_WornSkin_Reader_value q215 dX2_number_2_35 (fun y7 hf => ?_)
      refine lv_aload_n (pc := 38) hx hb dX2_number_2_38 rfl (lv_at hl 0 rfl) ?_
      refine j_gI (pc := 39) cx hS hf fd_WornSkin_Reader_at q217 dX2_number_2_39 (fun y8 hf => ?_)
      refine j_aL (pc := 42) cx hS hf rfl dX2_number_2_42 (fun y9 hf => ?_)
      refine lv_iload_n (pc := 43) hx hb dX2_number_2_43 rfl (lv_at hl 2 rfl) ?_
      refine lv_i2l (pc := 44) (v := x2.toInt64) hx hb dX2_number_2_44 rfl ?_
      refine W.lcmp (pc := 45) hx hb dX2_number_2_45 ?_
      refine lv_if_le (pc := 46) (tgt := 55) hx hb dX2_number_2_46 (by decide) (fun hc => ?_) (fun hc => ?_)
      · have hf := jI_t hf hc
        refine lv_aload_n (pc := 55) hx hb dX2_number_2_55 rfl (lv_at hl 0 rfl) ?_
        refine lv_dup (pc := 56) hx hb dX2_number_2_56 rfl ?_
        refine j_gI (pc := 57) cx hS hf fd_WornSkin_Reader_at q217 dX2_number_2_57 (fun y10 hf => ?_)
        refine lv_iconst (pc := 60) (v := 1) hx hb dX2_number_2_60 rfl ?_
        refine lv_iadd (pc := 61) hx hb dX2_number_2_61 ?_
        refine j_pI (pc := 62) cx hS hf fp_WornSkin_Reader_at (Or.inl rfl) q217 dX2_number_2_62 (fun h H locs hf hS => ?_)
        refine lv_aload_n (pc := 65) hx hb dX2_number_2_65 rfl (lv_at hl 0 rfl) ?_
        refine j_gR (pc := 66) cx hS hf fd_WornSkin_Reader_value q215 dX2_number_2_66 (fun y11 hf => ?_)
        refine lv_aload_n (pc := 69) hx hb dX2_number_2_69 rfl (lv_at hl 0 rfl) ?_
        refine j_gI (pc := 70) cx hS hf fd_WornSkin_Reader_at q217 dX2_number_2_70 (fun y12 hf => ?_)
        refine lv_iconst (pc := 73) (v := 1) hx hb dX2_number_2_73 rfl ?_
        refine lv_isub (pc := 74) hx hb dX2_number_2_74 ?_
        refine j_aL (pc := 75) cx hS hf rfl dX2_number_2_75 (fun y13 hf => ?_)
        refine lv_l2i (pc := 76) (v := y13.toInt32) hx hb dX2_number_2_76 rfl ?_
        exact j_iretT (pc := 77) cx hS hf e1 e2 dX2_number_2_77
      · have hf := jI_f hf hc
        exact wX2_number_2_49 cx e1 e2 hfl ht a0 hth _ _ _ _ _ _ hf hS (lv_sub hl [0] rfl)
  · have hf := jI_f hf hc
    refine lv_aload_n (pc := 13) hx hb dX2_number_2_13 rfl (lv_at hl 0 rfl) ?_
    refine lv_iconst (pc := 14) (v := 1) hx hb dX2_number_2_14 rfl ?_
    obtain ⟨y14, h1, e9, hf⟩ := jB_some hf
    refine j_callV (pc := 15) (st1 := [va_rf y14]) (As := [.int 1]) (rest := []) cx hS rfl hl.1 hm (metX2_wrong l hfl _ _ _ _ _ (hth.at hS) e9) (jle hf) (hth.at hS) rfl (lw_V q617 q619 qs5 q113 q620) pdX2_wrong rfl rfl (Nat.le_of_ble_eq_true rfl) ⟨Nat.le_of_ble_eq_true rfl, Nat.le_of_ble_eq_true rfl⟩ dX2_number_2_15 rfl (fun H locs cells slots hS => ?_)
    exact j_athrow (pc := 18) (r := y14) cx hS ht hf e1 e2 dX2_number_2_18
theorem metX2_number_2 (l : Launch) (hfl : l.stackTraces = false) (a0 : Nat) (x1 : Int32) (x2 : Int32) (h h' : jH) (r : Int32 ⊕ Nat) (hth : jcd h a0 = some 1) (hf : (fX2_number_2 a0 x1 x2).1 h = some (r, h')) : jMet l yX2_number_2 (ws_ yX2_number_2 cX2_number_2 3 (Option.some Jvm.ClassFile.FieldType.int)) (6) (104) [.ref a0, .int x1, .int x2] h h' (jOc (fun v => some (.int v)) r) := by
  refine jStartT rfl (jle hf) (Nat.le_of_ble_eq_true rfl) ?_
  intro p e s m below meth c D dA H0 mc ms ls ht cx hnm e1 e2 hS hl
  have hth := jTh.mk hS hth
  exact wX2_number_2_0 cx e1 e2 hfl ht a0 hth _ _ _ _ _ _ _ _ hf hS hl
def fX2_number (N : Nat) (a0 : Nat) (x1 : Option Nat) (x2 : Int32) (x3 : Int32) : jM (Int32 ⊕ Nat) := jBT (fX2_takeWord N a0 x1) fun _ => jBT (fX2_number_2 a0 x2 x3) fun y2 => jR (.inl y2)
theorem wX2_number_0 {N : Nat} {r : Int32 ⊕ Nat} (cx : jCx p s m args meth c cX2_number "WornSkin$Reader" 4 (Option.some Jvm.ClassFile.FieldType.int) D dA H0 hs.2.2.2.2) (e1 : h'.2.2.1 = hs.2.2.1 + mc) (e2 : h'.2.2.2.1 = hs.2.2.2.1 + ms) (hfl : l.stackTraces = false) (ht : c.exceptionTable.toList = []) (a0 : Nat) (hth : jTh hs a0 1) : ∀ (x1 : Option Nat) (x2 : Int32) (x3 : Int32), ∀ (h : jH) (H : Heap) (locs : List Loc) (cells slots : Nat) (ls : Array Slot), (fX2_number N a0 x1 x2 x3).1 h = some (r, h') → jS D dA H0 hs h H locs cells slots → lv_has ls 4 [(0, .ref a0), (1, va_rf x1), (2, .int x2), (3, .int x3)] → W p l e { frames := 8, cells := mc, slots := ms, locals := 172 } s m args below meth c H locs cells slots (jQ D dA H0 below s (jOc (fun v => some (.int v)) r) h' mc ms) (F0 m 0 ls []) := by
  have hx := cx.1
  have hb := cx.2.1
  have hown := cx.2.2.2.1
  have hts := cx.2.2.2.2.1
  have hm : h'.2.2.1 ≤ hs.2.2.1 + mc ∧ h'.2.2.2.1 ≤ hs.2.2.2.1 + ms := ⟨Nat.le_of_eq e1, Nat.le_of_eq e2⟩
  intro x1 x2 x3 h H locs cells slots ls hf hS hl
  unfold fX2_number at hf
  refine lv_aload_n (pc := 0) hx hb dX2_number_0 rfl (lv_at hl 0 rfl) ?_
  refine j_aload_n (pc := 1) (r := x1) hx hb dX2_number_1 rfl (lv_at hl 1 rfl) ?_
  rcases jBT_some hf with ⟨_, h1, e9, hf⟩ | ⟨x9, e9, ez⟩
  rotate_left
  · have ez : r = .inr x9 := ez
    subst ez
    exact j_callVX (pc := 2) (z := ((), h')) (As := [va_rf x1]) (rest := []) cx hS rfl hl.1 hm (metX2_takeWord l hfl _ _ _ _ _ _ (hth.at hS) e9) (jLe.rf _) (hth.at hS) rfl (lw_V q820 q822 qs13 q113 q823) pdX2_takeWord rfl rfl (Nat.le_of_ble_eq_true rfl) ⟨Nat.le_of_ble_eq_true rfl, Nat.le_of_ble_eq_true rfl⟩ dX2_number_2 (fun H locs cells slots hS => j_leaves cx hS ht e1 e2)
  refine j_callV (pc := 2) (st1 := []) (As := [va_rf x1]) (rest := []) cx hS rfl hl.1 hm (metX2_takeWord l hfl _ _ _ _ _ _ (hth.at hS) e9) (jle hf) (hth.at hS) rfl (lw_V q820 q822 qs13 q113 q823) pdX2_takeWord rfl rfl (Nat.le_of_ble_eq_true rfl) ⟨Nat.le_of_ble_eq_true rfl, Nat.le_of_ble_eq_true rfl⟩ dX2_number_2 rfl (fun H locs cells slots hS => ?_)
  refine lv_aload_n (pc := 5) hx hb dX2_number_5 rfl (lv_at hl 0 rfl) ?_
  refine lv_iload_n (pc := 6) hx hb dX2_number_6 rfl (lv_at hl 2 rfl) ?_
  refine lv_iload_n (pc := 7) hx hb dX2_number_7 rfl (lv_at hl 3 rfl) ?_
  rcases jBT_some hf with ⟨y2, h1, e9, hf⟩ | ⟨x9, e9, ez⟩
  rotate_left
  · have ez : r = .inr x9 := ez
    subst ez
    exact j_callVX (pc := 8) (z := ((), h')) (As := [.int x2, .int x3]) (rest := []) cx hS rfl hl.1 hm (metX2_number_2 l hfl _ _ _ _ _ _ (hth.at hS) e9) (jLe.rf _) (hth.at hS) rfl (lw_V q828 q830 qs15 q113 q831) pdX2_number_2 rfl rfl (Nat.le_of_ble_eq_true rfl) ⟨Nat.le_of_ble_eq_true rfl, Nat.le_of_ble_eq_true rfl⟩ dX2_number_8 (fun H locs cells slots hS => j_leaves cx hS ht e1 e2)
  refine j_callV (pc := 8) (st1 := [.int y2]) (As := [.int x2, .int x3]) (rest := []) cx hS rfl hl.1 hm (metX2_number_2 l hfl _ _ _ _ _ _ (hth.at hS) e9) (jle hf) (hth.at hS) rfl (lw_V q828 q830 qs15 q113 q831) pdX2_number_2 rfl rfl (Nat.le_of_ble_eq_true rfl) ⟨Nat.le_of_ble_eq_true rfl, Nat.le_of_ble_eq_true rfl⟩ dX2_number_8 rfl (fun H locs cells slots hS => ?_)
  exact j_iretT (pc := 11) cx hS hf e1 e2 dX2_number_11
theorem metX2_number (l : Launch) (hfl : l.stackTraces = false) (N : Nat) (a0 : Nat) (x1 : Option Nat) (x2 : Int32) (x3 : Int32) (h h' : jH) (r : Int32 ⊕ Nat) (hth : jcd h a0 = some 1) (hf : (fX2_number N a0 x1 x2 x3).1 h = some (r, h')) : jMet l yX2_number (ws_ yX2_number cX2_number 4 (Option.some Jvm.ClassFile.FieldType.int)) (8) (172) [.ref a0, va_rf x1, .int x2, .int x3] h h' (jOc (fun v => some (.int v)) r) := by
  refine jStartT rfl (jle hf) (by cases x1 <;> exact Nat.le_of_ble_eq_true rfl) ?_
  intro p e s m below meth c D dA H0 mc ms ls ht cx hnm e1 e2 hS hl
  have hl : lv_has ls 4 [(0, .ref a0), (1, va_rf x1), (2, .int x2), (3, .int x3)] := by cases x1 <;> exact hl
  have hth := jTh.mk hS hth
  exact wX2_number_0 cx e1 e2 hfl ht a0 hth _ _ _ _ _ _ _ _ _ hf hS hl
def fX2_skin_22 (N : Nat) (a0 : Nat) (x1 : Int32) (v1 : Int32) : jM (Unit ⊕ Nat) := jBT (fX2_newName N a0 v1 x1) fun _ => jB (jK 10) fun y2 => jBT (fX2_number N a0 y2 1 6) fun y3 => jB (jgR [1] 5 (some a0)) fun y4 => jB (jgR [3] 2 y4) fun y5 => jB (jnw 12 3 [.int 0, .int 0, .int 0]) fun q6 => jB (jK 11) fun y7 => jBT (fX2_number N a0 y7 1 30) fun y8 => jB (fX9_init q6 y3 y8) fun _ => jB (jrc 4 y5) fun b11 => jB (fJ2_add b11 (some q6)) fun y10 => jR (.inl ())
def fX2_skin (N : Nat) (a0 : Nat) : jM (Unit ⊕ Nat) := jB (jgR [1] 5 (some a0)) fun y1 => jB (jgR [3] 2 y1) fun y2 => jB (jrc 4 y2) fun b4 => jB (fJ2_size b4) fun y3 => if y3 = 3 then (fX2_skin_22 N a0 y3 1) else (fX2_skin_22 N a0 y3 0)
theorem wX2_skin_22 {N : Nat} {r : Unit ⊕ Nat} (cx : jCx p s m args meth c cX2_skin "WornSkin$Reader" 3 (Option.none : Option Jvm.ClassFile.FieldType) D dA H0 hs.2.2.2.2) (e1 : h'.2.2.1 = hs.2.2.1 + mc) (e2 : h'.2.2.2.1 = hs.2.2.2.1 + ms) (hfl : l.stackTraces = false) (ht : c.exceptionTable.toList = []) (a0 : Nat) (hth : jTh hs a0 1) : ∀ (x1 : Int32) (v1 : Int32), ∀ (h : jH) (H : Heap) (locs : List Loc) (cells slots : Nat) (ls : Array Slot), (fX2_skin_22 N a0 x1 v1).1 h = some (r, h') → jS D dA H0 hs h H locs cells slots → lv_has ls 3 [(0, .ref a0), (1, .int x1)] → W p l e { frames := 9, cells := mc, slots := ms, locals := 195 } s m args below meth c H locs cells slots (jQ D dA H0 below s (jOc (fun _ => none) r) h' mc ms) (F0 m 22 ls [.int v1, .ref a0]) := by
  have hx := cx.1
  have hb := cx.2.1
  have hown := cx.2.2.2.1
  have hts := cx.2.2.2.2.1
  have hm : h'.2.2.1 ≤ hs.2.2.1 + mc ∧ h'.2.2.2.1 ≤ hs.2.2.2.1 + ms := ⟨Nat.le_of_eq e1, Nat.le_of_eq e2⟩
  intro x1 v1 h H locs cells slots ls hf hS hl
  unfold fX2_skin_22 at hf
  refine lv_iload_n (pc := 22) hx hb dX2_skin_22 rfl (lv_at hl 1 rfl) ?_
  rcases jBT_some hf with ⟨_, h1, e9, hf⟩ | ⟨x9, e9, ez⟩
  rotate_left
  · have ez : r = .inr x9 := ez
    subst ez
    exact j_callVX (pc := 23) (z := ((), h')) (As := [.int v1, .int x1]) (rest := []) cx hS rfl hl.1 hm (metX2_newName l hfl _ _ _ _ _ _ _ (hth.at hS) e9) (jLe.rf _) (hth.at hS) rfl (lw_V q613 q615 qs4 q113 q616) pdX2_newName rfl rfl (Nat.le_of_ble_eq_true rfl) ⟨Nat.le_of_ble_eq_true rfl, Nat.le_of_ble_eq_true rfl⟩ dX2_skin_23 (fun H locs cells slots hS => j_leaves cx hS ht e1 e2)
  refine j_callV (pc := 23) (st1 := []) (As := [.int v1, .int x1]) (rest := []) cx hS rfl hl.1 hm (metX2_newName l hfl _ _ _ _ _ _ _ (hth.at hS) e9) (jle hf) (hth.at hS) rfl (lw_V q613 q615 qs4 q113 q616) pdX2_newName rfl rfl (Nat.le_of_ble_eq_true rfl) ⟨Nat.le_of_ble_eq_true rfl, Nat.le_of_ble_eq_true rfl⟩ dX2_skin_23 rfl (fun H locs cells slots hS => ?_)
  refine lv_aload_n (pc := 26) hx hb dX2_skin_26 rfl (lv_at hl 0 rfl) ?_
  refine j_ldcS (pc := 27) cx hS rfl hf (tx := "lines") (List.mem_of_getElem? (i := 9) rfl) dX2_skin_27 (fun y2 hf => ?_)
  refine lv_iconst (pc := 29) (v := 1) hx hb dX2_skin_29 rfl ?_
  refine lv_bipush (pc := 30) (v := 6) hx hb dX2_skin_30 rfl ?_
  rcases jBT_some hf with ⟨y3, h1, e9, hf⟩ | ⟨x9, e9, ez⟩
  rotate_left
  · have ez : r = .inr x9 := ez
    subst ez
    exact j_callVX (pc := 32) (z := ((), h')) (As := [va_rf y2, .int 1, .int 6]) (rest := []) cx hS rfl hl.1 hm (metX2_number l hfl _ _ _ _ _ _ _ _ (hth.at hS) e9) (jLe.rf _) (hth.at hS) rfl (lw_V q816 q818 qs12 q113 q819) pdX2_number rfl rfl (Nat.le_of_ble_eq_true rfl) ⟨Nat.le_of_ble_eq_true rfl, Nat.le_of_ble_eq_true rfl⟩ dX2_skin_32 (fun H locs cells slots hS => j_leaves cx hS ht e1 e2)
  refine j_callV (pc := 32) (st1 := [.int y3]) (As := [va_rf y2, .int 1, .int 6]) (rest := []) cx hS rfl hl.1 hm (metX2_number l hfl _ _ _ _ _ _ _ _ (hth.at hS) e9) (jle hf) (hth.at hS) rfl (lw_V q816 q818 qs12 q113 q819) pdX2_number rfl rfl (Nat.le_of_ble_eq_true rfl) ⟨Nat.le_of_ble_eq_true rfl, Nat.le_of_ble_eq_true rfl⟩ dX2_skin_32 rfl (fun H locs cells slots hS => ?_)
  refine lv_istore_n (pc := 35) (i := 2) (lv' := [(2, .int y3), (0, .ref a0), (1, .int x1)]) hx hb dX2_skin_35 rfl hl (Nat.le_of_ble_eq_true rfl) rfl (fun ls hl => ?_)
  refine lv_aload_n (pc := 36) hx hb dX2_skin_36 rfl (lv_at hl 1 rfl) ?_
  refine j_gR (pc := 37) cx hS hf fd_WornSkin_Reader_draft q210 dX2_skin_37 (fun y4 hf => ?_)
  refine j_gR (pc := 40) cx hS hf fd_WornSkin_Library_skins q335 dX2_skin_40 (fun y5 hf => ?_)
  refine j_new (pc := 43) cx hS hf cn_X9 q832 dX2_skin_43 hm (fun q6 h H cells slots hf hS => ?_)
  refine lv_dup (pc := 46) hx hb dX2_skin_46 rfl ?_
  refine lv_iload_n (pc := 47) hx hb dX2_skin_47 rfl (lv_at hl 0 rfl) ?_
  refine lv_aload_n (pc := 48) hx hb dX2_skin_48 rfl (lv_at hl 1 rfl) ?_
  refine j_ldcS (pc := 49) cx hS rfl hf (tx := "thick") (List.mem_of_getElem? (i := 10) rfl) dX2_skin_49 (fun y7 hf => ?_)
  refine lv_iconst (pc := 51) (v := 1) hx hb dX2_skin_51 rfl ?_
  refine lv_bipush (pc := 52) (v := 30) hx hb dX2_skin_52 rfl ?_
  rcases jBT_some hf with ⟨y8, h1, e9, hf⟩ | ⟨x9, e9, ez⟩
  rotate_left
  · have ez : r = .inr x9 := ez
    subst ez
    exact j_callVX (pc := 54) (z := ((), h')) (As := [va_rf y7, .int 1, .int 30]) (rest := [.int y3, .ref q6, .ref q6, va_rf y5]) cx hS rfl hl.1 hm (metX2_number l hfl _ _ _ _ _ _ _ _ (hth.at hS) e9) (jLe.rf _) (hth.at hS) rfl (lw_V q816 q818 qs12 q113 q819) pdX2_number rfl rfl (by simp only [List.map_cons, List.map_nil, List.sum_cons, List.sum_nil, jrfc]; exact Nat.le_of_ble_eq_true rfl) ⟨Nat.le_of_ble_eq_true rfl, Nat.le_of_ble_eq_true rfl⟩ dX2_skin_54 (fun H locs cells slots hS => j_leaves cx hS ht e1 e2)
  refine j_callV (pc := 54) (st1 := [.int y8, .int y3, .ref q6, .ref q6, va_rf y5]) (As := [va_rf y7, .int 1, .int 30]) (rest := [.int y3, .ref q6, .ref q6, va_rf y5]) cx hS rfl hl.1 hm (metX2_number l hfl _ _ _ _ _ _ _ _ (hth.at hS) e9) (jle hf) (hth.at hS) rfl (lw_V q816 q818 qs12 q113 q819) pdX2_number rfl rfl (by simp only [List.map_cons, List.map_nil, List.sum_cons, List.sum_nil, jrfc]; exact Nat.le_of_ble_eq_true rfl) ⟨Nat.le_of_ble_eq_true rfl, Nat.le_of_ble_eq_true rfl⟩ dX2_skin_54 rfl (fun H locs cells slots hS => ?_)
  obtain ⟨_, h1, e9, hf⟩ := jB_some hf
  refine j_callI (pc := 57) (st1 := [.ref q6, va_rf y5]) (As := [.int y3, .int y8]) (rest := [.ref q6, va_rf y5]) cx hS rfl hl.1 hm (metX9_init l _ _ _ _ _ _ e9) (jle hf) rfl q836 q835 q834 q140 pdX9_init rfl rfl (by simp only [List.map_cons, List.map_nil, List.sum_cons, List.sum_nil, jrfc]; exact Nat.le_of_ble_eq_true rfl) ⟨Nat.le_of_ble_eq_true rfl, Nat.le_of_ble_eq_true rfl⟩ dX2_skin_57 rfl (fun H locs cells slots hS => ?_)
  obtain ⟨b11, eb, hrc, hf⟩ := jrc_s hf
  refine j_nn (pc := 60) eb [.ref q6] [] rfl ?_
  obtain ⟨y10, h1, e9, hf⟩ := jB_some hf
  refine j_callV (pc := 60) (st1 := [.int y10]) (As := [.ref q6]) (rest := []) cx hS rfl hl.1 hm (metJ2_add l _ _ _ _ _ hrc e9) (jle hf) hrc rfl (lw_V q726 q727 q728 q118 q729) pdJ2_add rfl rfl (Nat.le_of_ble_eq_true rfl) ⟨Nat.le_of_ble_eq_true rfl, Nat.le_of_ble_eq_true rfl⟩ dX2_skin_60 rfl (fun H locs cells slots hS => ?_)
  refine lv_pop (pc := 63) hx hb dX2_skin_63 rfl ?_
  exact j_vretT (pc := 64) cx hS hf e1 e2 dX2_skin_64
theorem wX2_skin_0 {N : Nat} {r : Unit ⊕ Nat} (cx : jCx p s m args meth c cX2_skin "WornSkin$Reader" 3 (Option.none : Option Jvm.ClassFile.FieldType) D dA H0 hs.2.2.2.2) (e1 : h'.2.2.1 = hs.2.2.1 + mc) (e2 : h'.2.2.2.1 = hs.2.2.2.1 + ms) (hfl : l.stackTraces = false) (ht : c.exceptionTable.toList = []) (a0 : Nat) (hth : jTh hs a0 1) : ∀ (h : jH) (H : Heap) (locs : List Loc) (cells slots : Nat) (ls : Array Slot), (fX2_skin N a0).1 h = some (r, h') → jS D dA H0 hs h H locs cells slots → lv_has ls 3 [(0, .ref a0)] → W p l e { frames := 9, cells := mc, slots := ms, locals := 195 } s m args below meth c H locs cells slots (jQ D dA H0 below s (jOc (fun _ => none) r) h' mc ms) (F0 m 0 ls []) := by
  have hx := cx.1
  have hb := cx.2.1
  have hown := cx.2.2.2.1
  have hts := cx.2.2.2.2.1
  have hm : h'.2.2.1 ≤ hs.2.2.1 + mc ∧ h'.2.2.2.1 ≤ hs.2.2.2.1 + ms := ⟨Nat.le_of_eq e1, Nat.le_of_eq e2⟩
  intro h H locs cells slots ls hf hS hl
  unfold fX2_skin at hf
  refine lv_aload_n (pc := 0) hx hb dX2_skin_0 rfl (lv_at hl 0 rfl) ?_
  refine j_gR (pc := 1) cx hS hf fd_WornSkin_Reader_draft q210 dX2_skin_1 (fun y1 hf => ?_)
  refine j_gR (pc := 4) cx hS hf fd_WornSkin_Library_skins q335 dX2_skin_4 (fun y2 hf => ?_)
  obtain ⟨b4, eb, hrc, hf⟩ := jrc_s hf
  refine j_nn (pc := 7) eb [] [] rfl ?_
  obtain ⟨y3, h1, e9, hf⟩ := jB_some hf
  refine j_callV (pc := 7) (st1 := [.int y3]) (As := []) (rest := []) cx hS rfl hl.1 hm (metJ2_size l _ _ _ _ hrc e9) (jle hf) hrc rfl (lw_V q612 q376 q377 q118 q378) pdJ2_size rfl rfl (Nat.le_of_ble_eq_true rfl) ⟨Nat.le_of_ble_eq_true rfl, Nat.le_of_ble_eq_true rfl⟩ dX2_skin_7 rfl (fun H locs cells slots hS => ?_)
  refine lv_istore_n (pc := 10) (i := 1) (lv' := [(1, .int y3), (0, .ref a0)]) hx hb dX2_skin_10 rfl hl (Nat.le_of_ble_eq_true rfl) rfl (fun ls hl => ?_)
  refine lv_aload_n (pc := 11) hx hb dX2_skin_11 rfl (lv_at hl 1 rfl) ?_
  refine lv_iload_n (pc := 12) hx hb dX2_skin_12 rfl (lv_at hl 0 rfl) ?_
  refine lv_iconst (pc := 13) (v := 3) hx hb dX2_skin_13 rfl ?_
  refine lv_icmp_ne (pc := 14) (tgt := 21) hx hb dX2_skin_14 (by decide) (fun hc => ?_) (fun hc => ?_)
  · have hf := jI_f hf hc
    refine lv_iconst (pc := 21) (v := 0) hx hb dX2_skin_21 rfl ?_
    exact wX2_skin_22 cx e1 e2 hfl ht a0 hth _ _ _ _ _ _ _ _ hf hS (lv_sub hl [1, 0] rfl)
  · have hf := jI_t hf hc
    refine lv_iconst (pc := 17) (v := 1) hx hb dX2_skin_17 rfl ?_
    refine lv_goto (pc := 18) (tgt := 22) hx hb dX2_skin_18 (by decide) ?_
    exact wX2_skin_22 cx e1 e2 hfl ht a0 hth _ _ _ _ _ _ _ _ hf hS (lv_sub hl [1, 0] rfl)
theorem metX2_skin (l : Launch) (hfl : l.stackTraces = false) (N : Nat) (a0 : Nat) (h h' : jH) (r : Unit ⊕ Nat) (hth : jcd h a0 = some 1) (hf : (fX2_skin N a0).1 h = some (r, h')) : jMet l yX2_skin (ws_ yX2_skin cX2_skin 3 (Option.none : Option Jvm.ClassFile.FieldType)) (9) (195) [.ref a0] h h' (jOc (fun _ => none) r) := by
  refine jStartT rfl (jle hf) (Nat.le_of_ble_eq_true rfl) ?_
  intro p e s m below meth c D dA H0 mc ms ls ht cx hnm e1 e2 hS hl
  have hth := jTh.mk hS hth
  exact wX2_skin_0 cx e1 e2 hfl ht a0 hth  _ _ _ _ _ _ hf hS hl
def fX2_told (N : Nat) (a0 : Nat) (x1 : Int32) : jM (Int32 ⊕ Nat) := jB (fX2_isName N a0) fun y1 => if y1 = 0 then (jB (fX2_wrong a0 1) fun y12 => jB (jnn0 y12) fun b13 => jR (.inr b13)) else (jB (jgR [1] 5 (some a0)) fun y2 => jB (jgR [1] 9 (some a0)) fun y3 => jB (jgI [1] 11 (some a0)) fun y4 => jB (jaL 1 y3 y4) fun y5 => jB (jrc 3 y2) fun b7 => jB (fX4_find N b7 y5) fun y6 => jB (fX1_within (y6 - x1) 0 19) fun y8 => if y8 = 0 then (jB (fX2_wrong a0 2) fun y10 => jB (jnn0 y10) fun b11 => jR (.inr b11)) else (jB (jgI [1] 11 (some a0)) fun y9 => jB (jpI [1] 11 (some a0) (y9 + 1)) fun _ => jR (.inl (y6 - x1))))
theorem wX2_told_0 {N : Nat} {r : Int32 ⊕ Nat} (cx : jCx p s m args meth c cX2_told "WornSkin$Reader" 3 (Option.some Jvm.ClassFile.FieldType.int) D dA H0 hs.2.2.2.2) (e1 : h'.2.2.1 = hs.2.2.1 + mc) (e2 : h'.2.2.2.1 = hs.2.2.2.1 + ms) (hfl : l.stackTraces = false) (ht : c.exceptionTable.toList = []) (a0 : Nat) (hth : jTh hs a0 1) : ∀ (x1 : Int32), ∀ (h : jH) (H : Heap) (locs : List Loc) (cells slots : Nat) (ls : Array Slot), (fX2_told N a0 x1).1 h = some (r, h') → jS D dA H0 hs h H locs cells slots → lv_has ls 3 [(0, .ref a0), (1, .int x1)] → W p l e { frames := 8, cells := mc, slots := ms, locals := 171 } s m args below meth c H locs cells slots (jQ D dA H0 below s (jOc (fun v => some (.int v)) r) h' mc ms) (F0 m 0 ls []) := by
  have hx := cx.1
  have hb := cx.2.1
  have hown := cx.2.2.2.1
  have hts := cx.2.2.2.2.1
  have hm : h'.2.2.1 ≤ hs.2.2.1 + mc ∧ h'.2.2.2.1 ≤ hs.2.2.2.1 + ms := ⟨Nat.le_of_eq e1, Nat.le_of_eq e2⟩
  intro x1 h H locs cells slots ls hf hS hl
  unfold fX2_told at hf
  refine lv_aload_n (pc := 0) hx hb dX2_told_0 rfl (lv_at hl 0 rfl) ?_
  obtain ⟨y1, h1, e9, hf⟩ := jB_some hf
  refine j_callV (pc := 1) (st1 := [.int y1]) (As := []) (rest := []) cx hS rfl hl.1 hm (metX2_isName l _ _ _ _ _ (hth.at hS) e9) (jle hf) (hth.at hS) rfl (lw_V q682 q684 qs7 q113 q685) pdX2_isName rfl rfl (Nat.le_of_ble_eq_true rfl) ⟨Nat.le_of_ble_eq_true rfl, Nat.le_of_ble_eq_true rfl⟩ dX2_told_1 rfl (fun H locs cells slots hS => ?_)
  refine lv_if_ne (pc := 4) (tgt := 13) hx hb dX2_told_4 (by decide) (fun hc => ?_) (fun hc => ?_)
  · have hf := jI_f hf hc
    refine lv_aload_n (pc := 13) hx hb dX2_told_13 rfl (lv_at hl 0 rfl) ?_
    refine j_gR (pc := 14) cx hS hf fd_WornSkin_Reader_draft q210 dX2_told_14 (fun y2 hf => ?_)
    refine lv_aload_n (pc := 17) hx hb dX2_told_17 rfl (lv_at hl 0 rfl) ?_
    refine j_gR (pc := 18) cx hS hf fd_WornSkin_Reader_value q215 dX2_told_18 (fun y3 hf => ?_)
    refine lv_aload_n (pc := 21) hx hb dX2_told_21 rfl (lv_at hl 0 rfl) ?_
    refine j_gI (pc := 22) cx hS hf fd_WornSkin_Reader_at q217 dX2_told_22 (fun y4 hf => ?_)
    refine j_aL (pc := 25) cx hS hf rfl dX2_told_25 (fun y5 hf => ?_)
    obtain ⟨b7, eb, hrc, hf⟩ := jrc_s hf
    refine j_nn (pc := 26) eb [.long y5] [] rfl ?_
    obtain ⟨y6, h1, e9, hf⟩ := jB_some hf
    refine j_callV (pc := 26) (st1 := [.int y6]) (As := [.long y5]) (rest := []) cx hS rfl hl.1 hm (metX4_find l _ _ _ _ _ _ hrc e9) (jle hf) hrc rfl (lw_V q690 q691 q692 q115 q693) pdX4_find rfl rfl (Nat.le_of_ble_eq_true rfl) ⟨Nat.le_of_ble_eq_true rfl, Nat.le_of_ble_eq_true rfl⟩ dX2_told_26 rfl (fun H locs cells slots hS => ?_)
    refine lv_iload_n (pc := 29) hx hb dX2_told_29 rfl (lv_at hl 1 rfl) ?_
    refine lv_isub (pc := 30) hx hb dX2_told_30 ?_
    refine lv_istore_n (pc := 31) (i := 2) (lv' := [(2, .int (y6 - x1)), (0, .ref a0), (1, .int x1)]) hx hb dX2_told_31 rfl hl (Nat.le_of_ble_eq_true rfl) rfl (fun ls hl => ?_)
    refine lv_iload_n (pc := 32) hx hb dX2_told_32 rfl (lv_at hl 0 rfl) ?_
    refine lv_iconst (pc := 33) (v := 0) hx hb dX2_told_33 rfl ?_
    refine lv_bipush (pc := 34) (v := 19) hx hb dX2_told_34 rfl ?_
    obtain ⟨y8, h1, e9, hf⟩ := jB_some hf
    refine j_callSN (pc := 36) (st1 := [.int y8]) (As := [.int (y6 - x1), .int 0, .int 19]) (rest := []) cx hS rfl hl.1 hm (metX1_within l _ _ _ _ _ _ e9) (jle hf) q469 q468 q467 q112 pdX1_within rfl rfl (Nat.le_of_ble_eq_true rfl) ⟨Nat.le_of_ble_eq_true rfl, Nat.le_of_ble_eq_true rfl⟩ dX2_told_36 rfl (fun H locs cells slots hS => ?_)
    refine lv_if_ne (pc := 39) (tgt := 48) hx hb dX2_told_39 (by decide) (fun hc => ?_) (fun hc => ?_)
    · have hf := jI_f hf hc
      refine lv_aload_n (pc := 48) hx hb dX2_told_48 rfl (lv_at hl 1 rfl) ?_
      refine lv_dup (pc := 49) hx hb dX2_told_49 rfl ?_
      refine j_gI (pc := 50) cx hS hf fd_WornSkin_Reader_at q217 dX2_told_50 (fun y9 hf => ?_)
      refine lv_iconst (pc := 53) (v := 1) hx hb dX2_told_53 rfl ?_
      refine lv_iadd (pc := 54) hx hb dX2_told_54 ?_
      refine j_pI (pc := 55) cx hS hf fp_WornSkin_Reader_at (Or.inl rfl) q217 dX2_told_55 (fun h H locs hf hS => ?_)
      refine lv_iload_n (pc := 58) hx hb dX2_told_58 rfl (lv_at hl 0 rfl) ?_
      exact j_iretT (pc := 59) cx hS hf e1 e2 dX2_told_59
    · have hf := jI_t hf hc
      refine lv_aload_n (pc := 42) hx hb dX2_told_42 rfl (lv_at hl 1 rfl) ?_
      refine lv_iconst (pc := 43) (v := 2) hx hb dX2_told_43 rfl ?_
      obtain ⟨y10, h1, e9, hf⟩ := jB_some hf
      refine j_callV (pc := 44) (st1 := [va_rf y10]) (As := [.int 2]) (rest := []) cx hS rfl hl.1 hm (metX2_wrong l hfl _ _ _ _ _ (hth.at hS) e9) (jle hf) (hth.at hS) rfl (lw_V q617 q619 qs5 q113 q620) pdX2_wrong rfl rfl (Nat.le_of_ble_eq_true rfl) ⟨Nat.le_of_ble_eq_true rfl, Nat.le_of_ble_eq_true rfl⟩ dX2_told_44 rfl (fun H locs cells slots hS => ?_)
      exact j_athrow (pc := 47) (r := y10) cx hS ht hf e1 e2 dX2_told_47
  · have hf := jI_t hf hc
    refine lv_aload_n (pc := 7) hx hb dX2_told_7 rfl (lv_at hl 0 rfl) ?_
    refine lv_iconst (pc := 8) (v := 1) hx hb dX2_told_8 rfl ?_
    obtain ⟨y12, h1, e9, hf⟩ := jB_some hf
    refine j_callV (pc := 9) (st1 := [va_rf y12]) (As := [.int 1]) (rest := []) cx hS rfl hl.1 hm (metX2_wrong l hfl _ _ _ _ _ (hth.at hS) e9) (jle hf) (hth.at hS) rfl (lw_V q617 q619 qs5 q113 q620) pdX2_wrong rfl rfl (Nat.le_of_ble_eq_true rfl) ⟨Nat.le_of_ble_eq_true rfl, Nat.le_of_ble_eq_true rfl⟩ dX2_told_9 rfl (fun H locs cells slots hS => ?_)
    exact j_athrow (pc := 12) (r := y12) cx hS ht hf e1 e2 dX2_told_12
theorem metX2_told (l : Launch) (hfl : l.stackTraces = false) (N : Nat) (a0 : Nat) (x1 : Int32) (h h' : jH) (r : Int32 ⊕ Nat) (hth : jcd h a0 = some 1) (hf : (fX2_told N a0 x1).1 h = some (r, h')) : jMet l yX2_told (ws_ yX2_told cX2_told 3 (Option.some Jvm.ClassFile.FieldType.int)) (8) (171) [.ref a0, .int x1] h h' (jOc (fun v => some (.int v)) r) := by
  refine jStartT rfl (jle hf) (Nat.le_of_ble_eq_true rfl) ?_
  intro p e s m below meth c D dA H0 mc ms ls ht cx hnm e1 e2 hS hl
  have hth := jTh.mk hS hth
  exact wX2_told_0 cx e1 e2 hfl ht a0 hth _ _ _ _ _ _ _ hf hS hl
def fX2_hole (N : Nat) (a0 : Nat) : jM (Unit ⊕ Nat) := jB (jgI [1] 11 (some a0)) fun y1 => jB (jpI [1] 11 (some a0) (y1 + 1)) fun _ => jB (jgR [1] 5 (some a0)) fun y2 => jB (jgR [3] 2 y2) fun y3 => jBT (fX2_told N a0 0) fun y4 => jB (jrc 4 y3) fun b6 => jB (fJ2_get b6 y4) fun y5 => jB (jck [12] y5) fun _ => jB (jgI [12] 0 y5) fun y7 => jBT (fX2_number_2 a0 0 (y7 - 1)) fun y8 => jB (jgI [12] 2 y5) fun y9 => jB (fX1_has y9 y8) fun y10 => if y10 = 0 then (jB (jgI [12] 2 y5) fun y11 => jB (jpI [12] 2 y5 (y11 ||| (1 <<< (y8 &&& 31)))) fun _ => jR (.inl ())) else (jB (jgI [1] 11 (some a0)) fun y12 => jB (jpI [1] 11 (some a0) (y12 - 1)) fun _ => jB (fX2_wrong a0 3) fun y13 => jB (jnn0 y13) fun b14 => jR (.inr b14))
theorem wX2_hole_0 {N : Nat} {r : Unit ⊕ Nat} (cx : jCx p s m args meth c cX2_hole "WornSkin$Reader" 3 (Option.none : Option Jvm.ClassFile.FieldType) D dA H0 hs.2.2.2.2) (e1 : h'.2.2.1 = hs.2.2.1 + mc) (e2 : h'.2.2.2.1 = hs.2.2.2.1 + ms) (hfl : l.stackTraces = false) (ht : c.exceptionTable.toList = []) (a0 : Nat) (hth : jTh hs a0 1) : ∀ (h : jH) (H : Heap) (locs : List Loc) (cells slots : Nat) (ls : Array Slot), (fX2_hole N a0).1 h = some (r, h') → jS D dA H0 hs h H locs cells slots → lv_has ls 3 [(0, .ref a0)] → W p l e { frames := 9, cells := mc, slots := ms, locals := 193 } s m args below meth c H locs cells slots (jQ D dA H0 below s (jOc (fun _ => none) r) h' mc ms) (F0 m 0 ls []) := by
  have hx := cx.1
  have hb := cx.2.1
  have hown := cx.2.2.2.1
  have hts := cx.2.2.2.2.1
  have hm : h'.2.2.1 ≤ hs.2.2.1 + mc ∧ h'.2.2.2.1 ≤ hs.2.2.2.1 + ms := ⟨Nat.le_of_eq e1, Nat.le_of_eq e2⟩
  intro h H locs cells slots ls hf hS hl
  unfold fX2_hole at hf
  refine lv_aload_n (pc := 0) hx hb dX2_hole_0 rfl (lv_at hl 0 rfl) ?_
  refine lv_dup (pc := 1) hx hb dX2_hole_1 rfl ?_
  refine j_gI (pc := 2) cx hS hf fd_WornSkin_Reader_at q217 dX2_hole_2 (fun y1 hf => ?_)
  refine lv_iconst (pc := 5) (v := 1) hx hb dX2_hole_5 rfl ?_
  refine lv_iadd (pc := 6) hx hb dX2_hole_6 ?_
  refine j_pI (pc := 7) cx hS hf fp_WornSkin_Reader_at (Or.inl rfl) q217 dX2_hole_7 (fun h H locs hf hS => ?_)
  refine lv_aload_n (pc := 10) hx hb dX2_hole_10 rfl (lv_at hl 0 rfl) ?_
  refine j_gR (pc := 11) cx hS hf fd_WornSkin_Reader_draft q210 dX2_hole_11 (fun y2 hf => ?_)
  refine j_gR (pc := 14) cx hS hf fd_WornSkin_Library_skins q335 dX2_hole_14 (fun y3 hf => ?_)
  refine lv_aload_n (pc := 17) hx hb dX2_hole_17 rfl (lv_at hl 0 rfl) ?_
  refine lv_iconst (pc := 18) (v := 0) hx hb dX2_hole_18 rfl ?_
  rcases jBT_some hf with ⟨y4, h1, e9, hf⟩ | ⟨x9, e9, ez⟩
  rotate_left
  · have ez : r = .inr x9 := ez
    subst ez
    exact j_callVX (pc := 19) (z := ((), h')) (As := [.int 0]) (rest := [va_rf y3]) cx hS rfl hl.1 hm (metX2_told l hfl _ _ _ _ _ _ (hth.at hS) e9) (jLe.rf _) (hth.at hS) rfl (lw_V q858 q860 qs17 q113 q861) pdX2_told rfl rfl (by simp only [List.map_cons, List.map_nil, List.sum_cons, List.sum_nil, jrfc]; exact Nat.le_of_ble_eq_true rfl) ⟨Nat.le_of_ble_eq_true rfl, Nat.le_of_ble_eq_true rfl⟩ dX2_hole_19 (fun H locs cells slots hS => j_leaves cx hS ht e1 e2)
  refine j_callV (pc := 19) (st1 := [.int y4, va_rf y3]) (As := [.int 0]) (rest := [va_rf y3]) cx hS rfl hl.1 hm (metX2_told l hfl _ _ _ _ _ _ (hth.at hS) e9) (jle hf) (hth.at hS) rfl (lw_V q858 q860 qs17 q113 q861) pdX2_told rfl rfl (by simp only [List.map_cons, List.map_nil, List.sum_cons, List.sum_nil, jrfc]; exact Nat.le_of_ble_eq_true rfl) ⟨Nat.le_of_ble_eq_true rfl, Nat.le_of_ble_eq_true rfl⟩ dX2_hole_19 rfl (fun H locs cells slots hS => ?_)
  obtain ⟨b6, eb, hrc, hf⟩ := jrc_s hf
  refine j_nn (pc := 22) eb [.int y4] [] rfl ?_
  obtain ⟨y5, h1, e9, hf⟩ := jB_some hf
  refine j_callV (pc := 22) (st1 := [va_rf y5]) (As := [.int y4]) (rest := []) cx hS rfl hl.1 hm (metJ2_get l _ _ _ _ _ hrc e9) (jle hf) hrc rfl (lw_V q862 q384 q385 q118 q386) pdJ2_get rfl rfl (Nat.le_of_ble_eq_true rfl) ⟨Nat.le_of_ble_eq_true rfl, Nat.le_of_ble_eq_true rfl⟩ dX2_hole_22 rfl (fun H locs cells slots hS => ?_)
  refine j_cast (pc := 25) cx hS hf ok_WornSkin_Skin q832 dX2_hole_25 (fun hf => ?_)
  refine j_astore_n (pc := 28) (i := 1) (r := y5) (lv' := [(1, va_rf y5), (0, .ref a0)]) hx hb dX2_hole_28 rfl hl (Nat.le_of_ble_eq_true rfl) rfl (fun ls hl => ?_)
  refine lv_aload_n (pc := 29) hx hb dX2_hole_29 rfl (lv_at hl 1 rfl) ?_
  refine lv_iconst (pc := 30) (v := 0) hx hb dX2_hole_30 rfl ?_
  refine j_aload_n (pc := 31) (r := y5) hx hb dX2_hole_31 rfl (lv_at hl 0 rfl) ?_
  refine j_gI (pc := 32) cx hS hf fd_WornSkin_Skin_lines q841 dX2_hole_32 (fun y7 hf => ?_)
  refine lv_iconst (pc := 35) (v := 1) hx hb dX2_hole_35 rfl ?_
  refine lv_isub (pc := 36) hx hb dX2_hole_36 ?_
  rcases jBT_some hf with ⟨y8, h1, e9, hf⟩ | ⟨x9, e9, ez⟩
  rotate_left
  · have ez : r = .inr x9 := ez
    subst ez
    exact j_callVX (pc := 37) (z := ((), h')) (As := [.int 0, .int (y7 - 1)]) (rest := []) cx hS rfl hl.1 hm (metX2_number_2 l hfl _ _ _ _ _ _ (hth.at hS) e9) (jLe.rf _) (hth.at hS) rfl (lw_V q828 q830 qs15 q113 q831) pdX2_number_2 rfl rfl (Nat.le_of_ble_eq_true rfl) ⟨Nat.le_of_ble_eq_true rfl, Nat.le_of_ble_eq_true rfl⟩ dX2_hole_37 (fun H locs cells slots hS => j_leaves cx hS ht e1 e2)
  refine j_callV (pc := 37) (st1 := [.int y8]) (As := [.int 0, .int (y7 - 1)]) (rest := []) cx hS rfl hl.1 hm (metX2_number_2 l hfl _ _ _ _ _ _ (hth.at hS) e9) (jle hf) (hth.at hS) rfl (lw_V q828 q830 qs15 q113 q831) pdX2_number_2 rfl rfl (Nat.le_of_ble_eq_true rfl) ⟨Nat.le_of_ble_eq_true rfl, Nat.le_of_ble_eq_true rfl⟩ dX2_hole_37 rfl (fun H locs cells slots hS => ?_)
  refine lv_istore_n (pc := 40) (i := 2) (lv' := [(2, .int y8), (1, va_rf y5), (0, .ref a0)]) hx hb dX2_hole_40 rfl hl (Nat.le_of_ble_eq_true rfl) (by cases y5 <;> rfl) (fun ls hl => ?_)
  refine j_aload_n (pc := 41) (r := y5) hx hb dX2_hole_41 rfl (lv_at hl 1 rfl) ?_
  refine j_gI (pc := 42) cx hS hf fd_WornSkin_Skin_holes q846 dX2_hole_42 (fun y9 hf => ?_)
  refine lv_iload_n (pc := 45) hx hb dX2_hole_45 rfl (lv_at hl 0 rfl) ?_
  obtain ⟨y10, h1, e9, hf⟩ := jB_some hf
  refine j_callSN (pc := 46) (st1 := [.int y10]) (As := [.int y9, .int y8]) (rest := []) cx hS rfl hl.1 hm (metX1_has l _ _ _ _ _ e9) (jle hf) q865 q864 q863 q112 pdX1_has rfl rfl (Nat.le_of_ble_eq_true rfl) ⟨Nat.le_of_ble_eq_true rfl, Nat.le_of_ble_eq_true rfl⟩ dX2_hole_46 rfl (fun H locs cells slots hS => ?_)
  refine lv_if_eq (pc := 49) (tgt := 68) hx hb dX2_hole_49 (by decide) (fun hc => ?_) (fun hc => ?_)
  · have hf := jI_t hf hc
    refine j_aload_n (pc := 68) (r := y5) hx hb dX2_hole_68 rfl (lv_at hl 1 rfl) ?_
    refine lv_dup (pc := 69) hx hb dX2_hole_69 (jrfc _) ?_
    refine j_gI (pc := 70) cx hS hf fd_WornSkin_Skin_holes q846 dX2_hole_70 (fun y11 hf => ?_)
    refine lv_iconst (pc := 73) (v := 1) hx hb dX2_hole_73 rfl ?_
    refine lv_iload_n (pc := 74) hx hb dX2_hole_74 rfl (lv_at hl 0 rfl) ?_
    refine lv_ishl (pc := 75) hx hb dX2_hole_75 ?_
    refine lv_ior (pc := 76) hx hb dX2_hole_76 ?_
    refine j_pI (pc := 77) cx hS hf fp_WornSkin_Skin_holes (Or.inl rfl) q846 dX2_hole_77 (fun h H locs hf hS => ?_)
    exact j_vretT (pc := 80) cx hS hf e1 e2 dX2_hole_80
  · have hf := jI_f hf hc
    refine lv_aload_n (pc := 52) hx hb dX2_hole_52 rfl (lv_at hl 2 rfl) ?_
    refine lv_dup (pc := 53) hx hb dX2_hole_53 rfl ?_
    refine j_gI (pc := 54) cx hS hf fd_WornSkin_Reader_at q217 dX2_hole_54 (fun y12 hf => ?_)
    refine lv_iconst (pc := 57) (v := 1) hx hb dX2_hole_57 rfl ?_
    refine lv_isub (pc := 58) hx hb dX2_hole_58 ?_
    refine j_pI (pc := 59) cx hS hf fp_WornSkin_Reader_at (Or.inl rfl) q217 dX2_hole_59 (fun h H locs hf hS => ?_)
    refine lv_aload_n (pc := 62) hx hb dX2_hole_62 rfl (lv_at hl 2 rfl) ?_
    refine lv_iconst (pc := 63) (v := 3) hx hb dX2_hole_63 rfl ?_
    obtain ⟨y13, h1, e9, hf⟩ := jB_some hf
    refine j_callV (pc := 64) (st1 := [va_rf y13]) (As := [.int 3]) (rest := []) cx hS rfl hl.1 hm (metX2_wrong l hfl _ _ _ _ _ (hth.at hS) e9) (jle hf) (hth.at hS) rfl (lw_V q617 q619 qs5 q113 q620) pdX2_wrong rfl rfl (Nat.le_of_ble_eq_true rfl) ⟨Nat.le_of_ble_eq_true rfl, Nat.le_of_ble_eq_true rfl⟩ dX2_hole_64 rfl (fun H locs cells slots hS => ?_)
    exact j_athrow (pc := 67) (r := y13) cx hS ht hf e1 e2 dX2_hole_67
theorem metX2_hole (l : Launch) (hfl : l.stackTraces = false) (N : Nat) (a0 : Nat) (h h' : jH) (r : Unit ⊕ Nat) (hth : jcd h a0 = some 1) (hf : (fX2_hole N a0).1 h = some (r, h')) : jMet l yX2_hole (ws_ yX2_hole cX2_hole 3 (Option.none : Option Jvm.ClassFile.FieldType)) (9) (193) [.ref a0] h h' (jOc (fun _ => none) r) := by
  refine jStartT rfl (jle hf) (Nat.le_of_ble_eq_true rfl) ?_
  intro p e s m below meth c D dA H0 mc ms ls ht cx hnm e1 e2 hS hl
  have hth := jTh.mk hS hth
  exact wX2_hole_0 cx e1 e2 hfl ht a0 hth  _ _ _ _ _ _ hf hS hl
def fX2_one (N : Nat) (a0 : Nat) (x1 : Option Nat) : jM (Int32 ⊕ Nat) := jB (fX2_which N a0 x1) fun y1 => if y1 = (-1) then (jB (fX2_wrong a0 1) fun y3 => jB (jnn0 y3) fun b4 => jR (.inr b4)) else (jB (jgI [1] 11 (some a0)) fun y2 => jB (jpI [1] 11 (some a0) (y2 + 1)) fun _ => jR (.inl y1))
theorem wX2_one_0 {N : Nat} {r : Int32 ⊕ Nat} (cx : jCx p s m args meth c cX2_one "WornSkin$Reader" 3 (Option.some Jvm.ClassFile.FieldType.int) D dA H0 hs.2.2.2.2) (e1 : h'.2.2.1 = hs.2.2.1 + mc) (e2 : h'.2.2.2.1 = hs.2.2.2.1 + ms) (hfl : l.stackTraces = false) (ht : c.exceptionTable.toList = []) (a0 : Nat) (hth : jTh hs a0 1) : ∀ (x1 : Option Nat), ∀ (h : jH) (H : Heap) (locs : List Loc) (cells slots : Nat) (ls : Array Slot), (fX2_one N a0 x1).1 h = some (r, h') → jS D dA H0 hs h H locs cells slots → lv_has ls 3 [(0, .ref a0), (1, va_rf x1)] → W p l e { frames := 7, cells := mc, slots := ms, locals := 151 } s m args below meth c H locs cells slots (jQ D dA H0 below s (jOc (fun v => some (.int v)) r) h' mc ms) (F0 m 0 ls []) := by
  have hx := cx.1
  have hb := cx.2.1
  have hown := cx.2.2.2.1
  have hts := cx.2.2.2.2.1
  have hm : h'.2.2.1 ≤ hs.2.2.1 + mc ∧ h'.2.2.2.1 ≤ hs.2.2.2.1 + ms := ⟨Nat.le_of_eq e1, Nat.le_of_eq e2⟩
  intro x1 h H locs cells slots ls hf hS hl
  unfold fX2_one at hf
  refine lv_aload_n (pc := 0) hx hb dX2_one_0 rfl (lv_at hl 0 rfl) ?_
  refine j_aload_n (pc := 1) (r := x1) hx hb dX2_one_1 rfl (lv_at hl 1 rfl) ?_
  obtain ⟨y1, h1, e9, hf⟩ := jB_some hf
  refine j_callV (pc := 2) (st1 := [.int y1]) (As := [va_rf x1]) (rest := []) cx hS rfl hl.1 hm (metX2_which l _ _ _ _ _ _ (hth.at hS) e9) (jle hf) (hth.at hS) rfl (lw_V q686 q688 qs8 q113 q689) pdX2_which rfl rfl (Nat.le_of_ble_eq_true rfl) ⟨Nat.le_of_ble_eq_true rfl, Nat.le_of_ble_eq_true rfl⟩ dX2_one_2 rfl (fun H locs cells slots hS => ?_)
  refine lv_istore_n (pc := 5) (i := 2) (lv' := [(2, .int y1), (0, .ref a0), (1, va_rf x1)]) hx hb dX2_one_5 rfl hl (Nat.le_of_ble_eq_true rfl) (by cases x1 <;> rfl) (fun ls hl => ?_)
  refine lv_iload_n (pc := 6) hx hb dX2_one_6 rfl (lv_at hl 0 rfl) ?_
  refine lv_iconst (pc := 7) (v := (-1)) hx hb dX2_one_7 rfl ?_
  refine lv_icmp_ne (pc := 8) (tgt := 17) hx hb dX2_one_8 (by decide) (fun hc => ?_) (fun hc => ?_)
  · have hf := jI_f hf hc
    refine lv_aload_n (pc := 17) hx hb dX2_one_17 rfl (lv_at hl 1 rfl) ?_
    refine lv_dup (pc := 18) hx hb dX2_one_18 rfl ?_
    refine j_gI (pc := 19) cx hS hf fd_WornSkin_Reader_at q217 dX2_one_19 (fun y2 hf => ?_)
    refine lv_iconst (pc := 22) (v := 1) hx hb dX2_one_22 rfl ?_
    refine lv_iadd (pc := 23) hx hb dX2_one_23 ?_
    refine j_pI (pc := 24) cx hS hf fp_WornSkin_Reader_at (Or.inl rfl) q217 dX2_one_24 (fun h H locs hf hS => ?_)
    refine lv_iload_n (pc := 27) hx hb dX2_one_27 rfl (lv_at hl 0 rfl) ?_
    exact j_iretT (pc := 28) cx hS hf e1 e2 dX2_one_28
  · have hf := jI_t hf hc
    refine lv_aload_n (pc := 11) hx hb dX2_one_11 rfl (lv_at hl 1 rfl) ?_
    refine lv_iconst (pc := 12) (v := 1) hx hb dX2_one_12 rfl ?_
    obtain ⟨y3, h1, e9, hf⟩ := jB_some hf
    refine j_callV (pc := 13) (st1 := [va_rf y3]) (As := [.int 1]) (rest := []) cx hS rfl hl.1 hm (metX2_wrong l hfl _ _ _ _ _ (hth.at hS) e9) (jle hf) (hth.at hS) rfl (lw_V q617 q619 qs5 q113 q620) pdX2_wrong rfl rfl (Nat.le_of_ble_eq_true rfl) ⟨Nat.le_of_ble_eq_true rfl, Nat.le_of_ble_eq_true rfl⟩ dX2_one_13 rfl (fun H locs cells slots hS => ?_)
    exact j_athrow (pc := 16) (r := y3) cx hS ht hf e1 e2 dX2_one_16
theorem metX2_one (l : Launch) (hfl : l.stackTraces = false) (N : Nat) (a0 : Nat) (x1 : Option Nat) (h h' : jH) (r : Int32 ⊕ Nat) (hth : jcd h a0 = some 1) (hf : (fX2_one N a0 x1).1 h = some (r, h')) : jMet l yX2_one (ws_ yX2_one cX2_one 3 (Option.some Jvm.ClassFile.FieldType.int)) (7) (151) [.ref a0, va_rf x1] h h' (jOc (fun v => some (.int v)) r) := by
  refine jStartT rfl (jle hf) (by cases x1 <;> exact Nat.le_of_ble_eq_true rfl) ?_
  intro p e s m below meth c D dA H0 mc ms ls ht cx hnm e1 e2 hS hl
  have hl : lv_has ls 3 [(0, .ref a0), (1, va_rf x1)] := by cases x1 <;> exact hl
  have hth := jTh.mk hS hth
  exact wX2_one_0 cx e1 e2 hfl ht a0 hth _ _ _ _ _ _ _ hf hS hl
def fX2_text_56 (N : Nat) (a0 : Nat) (x2 : Int32) (v0 : Int32) : jM (Unit ⊕ Nat) := jB (jgR [1] 5 (some a0)) fun y1 => jB (jgR [3] 3 y1) fun y2 => jB (jK 10) fun y3 => jBT (fX2_number N a0 y3 1 6) fun y4 => jB (fX1_made x2 v0 y4) fun y5 => jB (jrc 4 y2) fun b7 => jB (fJ2_add b7 y5) fun y6 => jR (.inl ())
def fX2_text_23 (N : Nat) (a0 : Nat) (x1 : Int32) (v1 : Int32) : jM (Unit ⊕ Nat) := jBT (fX2_newName N a0 v1 (20 + x1)) fun _ => jB (jgR [1] 1 (some a0)) fun y2 => jBT (fX2_one N a0 y2) fun y3 => jB (jgR [1] 3 (some a0)) fun y4 => jBT (fX2_one N a0 y4) fun y5 => if y5 = 1 then (fX2_text_56 N a0 y3 1) else (fX2_text_56 N a0 y3 0)
def fX2_text (N : Nat) (a0 : Nat) : jM (Unit ⊕ Nat) := jB (jgR [1] 5 (some a0)) fun y1 => jB (jgR [3] 3 y1) fun y2 => jB (jrc 4 y2) fun b4 => jB (fJ2_size b4) fun y3 => if y3 = 6 then (fX2_text_23 N a0 y3 1) else (fX2_text_23 N a0 y3 0)
theorem wX2_text_56 {N : Nat} {r : Unit ⊕ Nat} (cx : jCx p s m args meth c cX2_text "WornSkin$Reader" 4 (Option.none : Option Jvm.ClassFile.FieldType) D dA H0 hs.2.2.2.2) (e1 : h'.2.2.1 = hs.2.2.1 + mc) (e2 : h'.2.2.2.1 = hs.2.2.2.1 + ms) (hfl : l.stackTraces = false) (ht : c.exceptionTable.toList = []) (a0 : Nat) (hth : jTh hs a0 1) : ∀ (x2 : Int32) (v0 : Int32), ∀ (h : jH) (H : Heap) (locs : List Loc) (cells slots : Nat) (ls : Array Slot), (fX2_text_56 N a0 x2 v0).1 h = some (r, h') → jS D dA H0 hs h H locs cells slots → lv_has ls 4 [(0, .ref a0), (2, .int x2)] → W p l e { frames := 9, cells := mc, slots := ms, locals := 195 } s m args below meth c H locs cells slots (jQ D dA H0 below s (jOc (fun _ => none) r) h' mc ms) (F0 m 56 ls [.int v0]) := by
  have hx := cx.1
  have hb := cx.2.1
  have hown := cx.2.2.2.1
  have hts := cx.2.2.2.2.1
  have hm : h'.2.2.1 ≤ hs.2.2.1 + mc ∧ h'.2.2.2.1 ≤ hs.2.2.2.1 + ms := ⟨Nat.le_of_eq e1, Nat.le_of_eq e2⟩
  intro x2 v0 h H locs cells slots ls hf hS hl
  unfold fX2_text_56 at hf
  refine lv_istore_n (pc := 56) (i := 3) (lv' := [(3, .int v0), (0, .ref a0), (2, .int x2)]) hx hb dX2_text_56 rfl hl (Nat.le_of_ble_eq_true rfl) rfl (fun ls hl => ?_)
  refine lv_aload_n (pc := 57) hx hb dX2_text_57 rfl (lv_at hl 1 rfl) ?_
  refine j_gR (pc := 58) cx hS hf fd_WornSkin_Reader_draft q210 dX2_text_58 (fun y1 hf => ?_)
  refine j_gR (pc := 61) cx hS hf fd_WornSkin_Library_texts q339 dX2_text_61 (fun y2 hf => ?_)
  refine lv_iload_n (pc := 64) hx hb dX2_text_64 rfl (lv_at hl 2 rfl) ?_
  refine lv_iload_n (pc := 65) hx hb dX2_text_65 rfl (lv_at hl 0 rfl) ?_
  refine lv_aload_n (pc := 66) hx hb dX2_text_66 rfl (lv_at hl 1 rfl) ?_
  refine j_ldcS (pc := 67) cx hS rfl hf (tx := "lines") (List.mem_of_getElem? (i := 9) rfl) dX2_text_67 (fun y3 hf => ?_)
  refine lv_iconst (pc := 69) (v := 1) hx hb dX2_text_69 rfl ?_
  refine lv_bipush (pc := 70) (v := 6) hx hb dX2_text_70 rfl ?_
  rcases jBT_some hf with ⟨y4, h1, e9, hf⟩ | ⟨x9, e9, ez⟩
  rotate_left
  · have ez : r = .inr x9 := ez
    subst ez
    exact j_callVX (pc := 72) (z := ((), h')) (As := [va_rf y3, .int 1, .int 6]) (rest := [.int v0, .int x2, va_rf y2]) cx hS rfl hl.1 hm (metX2_number l hfl _ _ _ _ _ _ _ _ (hth.at hS) e9) (jLe.rf _) (hth.at hS) rfl (lw_V q816 q818 qs12 q113 q819) pdX2_number rfl rfl (by simp only [List.map_cons, List.map_nil, List.sum_cons, List.sum_nil, jrfc]; exact Nat.le_of_ble_eq_true rfl) ⟨Nat.le_of_ble_eq_true rfl, Nat.le_of_ble_eq_true rfl⟩ dX2_text_72 (fun H locs cells slots hS => j_leaves cx hS ht e1 e2)
  refine j_callV (pc := 72) (st1 := [.int y4, .int v0, .int x2, va_rf y2]) (As := [va_rf y3, .int 1, .int 6]) (rest := [.int v0, .int x2, va_rf y2]) cx hS rfl hl.1 hm (metX2_number l hfl _ _ _ _ _ _ _ _ (hth.at hS) e9) (jle hf) (hth.at hS) rfl (lw_V q816 q818 qs12 q113 q819) pdX2_number rfl rfl (by simp only [List.map_cons, List.map_nil, List.sum_cons, List.sum_nil, jrfc]; exact Nat.le_of_ble_eq_true rfl) ⟨Nat.le_of_ble_eq_true rfl, Nat.le_of_ble_eq_true rfl⟩ dX2_text_72 rfl (fun H locs cells slots hS => ?_)
  obtain ⟨y5, h1, e9, hf⟩ := jB_some hf
  refine j_callSN (pc := 75) (st1 := [va_rf y5, va_rf y2]) (As := [.int x2, .int v0, .int y4]) (rest := [va_rf y2]) cx hS rfl hl.1 hm (metX1_made l _ _ _ _ _ _ e9) (jle hf) q876 q875 q874 q112 pdX1_made rfl rfl (by simp only [List.map_cons, List.map_nil, List.sum_cons, List.sum_nil, jrfc]; exact Nat.le_of_ble_eq_true rfl) ⟨Nat.le_of_ble_eq_true rfl, Nat.le_of_ble_eq_true rfl⟩ dX2_text_75 rfl (fun H locs cells slots hS => ?_)
  obtain ⟨b7, eb, hrc, hf⟩ := jrc_s hf
  refine j_nn (pc := 78) eb [va_rf y5] [] rfl ?_
  obtain ⟨y6, h1, e9, hf⟩ := jB_some hf
  refine j_callV (pc := 78) (st1 := [.int y6]) (As := [va_rf y5]) (rest := []) cx hS rfl hl.1 hm (metJ2_add l _ _ _ _ _ hrc e9) (jle hf) hrc rfl (lw_V q726 q727 q728 q118 q729) pdJ2_add rfl rfl (Nat.le_of_ble_eq_true rfl) ⟨Nat.le_of_ble_eq_true rfl, Nat.le_of_ble_eq_true rfl⟩ dX2_text_78 rfl (fun H locs cells slots hS => ?_)
  refine lv_pop (pc := 81) hx hb dX2_text_81 rfl ?_
  exact j_vretT (pc := 82) cx hS hf e1 e2 dX2_text_82
theorem wX2_text_23 {N : Nat} {r : Unit ⊕ Nat} (cx : jCx p s m args meth c cX2_text "WornSkin$Reader" 4 (Option.none : Option Jvm.ClassFile.FieldType) D dA H0 hs.2.2.2.2) (e1 : h'.2.2.1 = hs.2.2.1 + mc) (e2 : h'.2.2.2.1 = hs.2.2.2.1 + ms) (hfl : l.stackTraces = false) (ht : c.exceptionTable.toList = []) (a0 : Nat) (hth : jTh hs a0 1) : ∀ (x1 : Int32) (v1 : Int32), ∀ (h : jH) (H : Heap) (locs : List Loc) (cells slots : Nat) (ls : Array Slot), (fX2_text_23 N a0 x1 v1).1 h = some (r, h') → jS D dA H0 hs h H locs cells slots → lv_has ls 4 [(0, .ref a0), (1, .int x1)] → W p l e { frames := 9, cells := mc, slots := ms, locals := 195 } s m args below meth c H locs cells slots (jQ D dA H0 below s (jOc (fun _ => none) r) h' mc ms) (F0 m 23 ls [.int v1, .ref a0]) := by
  have hx := cx.1
  have hb := cx.2.1
  have hown := cx.2.2.2.1
  have hts := cx.2.2.2.2.1
  have hm : h'.2.2.1 ≤ hs.2.2.1 + mc ∧ h'.2.2.2.1 ≤ hs.2.2.2.1 + ms := ⟨Nat.le_of_eq e1, Nat.le_of_eq e2⟩
  intro x1 v1 h H locs cells slots ls hf hS hl
  unfold fX2_text_23 at hf
  refine lv_bipush (pc := 23) (v := 20) hx hb dX2_text_23 rfl ?_
  refine lv_iload_n (pc := 25) hx hb dX2_text_25 rfl (lv_at hl 1 rfl) ?_
  refine lv_iadd (pc := 26) hx hb dX2_text_26 ?_
  rcases jBT_some hf with ⟨_, h1, e9, hf⟩ | ⟨x9, e9, ez⟩
  rotate_left
  · have ez : r = .inr x9 := ez
    subst ez
    exact j_callVX (pc := 27) (z := ((), h')) (As := [.int v1, .int (20 + x1)]) (rest := []) cx hS rfl hl.1 hm (metX2_newName l hfl _ _ _ _ _ _ _ (hth.at hS) e9) (jLe.rf _) (hth.at hS) rfl (lw_V q613 q615 qs4 q113 q616) pdX2_newName rfl rfl (Nat.le_of_ble_eq_true rfl) ⟨Nat.le_of_ble_eq_true rfl, Nat.le_of_ble_eq_true rfl⟩ dX2_text_27 (fun H locs cells slots hS => j_leaves cx hS ht e1 e2)
  refine j_callV (pc := 27) (st1 := []) (As := [.int v1, .int (20 + x1)]) (rest := []) cx hS rfl hl.1 hm (metX2_newName l hfl _ _ _ _ _ _ _ (hth.at hS) e9) (jle hf) (hth.at hS) rfl (lw_V q613 q615 qs4 q113 q616) pdX2_newName rfl rfl (Nat.le_of_ble_eq_true rfl) ⟨Nat.le_of_ble_eq_true rfl, Nat.le_of_ble_eq_true rfl⟩ dX2_text_27 rfl (fun H locs cells slots hS => ?_)
  refine lv_aload_n (pc := 30) hx hb dX2_text_30 rfl (lv_at hl 0 rfl) ?_
  refine lv_aload_n (pc := 31) hx hb dX2_text_31 rfl (lv_at hl 0 rfl) ?_
  refine j_gR (pc := 32) cx hS hf fd_WornSkin_Reader_kinds q206 dX2_text_32 (fun y2 hf => ?_)
  rcases jBT_some hf with ⟨y3, h1, e9, hf⟩ | ⟨x9, e9, ez⟩
  rotate_left
  · have ez : r = .inr x9 := ez
    subst ez
    exact j_callVX (pc := 35) (z := ((), h')) (As := [va_rf y2]) (rest := []) cx hS rfl hl.1 hm (metX2_one l hfl _ _ _ _ _ _ (hth.at hS) e9) (jLe.rf _) (hth.at hS) rfl (lw_V q870 q872 qs19 q113 q873) pdX2_one rfl rfl (Nat.le_of_ble_eq_true rfl) ⟨Nat.le_of_ble_eq_true rfl, Nat.le_of_ble_eq_true rfl⟩ dX2_text_35 (fun H locs cells slots hS => j_leaves cx hS ht e1 e2)
  refine j_callV (pc := 35) (st1 := [.int y3]) (As := [va_rf y2]) (rest := []) cx hS rfl hl.1 hm (metX2_one l hfl _ _ _ _ _ _ (hth.at hS) e9) (jle hf) (hth.at hS) rfl (lw_V q870 q872 qs19 q113 q873) pdX2_one rfl rfl (Nat.le_of_ble_eq_true rfl) ⟨Nat.le_of_ble_eq_true rfl, Nat.le_of_ble_eq_true rfl⟩ dX2_text_35 rfl (fun H locs cells slots hS => ?_)
  refine lv_istore_n (pc := 38) (i := 2) (lv' := [(2, .int y3), (0, .ref a0), (1, .int x1)]) hx hb dX2_text_38 rfl hl (Nat.le_of_ble_eq_true rfl) rfl (fun ls hl => ?_)
  refine lv_aload_n (pc := 39) hx hb dX2_text_39 rfl (lv_at hl 1 rfl) ?_
  refine lv_aload_n (pc := 40) hx hb dX2_text_40 rfl (lv_at hl 1 rfl) ?_
  refine j_gR (pc := 41) cx hS hf fd_WornSkin_Reader_inks q208 dX2_text_41 (fun y4 hf => ?_)
  rcases jBT_some hf with ⟨y5, h1, e9, hf⟩ | ⟨x9, e9, ez⟩
  rotate_left
  · have ez : r = .inr x9 := ez
    subst ez
    exact j_callVX (pc := 44) (z := ((), h')) (As := [va_rf y4]) (rest := []) cx hS rfl hl.1 hm (metX2_one l hfl _ _ _ _ _ _ (hth.at hS) e9) (jLe.rf _) (hth.at hS) rfl (lw_V q870 q872 qs19 q113 q873) pdX2_one rfl rfl (Nat.le_of_ble_eq_true rfl) ⟨Nat.le_of_ble_eq_true rfl, Nat.le_of_ble_eq_true rfl⟩ dX2_text_44 (fun H locs cells slots hS => j_leaves cx hS ht e1 e2)
  refine j_callV (pc := 44) (st1 := [.int y5]) (As := [va_rf y4]) (rest := []) cx hS rfl hl.1 hm (metX2_one l hfl _ _ _ _ _ _ (hth.at hS) e9) (jle hf) (hth.at hS) rfl (lw_V q870 q872 qs19 q113 q873) pdX2_one rfl rfl (Nat.le_of_ble_eq_true rfl) ⟨Nat.le_of_ble_eq_true rfl, Nat.le_of_ble_eq_true rfl⟩ dX2_text_44 rfl (fun H locs cells slots hS => ?_)
  refine lv_iconst (pc := 47) (v := 1) hx hb dX2_text_47 rfl ?_
  refine lv_icmp_ne (pc := 48) (tgt := 55) hx hb dX2_text_48 (by decide) (fun hc => ?_) (fun hc => ?_)
  · have hf := jI_f hf hc
    refine lv_iconst (pc := 55) (v := 0) hx hb dX2_text_55 rfl ?_
    exact wX2_text_56 cx e1 e2 hfl ht a0 hth _ _ _ _ _ _ _ _ hf hS (lv_sub hl [1, 0] rfl)
  · have hf := jI_t hf hc
    refine lv_iconst (pc := 51) (v := 1) hx hb dX2_text_51 rfl ?_
    refine lv_goto (pc := 52) (tgt := 56) hx hb dX2_text_52 (by decide) ?_
    exact wX2_text_56 cx e1 e2 hfl ht a0 hth _ _ _ _ _ _ _ _ hf hS (lv_sub hl [1, 0] rfl)
theorem wX2_text_0 {N : Nat} {r : Unit ⊕ Nat} (cx : jCx p s m args meth c cX2_text "WornSkin$Reader" 4 (Option.none : Option Jvm.ClassFile.FieldType) D dA H0 hs.2.2.2.2) (e1 : h'.2.2.1 = hs.2.2.1 + mc) (e2 : h'.2.2.2.1 = hs.2.2.2.1 + ms) (hfl : l.stackTraces = false) (ht : c.exceptionTable.toList = []) (a0 : Nat) (hth : jTh hs a0 1) : ∀ (h : jH) (H : Heap) (locs : List Loc) (cells slots : Nat) (ls : Array Slot), (fX2_text N a0).1 h = some (r, h') → jS D dA H0 hs h H locs cells slots → lv_has ls 4 [(0, .ref a0)] → W p l e { frames := 9, cells := mc, slots := ms, locals := 195 } s m args below meth c H locs cells slots (jQ D dA H0 below s (jOc (fun _ => none) r) h' mc ms) (F0 m 0 ls []) := by
  have hx := cx.1
  have hb := cx.2.1
  have hown := cx.2.2.2.1
  have hts := cx.2.2.2.2.1
  have hm : h'.2.2.1 ≤ hs.2.2.1 + mc ∧ h'.2.2.2.1 ≤ hs.2.2.2.1 + ms := ⟨Nat.le_of_eq e1, Nat.le_of_eq e2⟩
  intro h H locs cells slots ls hf hS hl
  unfold fX2_text at hf
  refine lv_aload_n (pc := 0) hx hb dX2_text_0 rfl (lv_at hl 0 rfl) ?_
  refine j_gR (pc := 1) cx hS hf fd_WornSkin_Reader_draft q210 dX2_text_1 (fun y1 hf => ?_)
  refine j_gR (pc := 4) cx hS hf fd_WornSkin_Library_texts q339 dX2_text_4 (fun y2 hf => ?_)
  obtain ⟨b4, eb, hrc, hf⟩ := jrc_s hf
  refine j_nn (pc := 7) eb [] [] rfl ?_
  obtain ⟨y3, h1, e9, hf⟩ := jB_some hf
  refine j_callV (pc := 7) (st1 := [.int y3]) (As := []) (rest := []) cx hS rfl hl.1 hm (metJ2_size l _ _ _ _ hrc e9) (jle hf) hrc rfl (lw_V q612 q376 q377 q118 q378) pdJ2_size rfl rfl (Nat.le_of_ble_eq_true rfl) ⟨Nat.le_of_ble_eq_true rfl, Nat.le_of_ble_eq_true rfl⟩ dX2_text_7 rfl (fun H locs cells slots hS => ?_)
  refine lv_istore_n (pc := 10) (i := 1) (lv' := [(1, .int y3), (0, .ref a0)]) hx hb dX2_text_10 rfl hl (Nat.le_of_ble_eq_true rfl) rfl (fun ls hl => ?_)
  refine lv_aload_n (pc := 11) hx hb dX2_text_11 rfl (lv_at hl 1 rfl) ?_
  refine lv_iload_n (pc := 12) hx hb dX2_text_12 rfl (lv_at hl 0 rfl) ?_
  refine lv_bipush (pc := 13) (v := 6) hx hb dX2_text_13 rfl ?_
  refine lv_icmp_ne (pc := 15) (tgt := 22) hx hb dX2_text_15 (by decide) (fun hc => ?_) (fun hc => ?_)
  · have hf := jI_f hf hc
    refine lv_iconst (pc := 22) (v := 0) hx hb dX2_text_22 rfl ?_
    exact wX2_text_23 cx e1 e2 hfl ht a0 hth _ _ _ _ _ _ _ _ hf hS (lv_sub hl [1, 0] rfl)
  · have hf := jI_t hf hc
    refine lv_iconst (pc := 18) (v := 1) hx hb dX2_text_18 rfl ?_
    refine lv_goto (pc := 19) (tgt := 23) hx hb dX2_text_19 (by decide) ?_
    exact wX2_text_23 cx e1 e2 hfl ht a0 hth _ _ _ _ _ _ _ _ hf hS (lv_sub hl [1, 0] rfl)
theorem metX2_text (l : Launch) (hfl : l.stackTraces = false) (N : Nat) (a0 : Nat) (h h' : jH) (r : Unit ⊕ Nat) (hth : jcd h a0 = some 1) (hf : (fX2_text N a0).1 h = some (r, h')) : jMet l yX2_text (ws_ yX2_text cX2_text 4 (Option.none : Option Jvm.ClassFile.FieldType)) (9) (195) [.ref a0] h h' (jOc (fun _ => none) r) := by
  refine jStartT rfl (jle hf) (Nat.le_of_ble_eq_true rfl) ?_
  intro p e s m below meth c D dA H0 mc ms ls ht cx hnm e1 e2 hS hl
  have hth := jTh.mk hS hth
  exact wX2_text_0 cx e1 e2 hfl ht a0 hth  _ _ _ _ _ _ hf hS hl
def fX2_damp_100 (N : Nat) (a0 : Nat) : jM (Unit ⊕ Nat) := jR (.inl ())
def fX2_damp_73 (N : Nat) (a0 : Nat) : jM (Unit ⊕ Nat) := jB (jgI [1] 11 (some a0)) fun y1 => jB (jpI [1] 11 (some a0) (y1 - 1)) fun _ => jB (fX2_wrong a0 5) fun y2 => jB (jnn0 y2) fun b3 => jR (.inr b3)
def fX2_damp_40 (N : Nat) (a0 : Nat) : Nat → jM (Unit ⊕ Nat)
  | 0 => jE
  | n + 1 => jB (jgR [1] 8 (some a0)) fun y1 => jB (jgI [1] 11 (some a0)) fun y2 => jB (jaI 0 y1 y2) fun y3 => if y3 = 2 then (jBT (fX2_number_2 a0 0 9) fun y4 => jB (jgR [1] 5 (some a0)) fun y5 => jB (jgI [3] 5 y5) fun y6 => if y6 = 12 then (fX2_damp_73 N a0) else (jB (jgR [1] 5 (some a0)) fun y7 => jB (jrc 3 y7) fun b9 => jB (fX4_wets b9 y4) fun _ => fX2_damp_40 N a0 n)) else (fX2_damp_100 N a0)
def fX2_damp (N : Nat) (a0 : Nat) : jM (Unit ⊕ Nat) := jB (jgR [1] 5 (some a0)) fun y1 => jB (jgI [3] 5 y1) fun y2 => if y2 ≤ 0 then (jB (jgI [1] 11 (some a0)) fun y3 => jB (jpI [1] 11 (some a0) (y3 + 1)) fun _ => jB (jgR [1] 5 (some a0)) fun y4 => jBT (fX2_number_2 a0 0 9) fun y5 => jB (jrc 3 y4) fun b7 => jB (fX4_wets b7 y5) fun _ => fX2_damp_40 N a0 N) else (jB (fX2_wrong a0 3) fun y8 => jB (jnn0 y8) fun b9 => jR (.inr b9))
theorem wX2_damp_100 {N : Nat} {r : Unit ⊕ Nat} (cx : jCx p s m args meth c cX2_damp "WornSkin$Reader" 2 (Option.none : Option Jvm.ClassFile.FieldType) D dA H0 hs.2.2.2.2) (e1 : h'.2.2.1 = hs.2.2.1 + mc) (e2 : h'.2.2.2.1 = hs.2.2.2.1 + ms) (hfl : l.stackTraces = false) (ht : c.exceptionTable.toList = []) (a0 : Nat) (hth : jTh hs a0 1) : ∀ (h : jH) (H : Heap) (locs : List Loc) (cells slots : Nat) (ls : Array Slot), (fX2_damp_100 N a0).1 h = some (r, h') → jS D dA H0 hs h H locs cells slots → lv_has ls 2 [(0, .ref a0)] → W p l e { frames := 7, cells := mc, slots := ms, locals := 126 } s m args below meth c H locs cells slots (jQ D dA H0 below s (jOc (fun _ => none) r) h' mc ms) (F0 m 100 ls []) := by
  have hx := cx.1
  have hb := cx.2.1
  have hown := cx.2.2.2.1
  have hts := cx.2.2.2.2.1
  have hm : h'.2.2.1 ≤ hs.2.2.1 + mc ∧ h'.2.2.2.1 ≤ hs.2.2.2.1 + ms := ⟨Nat.le_of_eq e1, Nat.le_of_eq e2⟩
  intro h H locs cells slots ls hf hS hl
  unfold fX2_damp_100 at hf
  exact j_vretT (pc := 100) cx hS hf e1 e2 dX2_damp_100
theorem wX2_damp_73 {N : Nat} {r : Unit ⊕ Nat} (cx : jCx p s m args meth c cX2_damp "WornSkin$Reader" 2 (Option.none : Option Jvm.ClassFile.FieldType) D dA H0 hs.2.2.2.2) (e1 : h'.2.2.1 = hs.2.2.1 + mc) (e2 : h'.2.2.2.1 = hs.2.2.2.1 + ms) (hfl : l.stackTraces = false) (ht : c.exceptionTable.toList = []) (a0 : Nat) (hth : jTh hs a0 1) : ∀ (h : jH) (H : Heap) (locs : List Loc) (cells slots : Nat) (ls : Array Slot), (fX2_damp_73 N a0).1 h = some (r, h') → jS D dA H0 hs h H locs cells slots → lv_has ls 2 [(0, .ref a0)] → W p l e { frames := 7, cells := mc, slots := ms, locals := 126 } s m args below meth c H locs cells slots (jQ D dA H0 below s (jOc (fun _ => none) r) h' mc ms) (F0 m 73 ls []) := by
  have hx := cx.1
  have hb := cx.2.1
  have hown := cx.2.2.2.1
  have hts := cx.2.2.2.2.1
  have hm : h'.2.2.1 ≤ hs.2.2.1 + mc ∧ h'.2.2.2.1 ≤ hs.2.2.2.1 + ms := ⟨Nat.le_of_eq e1, Nat.le_of_eq e2⟩
  intro h H locs cells slots ls hf hS hl
  unfold fX2_damp_73 at hf
  refine lv_aload_n (pc := 73) hx hb dX2_damp_73 rfl (lv_at hl 0 rfl) ?_
  refine lv_dup (pc := 74) hx hb dX2_damp_74 rfl ?_
  refine j_gI (pc := 75) cx hS hf fd_WornSkin_Reader_at q217 dX2_damp_75 (fun y1 hf => ?_)
  refine lv_iconst (pc := 78) (v := 1) hx hb dX2_damp_78 rfl ?_
  refine lv_isub (pc := 79) hx hb dX2_damp_79 ?_
  refine j_pI (pc := 80) cx hS hf fp_WornSkin_Reader_at (Or.inl rfl) q217 dX2_damp_80 (fun h H locs hf hS => ?_)
  refine lv_aload_n (pc := 83) hx hb dX2_damp_83 rfl (lv_at hl 0 rfl) ?_
  refine lv_iconst (pc := 84) (v := 5) hx hb dX2_damp_84 rfl ?_
  obtain ⟨y2, h1, e9, hf⟩ := jB_some hf
  refine j_callV (pc := 85) (st1 := [va_rf y2]) (As := [.int 5]) (rest := []) cx hS rfl hl.1 hm (metX2_wrong l hfl _ _ _ _ _ (hth.at hS) e9) (jle hf) (hth.at hS) rfl (lw_V q617 q619 qs5 q113 q620) pdX2_wrong rfl rfl (Nat.le_of_ble_eq_true rfl) ⟨Nat.le_of_ble_eq_true rfl, Nat.le_of_ble_eq_true rfl⟩ dX2_damp_85 rfl (fun H locs cells slots hS => ?_)
  exact j_athrow (pc := 88) (r := y2) cx hS ht hf e1 e2 dX2_damp_88
theorem wX2_damp_40 {N : Nat} {r : Unit ⊕ Nat} (cx : jCx p s m args meth c cX2_damp "WornSkin$Reader" 2 (Option.none : Option Jvm.ClassFile.FieldType) D dA H0 hs.2.2.2.2) (e1 : h'.2.2.1 = hs.2.2.1 + mc) (e2 : h'.2.2.2.1 = hs.2.2.2.1 + ms) (hfl : l.stackTraces = false) (ht : c.exceptionTable.toList = []) (a0 : Nat) (hth : jTh hs a0 1) : ∀ (n : Nat), ∀ (h : jH) (H : Heap) (locs : List Loc) (cells slots : Nat) (ls : Array Slot), (fX2_damp_40 N a0 n).1 h = some (r, h') → jS D dA H0 hs h H locs cells slots → lv_has ls 2 [(0, .ref a0)] → W p l e { frames := 7, cells := mc, slots := ms, locals := 126 } s m args below meth c H locs cells slots (jQ D dA H0 below s (jOc (fun _ => none) r) h' mc ms) (F0 m 40 ls []) := by
  have hx := cx.1
  have hb := cx.2.1
  have hown := cx.2.2.2.1
  have hts := cx.2.2.2.2.1
  have hm : h'.2.2.1 ≤ hs.2.2.1 + mc ∧ h'.2.2.2.1 ≤ hs.2.2.2.1 + ms := ⟨Nat.le_of_eq e1, Nat.le_of_eq e2⟩
  intro n
  induction n with
  | zero =>
    intro h H locs cells slots ls hf hS hl
    exact jE_f hf
  | succ n ih =>
    intro h H locs cells slots ls hf hS hl
    unfold fX2_damp_40 at hf
    refine lv_aload_n (pc := 40) hx hb dX2_damp_40 rfl (lv_at hl 0 rfl) ?_
    refine j_gR (pc := 41) cx hS hf fd_WornSkin_Reader_sort q214 dX2_damp_41 (fun y1 hf => ?_)
    refine lv_aload_n (pc := 44) hx hb dX2_damp_44 rfl (lv_at hl 0 rfl) ?_
    refine j_gI (pc := 45) cx hS hf fd_WornSkin_Reader_at q217 dX2_damp_45 (fun y2 hf => ?_)
    refine j_aI (pc := 48) cx hS hf rfl dX2_damp_48 (fun y3 hf => ?_)
    refine lv_iconst (pc := 49) (v := 2) hx hb dX2_damp_49 rfl ?_
    refine lv_icmp_ne (pc := 50) (tgt := 100) hx hb dX2_damp_50 (by decide) (fun hc => ?_) (fun hc => ?_)
    · have hf := jI_f hf hc
      exact wX2_damp_100 cx e1 e2 hfl ht a0 hth _ _ _ _ _ _ hf hS hl
    · have hf := jI_t hf hc
      refine lv_aload_n (pc := 53) hx hb dX2_damp_53 rfl (lv_at hl 0 rfl) ?_
      refine lv_iconst (pc := 54) (v := 0) hx hb dX2_damp_54 rfl ?_
      refine lv_bipush (pc := 55) (v := 9) hx hb dX2_damp_55 rfl ?_
      rcases jBT_some hf with ⟨y4, h1, e9, hf⟩ | ⟨x9, e9, ez⟩
      rotate_left
      · have ez : r = .inr x9 := ez
        subst ez
        exact j_callVX (pc := 57) (z := ((), h')) (As := [.int 0, .int 9]) (rest := []) cx hS rfl hl.1 hm (metX2_number_2 l hfl _ _ _ _ _ _ (hth.at hS) e9) (jLe.rf _) (hth.at hS) rfl (lw_V q828 q830 qs15 q113 q831) pdX2_number_2 rfl rfl (Nat.le_of_ble_eq_true rfl) ⟨Nat.le_of_ble_eq_true rfl, Nat.le_of_ble_eq_true rfl⟩ dX2_damp_57 (fun H locs cells slots hS => j_leaves cx hS ht e1 e2)
      refine j_callV (pc := 57) (st1 := [.int y4]) (As := [.int 0, .int 9]) (rest := []) cx hS rfl hl.1 hm (metX2_number_2 l hfl _ _ _ _ _ _ (hth.at hS) e9) (jle hf) (hth.at hS) rfl (lw_V q828 q830 qs15 q113 q831) pdX2_number_2 rfl rfl (Nat.le_of_ble_eq_true rfl) ⟨Nat.le_of_ble_eq_true rfl, Nat.le_of_ble_eq_true rfl⟩ dX2_damp_57 rfl (fun H locs cells slots hS => ?_)
      refine lv_istore_n (pc := 60) (i := 1) (lv' := [(1, .int y4), (0, .ref a0)]) hx hb dX2_damp_60 rfl hl (Nat.le_of_ble_eq_true rfl) rfl (fun ls hl => ?_)
      refine lv_aload_n (pc := 61) hx hb dX2_damp_61 rfl (lv_at hl 1 rfl) ?_
      refine j_gR (pc := 62) cx hS hf fd_WornSkin_Reader_draft q210 dX2_damp_62 (fun y5 hf => ?_)
      refine j_gIN (pc := 65) cx hS hf fd_WornSkin_Library_damps q342 dX2_damp_65 (fun y6 hf => ?_)
      refine lv_bipush (pc := 68) (v := 12) hx hb dX2_damp_68 rfl ?_
      refine lv_icmp_ne (pc := 70) (tgt := 89) hx hb dX2_damp_70 (by decide) (fun hc => ?_) (fun hc => ?_)
      · have hf := jI_f hf hc
        refine lv_aload_n (pc := 89) hx hb dX2_damp_89 rfl (lv_at hl 1 rfl) ?_
        refine j_gR (pc := 90) cx hS hf fd_WornSkin_Reader_draft q210 dX2_damp_90 (fun y7 hf => ?_)
        refine lv_iload_n (pc := 93) hx hb dX2_damp_93 rfl (lv_at hl 0 rfl) ?_
        obtain ⟨b9, eb, hrc, hf⟩ := jrc_s hf
        refine j_nn (pc := 94) eb [.int y4] [] rfl ?_
        obtain ⟨_, h1, e9, hf⟩ := jB_some hf
        refine j_callV (pc := 94) (st1 := []) (As := [.int y4]) (rest := []) cx hS rfl hl.1 hm (metX4_wets l _ _ _ _ _ hrc e9) (jle hf) hrc rfl (lw_V q927 q928 q929 q115 q930) pdX4_wets rfl rfl (Nat.le_of_ble_eq_true rfl) ⟨Nat.le_of_ble_eq_true rfl, Nat.le_of_ble_eq_true rfl⟩ dX2_damp_94 rfl (fun H locs cells slots hS => ?_)
        refine lv_goto (pc := 97) (tgt := 40) hx hb dX2_damp_97 (by decide) ?_
        exact ih _ _ _ _ _ _ hf hS (lv_sub hl [1] rfl)
      · have hf := jI_t hf hc
        exact wX2_damp_73 cx e1 e2 hfl ht a0 hth _ _ _ _ _ _ hf hS (lv_sub hl [1] rfl)
theorem wX2_damp_0 {N : Nat} {r : Unit ⊕ Nat} (cx : jCx p s m args meth c cX2_damp "WornSkin$Reader" 2 (Option.none : Option Jvm.ClassFile.FieldType) D dA H0 hs.2.2.2.2) (e1 : h'.2.2.1 = hs.2.2.1 + mc) (e2 : h'.2.2.2.1 = hs.2.2.2.1 + ms) (hfl : l.stackTraces = false) (ht : c.exceptionTable.toList = []) (a0 : Nat) (hth : jTh hs a0 1) : ∀ (h : jH) (H : Heap) (locs : List Loc) (cells slots : Nat) (ls : Array Slot), (fX2_damp N a0).1 h = some (r, h') → jS D dA H0 hs h H locs cells slots → lv_has ls 2 [(0, .ref a0)] → W p l e { frames := 7, cells := mc, slots := ms, locals := 126 } s m args below meth c H locs cells slots (jQ D dA H0 below s (jOc (fun _ => none) r) h' mc ms) (F0 m 0 ls []) := by
  have hx := cx.1
  have hb := cx.2.1
  have hown := cx.2.2.2.1
  have hts := cx.2.2.2.2.1
  have hm : h'.2.2.1 ≤ hs.2.2.1 + mc ∧ h'.2.2.2.1 ≤ hs.2.2.2.1 + ms := ⟨Nat.le_of_eq e1, Nat.le_of_eq e2⟩
  intro h H locs cells slots ls hf hS hl
  unfold fX2_damp at hf
  refine lv_aload_n (pc := 0) hx hb dX2_damp_0 rfl (lv_at hl 0 rfl) ?_
  refine j_gR (pc := 1) cx hS hf fd_WornSkin_Reader_draft q210 dX2_damp_1 (fun y1 hf => ?_)
  refine j_gIN (pc := 4) cx hS hf fd_WornSkin_Library_damps q342 dX2_damp_4 (fun y2 hf => ?_)
  refine lv_if_le (pc := 7) (tgt := 16) hx hb dX2_damp_7 (by decide) (fun hc => ?_) (fun hc => ?_)
  · have hf := jI_t hf hc
    refine lv_aload_n (pc := 16) hx hb dX2_damp_16 rfl (lv_at hl 0 rfl) ?_
    refine lv_dup (pc := 17) hx hb dX2_damp_17 rfl ?_
    refine j_gI (pc := 18) cx hS hf fd_WornSkin_Reader_at q217 dX2_damp_18 (fun y3 hf => ?_)
    refine lv_iconst (pc := 21) (v := 1) hx hb dX2_damp_21 rfl ?_
    refine lv_iadd (pc := 22) hx hb dX2_damp_22 ?_
    refine j_pI (pc := 23) cx hS hf fp_WornSkin_Reader_at (Or.inl rfl) q217 dX2_damp_23 (fun h H locs hf hS => ?_)
    refine lv_aload_n (pc := 26) hx hb dX2_damp_26 rfl (lv_at hl 0 rfl) ?_
    refine j_gR (pc := 27) cx hS hf fd_WornSkin_Reader_draft q210 dX2_damp_27 (fun y4 hf => ?_)
    refine lv_aload_n (pc := 30) hx hb dX2_damp_30 rfl (lv_at hl 0 rfl) ?_
    refine lv_iconst (pc := 31) (v := 0) hx hb dX2_damp_31 rfl ?_
    refine lv_bipush (pc := 32) (v := 9) hx hb dX2_damp_32 rfl ?_
    rcases jBT_some hf with ⟨y5, h1, e9, hf⟩ | ⟨x9, e9, ez⟩
    rotate_left
    · have ez : r = .inr x9 := ez
      subst ez
      exact j_callVX (pc := 34) (z := ((), h')) (As := [.int 0, .int 9]) (rest := [va_rf y4]) cx hS rfl hl.1 hm (metX2_number_2 l hfl _ _ _ _ _ _ (hth.at hS) e9) (jLe.rf _) (hth.at hS) rfl (lw_V q828 q830 qs15 q113 q831) pdX2_number_2 rfl rfl (by simp only [List.map_cons, List.map_nil, List.sum_cons, List.sum_nil, jrfc]; exact Nat.le_of_ble_eq_true rfl) ⟨Nat.le_of_ble_eq_true rfl, Nat.le_of_ble_eq_true rfl⟩ dX2_damp_34 (fun H locs cells slots hS => j_leaves cx hS ht e1 e2)
    refine j_callV (pc := 34) (st1 := [.int y5, va_rf y4]) (As := [.int 0, .int 9]) (rest := [va_rf y4]) cx hS rfl hl.1 hm (metX2_number_2 l hfl _ _ _ _ _ _ (hth.at hS) e9) (jle hf) (hth.at hS) rfl (lw_V q828 q830 qs15 q113 q831) pdX2_number_2 rfl rfl (by simp only [List.map_cons, List.map_nil, List.sum_cons, List.sum_nil, jrfc]; exact Nat.le_of_ble_eq_true rfl) ⟨Nat.le_of_ble_eq_true rfl, Nat.le_of_ble_eq_true rfl⟩ dX2_damp_34 rfl (fun H locs cells slots hS => ?_)
    obtain ⟨b7, eb, hrc, hf⟩ := jrc_s hf
    refine j_nn (pc := 37) eb [.int y5] [] rfl ?_
    obtain ⟨_, h1, e9, hf⟩ := jB_some hf
    refine j_callV (pc := 37) (st1 := []) (As := [.int y5]) (rest := []) cx hS rfl hl.1 hm (metX4_wets l _ _ _ _ _ hrc e9) (jle hf) hrc rfl (lw_V q927 q928 q929 q115 q930) pdX4_wets rfl rfl (Nat.le_of_ble_eq_true rfl) ⟨Nat.le_of_ble_eq_true rfl, Nat.le_of_ble_eq_true rfl⟩ dX2_damp_37 rfl (fun H locs cells slots hS => ?_)
    exact wX2_damp_40 cx e1 e2 hfl ht a0 hth N _ _ _ _ _ _ hf hS hl
  · have hf := jI_f hf hc
    refine lv_aload_n (pc := 10) hx hb dX2_damp_10 rfl (lv_at hl 0 rfl) ?_
    refine lv_iconst (pc := 11) (v := 3) hx hb dX2_damp_11 rfl ?_
    obtain ⟨y8, h1, e9, hf⟩ := jB_some hf
    refine j_callV (pc := 12) (st1 := [va_rf y8]) (As := [.int 3]) (rest := []) cx hS rfl hl.1 hm (metX2_wrong l hfl _ _ _ _ _ (hth.at hS) e9) (jle hf) (hth.at hS) rfl (lw_V q617 q619 qs5 q113 q620) pdX2_wrong rfl rfl (Nat.le_of_ble_eq_true rfl) ⟨Nat.le_of_ble_eq_true rfl, Nat.le_of_ble_eq_true rfl⟩ dX2_damp_12 rfl (fun H locs cells slots hS => ?_)
    exact j_athrow (pc := 15) (r := y8) cx hS ht hf e1 e2 dX2_damp_15
theorem metX2_damp (l : Launch) (hfl : l.stackTraces = false) (N : Nat) (a0 : Nat) (h h' : jH) (r : Unit ⊕ Nat) (hth : jcd h a0 = some 1) (hf : (fX2_damp N a0).1 h = some (r, h')) : jMet l yX2_damp (ws_ yX2_damp cX2_damp 2 (Option.none : Option Jvm.ClassFile.FieldType)) (7) (126) [.ref a0] h h' (jOc (fun _ => none) r) := by
  refine jStartT rfl (jle hf) (Nat.le_of_ble_eq_true rfl) ?_
  intro p e s m below meth c D dA H0 mc ms ls ht cx hnm e1 e2 hS hl
  have hth := jTh.mk hS hth
  exact wX2_damp_0 cx e1 e2 hfl ht a0 hth  _ _ _ _ _ _ hf hS hl
def fX2_isSign_33 (a0 : Nat) (v0 : Int32) : jM Int32 := jRn .boolean v0
def fX2_isSign_32 (a0 : Nat) : jM Int32 := fX2_isSign_33 a0 0
def fX2_isSign (a0 : Nat) (x1 : Int32) : jM Int32 := jB (jgR [1] 8 (some a0)) fun y1 => jB (jgI [1] 11 (some a0)) fun y2 => jB (jaI 0 y1 y2) fun y3 => if y3 = 3 then (jB (jgR [1] 9 (some a0)) fun y4 => jB (jgI [1] 11 (some a0)) fun y5 => jB (jaL 1 y4 y5) fun y6 => if (lg_cmp y6 (x1.toInt64)) = 0 then (fX2_isSign_33 a0 1) else (fX2_isSign_32 a0)) else (fX2_isSign_32 a0)
theorem wX2_isSign_33 {r : Int32} (cx : jCx p s m args meth c cX2_isSign "WornSkin$Reader" 2 (Option.some Jvm.ClassFile.FieldType.boolean) D dA H0 hs.2.2.2.2) (e1 : h'.2.2.1 = hs.2.2.1 + mc) (e2 : h'.2.2.2.1 = hs.2.2.2.1 + ms) (a0 : Nat) (hth : jTh hs a0 1) : ∀ (v0 : Int32), ∀ (h : jH) (H : Heap) (locs : List Loc) (cells slots : Nat) (ls : Array Slot), (fX2_isSign_33 a0 v0).1 h = some (r, h') → jS D dA H0 hs h H locs cells slots → lv_has ls 2 [(0, .ref a0)] → W p l e { frames := 0, cells := mc, slots := ms, locals := 0 } s m args below meth c H locs cells slots (jQ D dA H0 below s (.returned (some (.int r))) h' mc ms) (F0 m 33 ls [.int v0]) := by
  have hx := cx.1
  have hb := cx.2.1
  have hown := cx.2.2.2.1
  have hts := cx.2.2.2.2.1
  have hm : h'.2.2.1 ≤ hs.2.2.1 + mc ∧ h'.2.2.2.1 ≤ hs.2.2.2.1 + ms := ⟨Nat.le_of_eq e1, Nat.le_of_eq e2⟩
  intro v0 h H locs cells slots ls hf hS hl
  unfold fX2_isSign_33 at hf
  exact j_zret (pc := 33) cx (Or.inl rfl) hS hf e1 e2 dX2_isSign_33
theorem wX2_isSign_32 {r : Int32} (cx : jCx p s m args meth c cX2_isSign "WornSkin$Reader" 2 (Option.some Jvm.ClassFile.FieldType.boolean) D dA H0 hs.2.2.2.2) (e1 : h'.2.2.1 = hs.2.2.1 + mc) (e2 : h'.2.2.2.1 = hs.2.2.2.1 + ms) (a0 : Nat) (hth : jTh hs a0 1) : ∀ (h : jH) (H : Heap) (locs : List Loc) (cells slots : Nat) (ls : Array Slot), (fX2_isSign_32 a0).1 h = some (r, h') → jS D dA H0 hs h H locs cells slots → lv_has ls 2 [(0, .ref a0)] → W p l e { frames := 0, cells := mc, slots := ms, locals := 0 } s m args below meth c H locs cells slots (jQ D dA H0 below s (.returned (some (.int r))) h' mc ms) (F0 m 32 ls []) := by
  have hx := cx.1
  have hb := cx.2.1
  have hown := cx.2.2.2.1
  have hts := cx.2.2.2.2.1
  have hm : h'.2.2.1 ≤ hs.2.2.1 + mc ∧ h'.2.2.2.1 ≤ hs.2.2.2.1 + ms := ⟨Nat.le_of_eq e1, Nat.le_of_eq e2⟩
  intro h H locs cells slots ls hf hS hl
  unfold fX2_isSign_32 at hf
  refine lv_iconst (pc := 32) (v := 0) hx hb dX2_isSign_32 rfl ?_
  exact wX2_isSign_33 cx e1 e2 a0 hth _ _ _ _ _ _ _ hf hS hl
theorem wX2_isSign_0 {r : Int32} (cx : jCx p s m args meth c cX2_isSign "WornSkin$Reader" 2 (Option.some Jvm.ClassFile.FieldType.boolean) D dA H0 hs.2.2.2.2) (e1 : h'.2.2.1 = hs.2.2.1 + mc) (e2 : h'.2.2.2.1 = hs.2.2.2.1 + ms) (a0 : Nat) (hth : jTh hs a0 1) : ∀ (x1 : Int32), ∀ (h : jH) (H : Heap) (locs : List Loc) (cells slots : Nat) (ls : Array Slot), (fX2_isSign a0 x1).1 h = some (r, h') → jS D dA H0 hs h H locs cells slots → lv_has ls 2 [(0, .ref a0), (1, .int x1)] → W p l e { frames := 0, cells := mc, slots := ms, locals := 0 } s m args below meth c H locs cells slots (jQ D dA H0 below s (.returned (some (.int r))) h' mc ms) (F0 m 0 ls []) := by
  have hx := cx.1
  have hb := cx.2.1
  have hown := cx.2.2.2.1
  have hts := cx.2.2.2.2.1
  have hm : h'.2.2.1 ≤ hs.2.2.1 + mc ∧ h'.2.2.2.1 ≤ hs.2.2.2.1 + ms := ⟨Nat.le_of_eq e1, Nat.le_of_eq e2⟩
  intro x1 h H locs cells slots ls hf hS hl
  unfold fX2_isSign at hf
  refine lv_aload_n (pc := 0) hx hb dX2_isSign_0 rfl (lv_at hl 0 rfl) ?_
  refine j_gR (pc := 1) cx hS hf fd_WornSkin_Reader_sort q214 dX2_isSign_1 (fun y1 hf => ?_)
  refine lv_aload_n (pc := 4) hx hb dX2_isSign_4 rfl (lv_at hl 0 rfl) ?_
  refine j_gI (pc := 5) cx hS hf fd_WornSkin_Reader_at q217 dX2_isSign_5 (fun y2 hf => ?_)
  refine j_aI (pc := 8) cx hS hf rfl dX2_isSign_8 (fun y3 hf => ?_)
  refine lv_iconst (pc := 9) (v := 3) hx hb dX2_isSign_9 rfl ?_
  refine lv_icmp_ne (pc := 10) (tgt := 32) hx hb dX2_isSign_10 (by decide) (fun hc => ?_) (fun hc => ?_)
  · have hf := jI_f hf hc
    exact wX2_isSign_32 cx e1 e2 a0 hth _ _ _ _ _ _ hf hS (lv_sub hl [0] rfl)
  · have hf := jI_t hf hc
    refine lv_aload_n (pc := 13) hx hb dX2_isSign_13 rfl (lv_at hl 0 rfl) ?_
    refine j_gR (pc := 14) cx hS hf fd_WornSkin_Reader_value q215 dX2_isSign_14 (fun y4 hf => ?_)
    refine lv_aload_n (pc := 17) hx hb dX2_isSign_17 rfl (lv_at hl 0 rfl) ?_
    refine j_gI (pc := 18) cx hS hf fd_WornSkin_Reader_at q217 dX2_isSign_18 (fun y5 hf => ?_)
    refine j_aL (pc := 21) cx hS hf rfl dX2_isSign_21 (fun y6 hf => ?_)
    refine lv_iload_n (pc := 22) hx hb dX2_isSign_22 rfl (lv_at hl 1 rfl) ?_
    refine lv_i2l (pc := 23) (v := x1.toInt64) hx hb dX2_isSign_23 rfl ?_
    refine W.lcmp (pc := 24) hx hb dX2_isSign_24 ?_
    refine lv_if_ne (pc := 25) (tgt := 32) hx hb dX2_isSign_25 (by decide) (fun hc => ?_) (fun hc => ?_)
    · have hf := jI_f hf hc
      exact wX2_isSign_32 cx e1 e2 a0 hth _ _ _ _ _ _ hf hS (lv_sub hl [0] rfl)
    · have hf := jI_t hf hc
      refine lv_iconst (pc := 28) (v := 1) hx hb dX2_isSign_28 rfl ?_
      refine lv_goto (pc := 29) (tgt := 33) hx hb dX2_isSign_29 (by decide) ?_
      exact wX2_isSign_33 cx e1 e2 a0 hth _ _ _ _ _ _ _ hf hS (lv_sub hl [0] rfl)
theorem metX2_isSign (l : Launch) (a0 : Nat) (x1 : Int32) (h h' : jH) (r : Int32) (hth : jcd h a0 = some 1) (hf : (fX2_isSign a0 x1).1 h = some (r, h')) : jMet l yX2_isSign (ws_ yX2_isSign cX2_isSign 2 (Option.some Jvm.ClassFile.FieldType.boolean)) (0) (0) [.ref a0, .int x1] h h' (.returned (some (.int r))) := by
  refine jStart rfl (jle hf) (Nat.le_of_ble_eq_true rfl) ?_
  intro p e s m below meth c D dA H0 mc ms ls cx hnm e1 e2 hS hl
  have hth := jTh.mk hS hth
  exact wX2_isSign_0 cx e1 e2 a0 hth _ _ _ _ _ _ _ hf hS hl
def fX2_hasSign_20 (a0 : Nat) (x2 : Int32) : jM Int32 := jRn .boolean x2
def fX2_hasSign (a0 : Nat) (x1 : Int32) : jM Int32 := jB (fX2_isSign a0 x1) fun y1 => if y1 = 0 then (fX2_hasSign_20 a0 y1) else (jB (jgI [1] 11 (some a0)) fun y2 => jB (jpI [1] 11 (some a0) (y2 + 1)) fun _ => fX2_hasSign_20 a0 y1)
theorem wX2_hasSign_20 {r : Int32} (cx : jCx p s m args meth c cX2_hasSign "WornSkin$Reader" 3 (Option.some Jvm.ClassFile.FieldType.boolean) D dA H0 hs.2.2.2.2) (e1 : h'.2.2.1 = hs.2.2.1 + mc) (e2 : h'.2.2.2.1 = hs.2.2.2.1 + ms) (a0 : Nat) (hth : jTh hs a0 1) : ∀ (x2 : Int32), ∀ (h : jH) (H : Heap) (locs : List Loc) (cells slots : Nat) (ls : Array Slot), (fX2_hasSign_20 a0 x2).1 h = some (r, h') → jS D dA H0 hs h H locs cells slots → lv_has ls 3 [(0, .ref a0), (2, .int x2)] → W p l e { frames := 1, cells := mc, slots := ms, locals := 21 } s m args below meth c H locs cells slots (jQ D dA H0 below s (.returned (some (.int r))) h' mc ms) (F0 m 20 ls []) := by
  have hx := cx.1
  have hb := cx.2.1
  have hown := cx.2.2.2.1
  have hts := cx.2.2.2.2.1
  have hm : h'.2.2.1 ≤ hs.2.2.1 + mc ∧ h'.2.2.2.1 ≤ hs.2.2.2.1 + ms := ⟨Nat.le_of_eq e1, Nat.le_of_eq e2⟩
  intro x2 h H locs cells slots ls hf hS hl
  unfold fX2_hasSign_20 at hf
  refine lv_iload_n (pc := 20) hx hb dX2_hasSign_20 rfl (lv_at hl 1 rfl) ?_
  exact j_zret (pc := 21) cx (Or.inl rfl) hS hf e1 e2 dX2_hasSign_21
theorem wX2_hasSign_0 {r : Int32} (cx : jCx p s m args meth c cX2_hasSign "WornSkin$Reader" 3 (Option.some Jvm.ClassFile.FieldType.boolean) D dA H0 hs.2.2.2.2) (e1 : h'.2.2.1 = hs.2.2.1 + mc) (e2 : h'.2.2.2.1 = hs.2.2.2.1 + ms) (a0 : Nat) (hth : jTh hs a0 1) : ∀ (x1 : Int32), ∀ (h : jH) (H : Heap) (locs : List Loc) (cells slots : Nat) (ls : Array Slot), (fX2_hasSign a0 x1).1 h = some (r, h') → jS D dA H0 hs h H locs cells slots → lv_has ls 3 [(0, .ref a0), (1, .int x1)] → W p l e { frames := 1, cells := mc, slots := ms, locals := 21 } s m args below meth c H locs cells slots (jQ D dA H0 below s (.returned (some (.int r))) h' mc ms) (F0 m 0 ls []) := by
  have hx := cx.1
  have hb := cx.2.1
  have hown := cx.2.2.2.1
  have hts := cx.2.2.2.2.1
  have hm : h'.2.2.1 ≤ hs.2.2.1 + mc ∧ h'.2.2.2.1 ≤ hs.2.2.2.1 + ms := ⟨Nat.le_of_eq e1, Nat.le_of_eq e2⟩
  intro x1 h H locs cells slots ls hf hS hl
  unfold fX2_hasSign at hf
  refine lv_aload_n (pc := 0) hx hb dX2_hasSign_0 rfl (lv_at hl 0 rfl) ?_
  refine lv_iload_n (pc := 1) hx hb dX2_hasSign_1 rfl (lv_at hl 1 rfl) ?_
  obtain ⟨y1, h1, e9, hf⟩ := jB_some hf
  refine j_callV (pc := 2) (st1 := [.int y1]) (As := [.int x1]) (rest := []) cx hS rfl hl.1 hm (metX2_isSign l _ _ _ _ _ (hth.at hS) e9) (jle hf) (hth.at hS) rfl (lw_V q959 q961 qs28 q113 q962) pdX2_isSign rfl rfl (Nat.le_of_ble_eq_true rfl) ⟨Nat.le_of_ble_eq_true rfl, Nat.le_of_ble_eq_true rfl⟩ dX2_hasSign_2 rfl (fun H locs cells slots hS => ?_)
  refine lv_istore_n (pc := 5) (i := 2) (lv' := [(2, .int y1), (0, .ref a0), (1, .int x1)]) hx hb dX2_hasSign_5 rfl hl (Nat.le_of_ble_eq_true rfl) rfl (fun ls hl => ?_)
  refine lv_iload_n (pc := 6) hx hb dX2_hasSign_6 rfl (lv_at hl 0 rfl) ?_
  refine lv_if_eq (pc := 7) (tgt := 20) hx hb dX2_hasSign_7 (by decide) (fun hc => ?_) (fun hc => ?_)
  · have hf := jI_t hf hc
    exact wX2_hasSign_20 cx e1 e2 a0 hth _ _ _ _ _ _ _ hf hS (lv_sub hl [1, 0] rfl)
  · have hf := jI_f hf hc
    refine lv_aload_n (pc := 10) hx hb dX2_hasSign_10 rfl (lv_at hl 1 rfl) ?_
    refine lv_dup (pc := 11) hx hb dX2_hasSign_11 rfl ?_
    refine j_gI (pc := 12) cx hS hf fd_WornSkin_Reader_at q217 dX2_hasSign_12 (fun y2 hf => ?_)
    refine lv_iconst (pc := 15) (v := 1) hx hb dX2_hasSign_15 rfl ?_
    refine lv_iadd (pc := 16) hx hb dX2_hasSign_16 ?_
    refine j_pI (pc := 17) cx hS hf fp_WornSkin_Reader_at (Or.inl rfl) q217 dX2_hasSign_17 (fun h H locs hf hS => ?_)
    exact wX2_hasSign_20 cx e1 e2 a0 hth _ _ _ _ _ _ _ hf hS (lv_sub hl [1, 0] rfl)
theorem metX2_hasSign (l : Launch) (a0 : Nat) (x1 : Int32) (h h' : jH) (r : Int32) (hth : jcd h a0 = some 1) (hf : (fX2_hasSign a0 x1).1 h = some (r, h')) : jMet l yX2_hasSign (ws_ yX2_hasSign cX2_hasSign 3 (Option.some Jvm.ClassFile.FieldType.boolean)) (1) (21) [.ref a0, .int x1] h h' (.returned (some (.int r))) := by
  refine jStart rfl (jle hf) (Nat.le_of_ble_eq_true rfl) ?_
  intro p e s m below meth c D dA H0 mc ms ls cx hnm e1 e2 hS hl
  have hth := jTh.mk hS hth
  exact wX2_hasSign_0 cx e1 e2 a0 hth _ _ _ _ _ _ _ hf hS hl
def fX2_sign (a0 : Nat) (x1 : Int32) : jM (Unit ⊕ Nat) := jB (fX2_hasSign a0 x1) fun y1 => if y1 = 0 then (jB (fX2_wrong a0 1) fun y2 => jB (jnn0 y2) fun b3 => jR (.inr b3)) else (jR (.inl ()))
theorem wX2_sign_0 {r : Unit ⊕ Nat} (cx : jCx p s m args meth c cX2_sign "WornSkin$Reader" 2 (Option.none : Option Jvm.ClassFile.FieldType) D dA H0 hs.2.2.2.2) (e1 : h'.2.2.1 = hs.2.2.1 + mc) (e2 : h'.2.2.2.1 = hs.2.2.2.1 + ms) (hfl : l.stackTraces = false) (ht : c.exceptionTable.toList = []) (a0 : Nat) (hth : jTh hs a0 1) : ∀ (x1 : Int32), ∀ (h : jH) (H : Heap) (locs : List Loc) (cells slots : Nat) (ls : Array Slot), (fX2_sign a0 x1).1 h = some (r, h') → jS D dA H0 hs h H locs cells slots → lv_has ls 2 [(0, .ref a0), (1, .int x1)] → W p l e { frames := 6, cells := mc, slots := ms, locals := 104 } s m args below meth c H locs cells slots (jQ D dA H0 below s (jOc (fun _ => none) r) h' mc ms) (F0 m 0 ls []) := by
  have hx := cx.1
  have hb := cx.2.1
  have hown := cx.2.2.2.1
  have hts := cx.2.2.2.2.1
  have hm : h'.2.2.1 ≤ hs.2.2.1 + mc ∧ h'.2.2.2.1 ≤ hs.2.2.2.1 + ms := ⟨Nat.le_of_eq e1, Nat.le_of_eq e2⟩
  intro x1 h H locs cells slots ls hf hS hl
  unfold fX2_sign at hf
  refine lv_aload_n (pc := 0) hx hb dX2_sign_0 rfl (lv_at hl 0 rfl) ?_
  refine lv_iload_n (pc := 1) hx hb dX2_sign_1 rfl (lv_at hl 1 rfl) ?_
  obtain ⟨y1, h1, e9, hf⟩ := jB_some hf
  refine j_callV (pc := 2) (st1 := [.int y1]) (As := [.int x1]) (rest := []) cx hS rfl hl.1 hm (metX2_hasSign l _ _ _ _ _ (hth.at hS) e9) (jle hf) (hth.at hS) rfl (lw_V q1000 q1002 qs30 q113 q1003) pdX2_hasSign rfl rfl (Nat.le_of_ble_eq_true rfl) ⟨Nat.le_of_ble_eq_true rfl, Nat.le_of_ble_eq_true rfl⟩ dX2_sign_2 rfl (fun H locs cells slots hS => ?_)
  refine lv_if_ne (pc := 5) (tgt := 14) hx hb dX2_sign_5 (by decide) (fun hc => ?_) (fun hc => ?_)
  · have hf := jI_f hf hc
    exact j_vretT (pc := 14) cx hS hf e1 e2 dX2_sign_14
  · have hf := jI_t hf hc
    refine lv_aload_n (pc := 8) hx hb dX2_sign_8 rfl (lv_at hl 0 rfl) ?_
    refine lv_iconst (pc := 9) (v := 1) hx hb dX2_sign_9 rfl ?_
    obtain ⟨y2, h1, e9, hf⟩ := jB_some hf
    refine j_callV (pc := 10) (st1 := [va_rf y2]) (As := [.int 1]) (rest := []) cx hS rfl hl.1 hm (metX2_wrong l hfl _ _ _ _ _ (hth.at hS) e9) (jle hf) (hth.at hS) rfl (lw_V q617 q619 qs5 q113 q620) pdX2_wrong rfl rfl (Nat.le_of_ble_eq_true rfl) ⟨Nat.le_of_ble_eq_true rfl, Nat.le_of_ble_eq_true rfl⟩ dX2_sign_10 rfl (fun H locs cells slots hS => ?_)
    exact j_athrow (pc := 13) (r := y2) cx hS ht hf e1 e2 dX2_sign_13
theorem metX2_sign (l : Launch) (hfl : l.stackTraces = false) (a0 : Nat) (x1 : Int32) (h h' : jH) (r : Unit ⊕ Nat) (hth : jcd h a0 = some 1) (hf : (fX2_sign a0 x1).1 h = some (r, h')) : jMet l yX2_sign (ws_ yX2_sign cX2_sign 2 (Option.none : Option Jvm.ClassFile.FieldType)) (6) (104) [.ref a0, .int x1] h h' (jOc (fun _ => none) r) := by
  refine jStartT rfl (jle hf) (Nat.le_of_ble_eq_true rfl) ?_
  intro p e s m below meth c D dA H0 mc ms ls ht cx hnm e1 e2 hS hl
  have hth := jTh.mk hS hth
  exact wX2_sign_0 cx e1 e2 hfl ht a0 hth _ _ _ _ _ _ _ hf hS hl
def fX2_chain_16 (v0 : Option Nat) : jM (Option Nat) := jR v0
def fX2_chain (x0 : Option Nat) (x1 : Option Nat) : jM (Option Nat) := if x1 = none then (jB (jnw 20 2 [.null, .null]) fun q1 => jB (fX18_init q1 x0) fun _ => fX2_chain_16 (some q1)) else (fX2_chain_16 x1)
theorem wX2_chain_16 {r : Option Nat} (cx : jCx p s m args meth c cX2_chain "WornSkin$Reader" 2 (Option.some (Jvm.ClassFile.FieldType.object "WornSkin$Chain")) D dA H0 hs.2.2.2.2) (e1 : h'.2.2.1 = hs.2.2.1 + mc) (e2 : h'.2.2.2.1 = hs.2.2.2.1 + ms) : ∀ (v0 : Option Nat), ∀ (h : jH) (H : Heap) (locs : List Loc) (cells slots : Nat) (ls : Array Slot), (fX2_chain_16 v0).1 h = some (r, h') → jS D dA H0 hs h H locs cells slots → lv_has ls 2 [] → W p l e { frames := 5, cells := mc, slots := ms, locals := 102 } s m args below meth c H locs cells slots (jQ D dA H0 below s (.returned (some (va_rf r))) h' mc ms) (F0 m 16 ls [va_rf v0]) := by
  have hx := cx.1
  have hb := cx.2.1
  have hown := cx.2.2.2.1
  have hts := cx.2.2.2.2.1
  have hm : h'.2.2.1 ≤ hs.2.2.1 + mc ∧ h'.2.2.2.1 ≤ hs.2.2.2.1 + ms := ⟨Nat.le_of_eq e1, Nat.le_of_eq e2⟩
  intro v0 h H locs cells slots ls hf hS hl
  unfold fX2_chain_16 at hf
  exact j_aret (pc := 16) cx hS hf (Or.inl ⟨_, rfl⟩) e1 e2 dX2_chain_16
theorem wX2_chain_0 {r : Option Nat} (cx : jCx p s m args meth c cX2_chain "WornSkin$Reader" 2 (Option.some (Jvm.ClassFile.FieldType.object "WornSkin$Chain")) D dA H0 hs.2.2.2.2) (e1 : h'.2.2.1 = hs.2.2.1 + mc) (e2 : h'.2.2.2.1 = hs.2.2.2.1 + ms) : ∀ (x0 : Option Nat) (x1 : Option Nat), ∀ (h : jH) (H : Heap) (locs : List Loc) (cells slots : Nat) (ls : Array Slot), (fX2_chain x0 x1).1 h = some (r, h') → jS D dA H0 hs h H locs cells slots → lv_has ls 2 [(0, va_rf x0), (1, va_rf x1)] → W p l e { frames := 5, cells := mc, slots := ms, locals := 102 } s m args below meth c H locs cells slots (jQ D dA H0 below s (.returned (some (va_rf r))) h' mc ms) (F0 m 0 ls []) := by
  have hx := cx.1
  have hb := cx.2.1
  have hown := cx.2.2.2.1
  have hts := cx.2.2.2.2.1
  have hm : h'.2.2.1 ≤ hs.2.2.1 + mc ∧ h'.2.2.2.1 ≤ hs.2.2.2.1 + ms := ⟨Nat.le_of_eq e1, Nat.le_of_eq e2⟩
  intro x0 x1 h H locs cells slots ls hf hS hl
  unfold fX2_chain at hf
  refine j_aload_n (pc := 0) (r := x1) hx hb dX2_chain_0 rfl (lv_at hl 1 rfl) ?_
  refine j_ifnonnull (pc := 1) (tgt := 15) (r := x1) hx hb dX2_chain_1 (by decide) (fun hc => ?_) (fun hc => ?_)
  · have hf := jI_f hf hc
    refine j_aload_n (pc := 15) (r := x1) hx hb dX2_chain_15 rfl (lv_at hl 1 rfl) ?_
    exact wX2_chain_16 cx e1 e2 _ _ _ _ _ _ _ hf hS (lv_sub hl [] rfl)
  · have hf := jI_t hf hc
    refine j_new (pc := 4) cx hS hf cn_X18 q1007 dX2_chain_4 hm (fun q1 h H cells slots hf hS => ?_)
    refine lv_dup (pc := 7) hx hb dX2_chain_7 rfl ?_
    refine j_aload_n (pc := 8) (r := x0) hx hb dX2_chain_8 rfl (lv_at hl 0 rfl) ?_
    obtain ⟨_, h1, e9, hf⟩ := jB_some hf
    refine j_callI (pc := 9) (st1 := [.ref q1]) (As := [va_rf x0]) (rest := [.ref q1]) cx hS rfl hl.1 hm (metX18_init l _ _ _ _ _ e9) (jle hf) rfl q1011 q1010 q1009 q149 pdX18_init rfl rfl (Nat.le_of_ble_eq_true rfl) ⟨Nat.le_of_ble_eq_true rfl, Nat.le_of_ble_eq_true rfl⟩ dX2_chain_9 rfl (fun H locs cells slots hS => ?_)
    refine lv_goto (pc := 12) (tgt := 16) hx hb dX2_chain_12 (by decide) ?_
    exact wX2_chain_16 cx e1 e2 _ _ _ _ _ _ _ hf hS (lv_sub hl [] rfl)
theorem metX2_chain (l : Launch) (x0 : Option Nat) (x1 : Option Nat) (h h' : jH) (r : Option Nat) (hf : (fX2_chain x0 x1).1 h = some (r, h')) : jMet l yX2_chain (ws_ yX2_chain cX2_chain 2 (Option.some (Jvm.ClassFile.FieldType.object "WornSkin$Chain"))) (5) (102) [va_rf x0, va_rf x1] h h' (.returned (some (va_rf r))) := by
  refine jStart rfl (jle hf) (by cases x0 <;> cases x1 <;> exact Nat.le_of_ble_eq_true rfl) ?_
  intro p e s m below meth c D dA H0 mc ms ls cx hnm e1 e2 hS hl
  have hl : lv_has ls 2 [(0, va_rf x0), (1, va_rf x1)] := by cases x0 <;> cases x1 <;> exact hl
  exact wX2_chain_0 cx e1 e2 _ _ _ _ _ _ _ _ hf hS hl
def fX2_line_36 (N : Nat) (a0 : Nat) (v0 : Option Nat) (v1 : Option Nat) (v2 : Int32) (v3 : Int32) : jM (Option Nat ⊕ Nat) := jB (jnn0 v1) fun b2 => jB (fX29_init b2 v2 v3) fun _ => jR (.inl v0)
def fX2_line (N : Nat) (a0 : Nat) (x1 : Int32) : jM (Option Nat ⊕ Nat) := if x1 = 3 then (jB (jnw 28 0 []) fun q8 => jB (fX28_init q8) fun _ => jR (.inl (some q8))) else (if x1 ≤ 0 then (jBT (fX2_told N a0 20) fun y1 => jBT (fX2_told N a0 0) fun y2 => jB (jnw 30 3 [.int 0, .int 0, .int 0]) fun q3 => jBT (fX2_number_2 a0 0 5) fun y4 => jB (fX30_init q3 y1 y2 y4) fun _ => jR (.inl (some q3))) else (jB (jnw 29 2 [.int 0, .int 0]) fun q6 => jBT (fX2_told N a0 0) fun y7 => if x1 = 2 then (fX2_line_36 N a0 (some q6) (some q6) y7 1) else (fX2_line_36 N a0 (some q6) (some q6) y7 0)))
theorem wX2_line_36 {N : Nat} {r : Option Nat ⊕ Nat} (cx : jCx p s m args meth c cX2_line "WornSkin$Reader" 4 (Option.some (Jvm.ClassFile.FieldType.object "WornSkin$Line")) D dA H0 hs.2.2.2.2) (e1 : h'.2.2.1 = hs.2.2.1 + mc) (e2 : h'.2.2.2.1 = hs.2.2.2.1 + ms) (hfl : l.stackTraces = false) (ht : c.exceptionTable.toList = []) (a0 : Nat) (hth : jTh hs a0 1) : ∀ (v0 : Option Nat) (v1 : Option Nat) (v2 : Int32) (v3 : Int32), ∀ (h : jH) (H : Heap) (locs : List Loc) (cells slots : Nat) (ls : Array Slot), (fX2_line_36 N a0 v0 v1 v2 v3).1 h = some (r, h') → jS D dA H0 hs h H locs cells slots → lv_has ls 4 [(0, .ref a0)] → W p l e { frames := 9, cells := mc, slots := ms, locals := 193 } s m args below meth c H locs cells slots (jQ D dA H0 below s (jOc (fun v => some (va_rf v)) r) h' mc ms) (F0 m 36 ls [.int v3, .int v2, va_rf v1, va_rf v0]) := by
  have hx := cx.1
  have hb := cx.2.1
  have hown := cx.2.2.2.1
  have hts := cx.2.2.2.2.1
  have hm : h'.2.2.1 ≤ hs.2.2.1 + mc ∧ h'.2.2.2.1 ≤ hs.2.2.2.1 + ms := ⟨Nat.le_of_eq e1, Nat.le_of_eq e2⟩
  intro v0 v1 v2 v3 h H locs cells slots ls hf hS hl
  unfold fX2_line_36 at hf
  obtain ⟨b2, eb, hf⟩ := jnn0_s hf
  refine j_nn (pc := 36) eb [.int v3, .int v2] [va_rf v0] rfl ?_
  obtain ⟨_, h1, e9, hf⟩ := jB_some hf
  refine j_callI (pc := 36) (st1 := [va_rf v0]) (As := [.int v2, .int v3]) (rest := [va_rf v0]) cx hS rfl hl.1 hm (metX29_init l _ _ _ _ _ _ e9) (jle hf) rfl q1120 q1119 q1118 q160 pdX29_init rfl rfl (by simp only [List.map_cons, List.map_nil, List.sum_cons, List.sum_nil, jrfc]; exact Nat.le_of_ble_eq_true rfl) ⟨Nat.le_of_ble_eq_true rfl, Nat.le_of_ble_eq_true rfl⟩ dX2_line_36 rfl (fun H locs cells slots hS => ?_)
  exact j_aretT (pc := 39) cx hS hf (Or.inl ⟨_, rfl⟩) e1 e2 dX2_line_39
theorem wX2_line_0 {N : Nat} {r : Option Nat ⊕ Nat} (cx : jCx p s m args meth c cX2_line "WornSkin$Reader" 4 (Option.some (Jvm.ClassFile.FieldType.object "WornSkin$Line")) D dA H0 hs.2.2.2.2) (e1 : h'.2.2.1 = hs.2.2.1 + mc) (e2 : h'.2.2.2.1 = hs.2.2.2.1 + ms) (hfl : l.stackTraces = false) (ht : c.exceptionTable.toList = []) (a0 : Nat) (hth : jTh hs a0 1) : ∀ (x1 : Int32), ∀ (h : jH) (H : Heap) (locs : List Loc) (cells slots : Nat) (ls : Array Slot), (fX2_line N a0 x1).1 h = some (r, h') → jS D dA H0 hs h H locs cells slots → lv_has ls 4 [(0, .ref a0), (1, .int x1)] → W p l e { frames := 9, cells := mc, slots := ms, locals := 193 } s m args below meth c H locs cells slots (jQ D dA H0 below s (jOc (fun v => some (va_rf v)) r) h' mc ms) (F0 m 0 ls []) := by
  have hx := cx.1
  have hb := cx.2.1
  have hown := cx.2.2.2.1
  have hts := cx.2.2.2.2.1
  have hm : h'.2.2.1 ≤ hs.2.2.1 + mc ∧ h'.2.2.2.1 ≤ hs.2.2.2.1 + ms := ⟨Nat.le_of_eq e1, Nat.le_of_eq e2⟩
  intro x1 h H locs cells slots ls hf hS hl
  unfold fX2_line at hf
  refine lv_iload_n (pc := 0) hx hb dX2_line_0 rfl (lv_at hl 1 rfl) ?_
  refine lv_iconst (pc := 1) (v := 3) hx hb dX2_line_1 rfl ?_
  refine lv_icmp_ne (pc := 2) (tgt := 13) hx hb dX2_line_2 (by decide) (fun hc => ?_) (fun hc => ?_)
  · have hf := jI_f hf hc
    refine lv_iload_n (pc := 13) hx hb dX2_line_13 rfl (lv_at hl 1 rfl) ?_
    refine lv_if_le (pc := 14) (tgt := 40) hx hb dX2_line_14 (by decide) (fun hc => ?_) (fun hc => ?_)
    · have hf := jI_t hf hc
      refine lv_aload_n (pc := 40) hx hb dX2_line_40 rfl (lv_at hl 0 rfl) ?_
      refine lv_bipush (pc := 41) (v := 20) hx hb dX2_line_41 rfl ?_
      rcases jBT_some hf with ⟨y1, h1, e9, hf⟩ | ⟨x9, e9, ez⟩
      rotate_left
      · have ez : r = .inr x9 := ez
        subst ez
        exact j_callVX (pc := 43) (z := ((), h')) (As := [.int 20]) (rest := []) cx hS rfl hl.1 hm (metX2_told l hfl _ _ _ _ _ _ (hth.at hS) e9) (jLe.rf _) (hth.at hS) rfl (lw_V q858 q860 qs17 q113 q861) pdX2_told rfl rfl (Nat.le_of_ble_eq_true rfl) ⟨Nat.le_of_ble_eq_true rfl, Nat.le_of_ble_eq_true rfl⟩ dX2_line_43 (fun H locs cells slots hS => j_leaves cx hS ht e1 e2)
      refine j_callV (pc := 43) (st1 := [.int y1]) (As := [.int 20]) (rest := []) cx hS rfl hl.1 hm (metX2_told l hfl _ _ _ _ _ _ (hth.at hS) e9) (jle hf) (hth.at hS) rfl (lw_V q858 q860 qs17 q113 q861) pdX2_told rfl rfl (Nat.le_of_ble_eq_true rfl) ⟨Nat.le_of_ble_eq_true rfl, Nat.le_of_ble_eq_true rfl⟩ dX2_line_43 rfl (fun H locs cells slots hS => ?_)
      refine lv_istore_n (pc := 46) (i := 2) (lv' := [(2, .int y1), (0, .ref a0), (1, .int x1)]) hx hb dX2_line_46 rfl hl (Nat.le_of_ble_eq_true rfl) rfl (fun ls hl => ?_)
      refine lv_aload_n (pc := 47) hx hb dX2_line_47 rfl (lv_at hl 1 rfl) ?_
      refine lv_iconst (pc := 48) (v := 0) hx hb dX2_line_48 rfl ?_
      rcases jBT_some hf with ⟨y2, h1, e9, hf⟩ | ⟨x9, e9, ez⟩
      rotate_left
      · have ez : r = .inr x9 := ez
        subst ez
        exact j_callVX (pc := 49) (z := ((), h')) (As := [.int 0]) (rest := []) cx hS rfl hl.1 hm (metX2_told l hfl _ _ _ _ _ _ (hth.at hS) e9) (jLe.rf _) (hth.at hS) rfl (lw_V q858 q860 qs17 q113 q861) pdX2_told rfl rfl (Nat.le_of_ble_eq_true rfl) ⟨Nat.le_of_ble_eq_true rfl, Nat.le_of_ble_eq_true rfl⟩ dX2_line_49 (fun H locs cells slots hS => j_leaves cx hS ht e1 e2)
      refine j_callV (pc := 49) (st1 := [.int y2]) (As := [.int 0]) (rest := []) cx hS rfl hl.1 hm (metX2_told l hfl _ _ _ _ _ _ (hth.at hS) e9) (jle hf) (hth.at hS) rfl (lw_V q858 q860 qs17 q113 q861) pdX2_told rfl rfl (Nat.le_of_ble_eq_true rfl) ⟨Nat.le_of_ble_eq_true rfl, Nat.le_of_ble_eq_true rfl⟩ dX2_line_49 rfl (fun H locs cells slots hS => ?_)
      refine lv_istore_n (pc := 52) (i := 3) (lv' := [(3, .int y2), (2, .int y1), (0, .ref a0), (1, .int x1)]) hx hb dX2_line_52 rfl hl (Nat.le_of_ble_eq_true rfl) rfl (fun ls hl => ?_)
      refine j_new (pc := 53) cx hS hf cn_X30 q1129 dX2_line_53 hm (fun q3 h H cells slots hf hS => ?_)
      refine lv_dup (pc := 56) hx hb dX2_line_56 rfl ?_
      refine lv_iload_n (pc := 57) hx hb dX2_line_57 rfl (lv_at hl 1 rfl) ?_
      refine lv_iload_n (pc := 58) hx hb dX2_line_58 rfl (lv_at hl 0 rfl) ?_
      refine lv_aload_n (pc := 59) hx hb dX2_line_59 rfl (lv_at hl 2 rfl) ?_
      refine lv_iconst (pc := 60) (v := 0) hx hb dX2_line_60 rfl ?_
      refine lv_iconst (pc := 61) (v := 5) hx hb dX2_line_61 rfl ?_
      rcases jBT_some hf with ⟨y4, h1, e9, hf⟩ | ⟨x9, e9, ez⟩
      rotate_left
      · have ez : r = .inr x9 := ez
        subst ez
        exact j_callVX (pc := 62) (z := ((), h')) (As := [.int 0, .int 5]) (rest := [.int y2, .int y1, .ref q3, .ref q3]) cx hS rfl hl.1 hm (metX2_number_2 l hfl _ _ _ _ _ _ (hth.at hS) e9) (jLe.rf _) (hth.at hS) rfl (lw_V q828 q830 qs15 q113 q831) pdX2_number_2 rfl rfl (Nat.le_of_ble_eq_true rfl) ⟨Nat.le_of_ble_eq_true rfl, Nat.le_of_ble_eq_true rfl⟩ dX2_line_62 (fun H locs cells slots hS => j_leaves cx hS ht e1 e2)
      refine j_callV (pc := 62) (st1 := [.int y4, .int y2, .int y1, .ref q3, .ref q3]) (As := [.int 0, .int 5]) (rest := [.int y2, .int y1, .ref q3, .ref q3]) cx hS rfl hl.1 hm (metX2_number_2 l hfl _ _ _ _ _ _ (hth.at hS) e9) (jle hf) (hth.at hS) rfl (lw_V q828 q830 qs15 q113 q831) pdX2_number_2 rfl rfl (Nat.le_of_ble_eq_true rfl) ⟨Nat.le_of_ble_eq_true rfl, Nat.le_of_ble_eq_true rfl⟩ dX2_line_62 rfl (fun H locs cells slots hS => ?_)
      obtain ⟨_, h1, e9, hf⟩ := jB_some hf
      refine j_callI (pc := 65) (st1 := [.ref q3]) (As := [.int y1, .int y2, .int y4]) (rest := [.ref q3]) cx hS rfl hl.1 hm (metX30_init l _ _ _ _ _ _ _ e9) (jle hf) rfl q1133 q1132 q1131 q161 pdX30_init rfl rfl (Nat.le_of_ble_eq_true rfl) ⟨Nat.le_of_ble_eq_true rfl, Nat.le_of_ble_eq_true rfl⟩ dX2_line_65 rfl (fun H locs cells slots hS => ?_)
      exact j_aretT (pc := 68) cx hS hf (Or.inl ⟨_, rfl⟩) e1 e2 dX2_line_68
    · have hf := jI_f hf hc
      refine j_new (pc := 17) cx hS hf cn_X29 q1116 dX2_line_17 hm (fun q6 h H cells slots hf hS => ?_)
      refine lv_dup (pc := 20) hx hb dX2_line_20 rfl ?_
      refine lv_aload_n (pc := 21) hx hb dX2_line_21 rfl (lv_at hl 0 rfl) ?_
      refine lv_iconst (pc := 22) (v := 0) hx hb dX2_line_22 rfl ?_
      rcases jBT_some hf with ⟨y7, h1, e9, hf⟩ | ⟨x9, e9, ez⟩
      rotate_left
      · have ez : r = .inr x9 := ez
        subst ez
        exact j_callVX (pc := 23) (z := ((), h')) (As := [.int 0]) (rest := [.ref q6, .ref q6]) cx hS rfl hl.1 hm (metX2_told l hfl _ _ _ _ _ _ (hth.at hS) e9) (jLe.rf _) (hth.at hS) rfl (lw_V q858 q860 qs17 q113 q861) pdX2_told rfl rfl (Nat.le_of_ble_eq_true rfl) ⟨Nat.le_of_ble_eq_true rfl, Nat.le_of_ble_eq_true rfl⟩ dX2_line_23 (fun H locs cells slots hS => j_leaves cx hS ht e1 e2)
      refine j_callV (pc := 23) (st1 := [.int y7, .ref q6, .ref q6]) (As := [.int 0]) (rest := [.ref q6, .ref q6]) cx hS rfl hl.1 hm (metX2_told l hfl _ _ _ _ _ _ (hth.at hS) e9) (jle hf) (hth.at hS) rfl (lw_V q858 q860 qs17 q113 q861) pdX2_told rfl rfl (Nat.le_of_ble_eq_true rfl) ⟨Nat.le_of_ble_eq_true rfl, Nat.le_of_ble_eq_true rfl⟩ dX2_line_23 rfl (fun H locs cells slots hS => ?_)
      refine lv_iload_n (pc := 26) hx hb dX2_line_26 rfl (lv_at hl 1 rfl) ?_
      refine lv_iconst (pc := 27) (v := 2) hx hb dX2_line_27 rfl ?_
      refine lv_icmp_ne (pc := 28) (tgt := 35) hx hb dX2_line_28 (by decide) (fun hc => ?_) (fun hc => ?_)
      · have hf := jI_f hf hc
        refine lv_iconst (pc := 35) (v := 0) hx hb dX2_line_35 rfl ?_
        exact wX2_line_36 cx e1 e2 hfl ht a0 hth _ _ _ _ _ _ _ _ _ _ hf hS (lv_sub hl [0] rfl)
      · have hf := jI_t hf hc
        refine lv_iconst (pc := 31) (v := 1) hx hb dX2_line_31 rfl ?_
        refine lv_goto (pc := 32) (tgt := 36) hx hb dX2_line_32 (by decide) ?_
        exact wX2_line_36 cx e1 e2 hfl ht a0 hth _ _ _ _ _ _ _ _ _ _ hf hS (lv_sub hl [0] rfl)
  · have hf := jI_t hf hc
    refine j_new (pc := 5) cx hS hf cn_X28 q1106 dX2_line_5 hm (fun q8 h H cells slots hf hS => ?_)
    refine lv_dup (pc := 8) hx hb dX2_line_8 rfl ?_
    obtain ⟨_, h1, e9, hf⟩ := jB_some hf
    refine j_callIN (pc := 9) (st1 := [.ref q8]) (As := []) (rest := [.ref q8]) cx hS rfl hl.1 hm (metX28_init l _ _ _ _ e9) (jle hf) rfl q1110 q1109 q1108 q159 pdX28_init rfl rfl (Nat.le_of_ble_eq_true rfl) ⟨Nat.le_of_ble_eq_true rfl, Nat.le_of_ble_eq_true rfl⟩ dX2_line_9 rfl (fun H locs cells slots hS => ?_)
    exact j_aretT (pc := 12) cx hS hf (Or.inl ⟨_, rfl⟩) e1 e2 dX2_line_12
theorem metX2_line (l : Launch) (hfl : l.stackTraces = false) (N : Nat) (a0 : Nat) (x1 : Int32) (h h' : jH) (r : Option Nat ⊕ Nat) (hth : jcd h a0 = some 1) (hf : (fX2_line N a0 x1).1 h = some (r, h')) : jMet l yX2_line (ws_ yX2_line cX2_line 4 (Option.some (Jvm.ClassFile.FieldType.object "WornSkin$Line"))) (9) (193) [.ref a0, .int x1] h h' (jOc (fun v => some (va_rf v)) r) := by
  refine jStartT rfl (jle hf) (Nat.le_of_ble_eq_true rfl) ?_
  intro p e s m below meth c D dA H0 mc ms ls ht cx hnm e1 e2 hS hl
  have hth := jTh.mk hS hth
  exact wX2_line_0 cx e1 e2 hfl ht a0 hth _ _ _ _ _ _ _ hf hS hl
end
