set_option maxRecDepth 100000
section
variable {p : Program} {l : Launch} {e : Env} {s : State} {m : MethodId} {args : Array Value} {below : List Frame} {meth : Method} {c : Code} {D : va_G} {dA : Nat → ClassId → Prop} {H0 : Heap} {hs h' : jH} {mc ms : Nat}
def fX7_init (a0 : Nat) : jM Unit := jB (jnaI 0 1000) fun q1 => jB (jpR [7] 2 (some a0) (some q1)) fun _ => jB (jnaI 0 6) fun q2 => jB (jpR [7] 10 (some a0) (some q2)) fun _ => jB (jnaL 1 6) fun q3 => jB (jpR [7] 11 (some a0) (some q3)) fun _ => jB (jnaL 1 12) fun q4 => jB (jpR [7] 12 (some a0) (some q4)) fun _ => jB (jnaI 0 6) fun q5 => jB (jpR [7] 13 (some a0) (some q5)) fun _ => jB (jnaI 0 6) fun q6 => jB (jpR [7] 14 (some a0) (some q6)) fun _ => jB (jnaI 0 6) fun q7 => jB (jpR [7] 15 (some a0) (some q7)) fun _ => jB (jnaI 0 12) fun q8 => jB (jpR [7] 16 (some a0) (some q8)) fun _ => jB (jnaI 0 12) fun q9 => jB (jpR [7] 17 (some a0) (some q9)) fun _ => jB (jnaI 0 12) fun q10 => jB (jpR [7] 18 (some a0) (some q10)) fun _ => jB (jnaI 0 24) fun q11 => jB (jpR [7] 19 (some a0) (some q11)) fun _ => jB (jnaI 0 2) fun q12 => jB (jpR [7] 20 (some a0) (some q12)) fun _ => jB (jnaI 0 2) fun q13 => jB (jpR [7] 21 (some a0) (some q13)) fun _ => jB (jnaI 0 2000) fun q14 => jB (jpR [7] 22 (some a0) (some q14)) fun _ => jB (jnaI 0 7) fun q15 => jB (jpR [7] 24 (some a0) (some q15)) fun _ => jB (jnaI 2 7) fun q16 => jB (jpR [7] 25 (some a0) (some q16)) fun _ => jB (jnaI 0 7) fun q17 => jB (jpR [7] 26 (some a0) (some q17)) fun _ => jB (jnaI 0 7) fun q18 => jB (jpR [7] 27 (some a0) (some q18)) fun _ => jB (jnaI 0 7) fun q19 => jB (jpR [7] 28 (some a0) (some q19)) fun _ => jB (jnaI 0 7) fun q20 => jB (jpR [7] 29 (some a0) (some q20)) fun _ => jB (jnaI 0 7) fun q21 => jB (jpR [7] 30 (some a0) (some q21)) fun _ => jB (jnaI 0 7) fun q22 => jB (jpR [7] 31 (some a0) (some q22)) fun _ => jB (jnaI 0 7) fun q23 => jB (jpR [7] 32 (some a0) (some q23)) fun _ => jB (jnaI 0 7) fun q24 => jB (jpR [7] 33 (some a0) (some q24)) fun _ => jB (jnaI 0 7) fun q25 => jB (jpR [7] 34 (some a0) (some q25)) fun _ => jB (jnaI 0 20) fun q26 => jB (jpR [7] 35 (some a0) (some q26)) fun _ => jB (jnaI 0 6) fun q27 => jB (jpR [7] 38 (some a0) (some q27)) fun _ => jB (jnaI 0 240) fun q28 => jB (jpR [7] 39 (some a0) (some q28)) fun _ => jB (jnaI 0 240) fun q29 => jB (jpR [7] 40 (some a0) (some q29)) fun _ => jB (jnaI 0 240) fun q30 => jB (jpR [7] 41 (some a0) (some q30)) fun _ => jB (jnaI 0 240) fun q31 => jB (jpR [7] 42 (some a0) (some q31)) fun _ => jB (jnaI 0 5) fun q32 => jB (jpR [7] 43 (some a0) (some q32)) fun _ => jB (jnaI 0 40) fun q33 => jB (jpR [7] 44 (some a0) (some q33)) fun _ => jB (jnaI 0 40) fun q34 => jB (jpR [7] 45 (some a0) (some q34)) fun _ => jB (jnaI 0 40) fun q35 => jB (jpR [7] 46 (some a0) (some q35)) fun _ => jB (jnaI 2 40) fun q36 => jB (jpR [7] 47 (some a0) (some q36)) fun _ => jB (jnaI 0 25) fun q37 => jB (jpR [7] 48 (some a0) (some q37)) fun _ => jB (jnaI 0 25) fun q38 => jB (jpR [7] 49 (some a0) (some q38)) fun _ => jB (jnaI 0 25) fun q39 => jB (jpR [7] 50 (some a0) (some q39)) fun _ => jB (jnaI 0 100) fun q40 => jB (jpR [7] 51 (some a0) (some q40)) fun _ => jB (jnaI 0 400) fun q41 => jB (jpR [7] 52 (some a0) (some q41)) fun _ => jB (jnaI 2 4) fun q42 => jB (jpR [7] 53 (some a0) (some q42)) fun _ => jB (jnaI 0 6) fun q43 => jB (jpR [7] 55 (some a0) (some q43)) fun _ => jB (jnaI 0 6) fun q44 => jB (jpR [7] 56 (some a0) (some q44)) fun _ => jR ()
theorem wX7_init_0 {r : Unit} (cx : jCx p s m args meth c cX7_init "WornSkinModel" 1 (Option.none : Option Jvm.ClassFile.FieldType) D dA H0 hs.2.2.2.2) (e1 : h'.2.2.1 = hs.2.2.1 + mc) (e2 : h'.2.2.2.1 = hs.2.2.2.1 + ms) (hin : meth.name = "<init>") (a0 : Nat) : ∀ (h : jH) (H : Heap) (locs : List Loc) (cells slots : Nat) (ls : Array Slot), (fX7_init a0).1 h = some (r, h') → jS D dA H0 hs h H locs cells slots → lv_has ls 1 [(0, .ref a0)] → W p l e { frames := 1, cells := mc, slots := ms, locals := 20 } s m args below meth c H locs cells slots (jQ D dA H0 below s (.returned none) h' mc ms) (F0 m 0 ls []) := by
  have hx := cx.1
  have hb := cx.2.1
  have hown := cx.2.2.2.1
  have hts := cx.2.2.2.2.1
  have hm : h'.2.2.1 ≤ hs.2.2.1 + mc ∧ h'.2.2.2.1 ≤ hs.2.2.2.1 + ms := ⟨Nat.le_of_eq e1, Nat.le_of_eq e2⟩
  intro h H locs cells slots ls hf hS hl
  unfold fX7_init at hf
  refine lv_aload_n (pc := 0) hx hb dX7_init_0 rfl (lv_at hl 0 rfl) ?_
  refine j_objInit (pc := 1) cx q1683 q171 q172 hl.1 dX7_init_1 (Nat.le_of_ble_eq_true rfl) (Nat.le_of_ble_eq_true rfl) ?_
  refine lv_aload_n (pc := 4) hx hb dX7_init_4 rfl (lv_at hl 0 rfl) ?_
  refine lv_sipush (pc := 5) (v := 1000) hx hb dX7_init_5 rfl ?_
  refine j_naG (pc := 8) cx hS hf (ty := .int) rfl rfl (fun _ => rfl) (by decide) q247 dX7_init_8 (fun _ hh => by cases hh) hm (fun q1 h H cells slots hf hS => ?_)
  refine j_pRa (pc := 10) cx hS hf fp_WornSkinModel_tape (Or.inr ⟨rfl, hin, rfl⟩) q1686 dX7_init_10 (fun h H locs hf hS => ?_)
  refine lv_aload_n (pc := 13) hx hb dX7_init_13 rfl (lv_at hl 0 rfl) ?_
  refine lv_bipush (pc := 14) (v := 6) hx hb dX7_init_14 rfl ?_
  refine j_naG (pc := 16) cx hS hf (ty := .int) rfl rfl (fun _ => rfl) (by decide) q247 dX7_init_16 (fun _ hh => by cases hh) hm (fun q2 h H cells slots hf hS => ?_)
  refine j_pRa (pc := 18) cx hS hf fp_WornSkinModel_library (Or.inr ⟨rfl, hin, rfl⟩) q1694 dX7_init_18 (fun h H locs hf hS => ?_)
  refine lv_aload_n (pc := 21) hx hb dX7_init_21 rfl (lv_at hl 0 rfl) ?_
  refine lv_bipush (pc := 22) (v := 6) hx hb dX7_init_22 rfl ?_
  refine j_naG (pc := 24) cx hS hf (ty := .long) rfl rfl (fun _ => rfl) (by decide) q248 dX7_init_24 (fun _ hh => by cases hh) hm (fun q3 h H cells slots hf hS => ?_)
  refine j_pRa (pc := 26) cx hS hf fp_WornSkinModel_skinName (Or.inr ⟨rfl, hin, rfl⟩) q1695 dX7_init_26 (fun h H locs hf hS => ?_)
  refine lv_aload_n (pc := 29) hx hb dX7_init_29 rfl (lv_at hl 0 rfl) ?_
  refine lv_bipush (pc := 30) (v := 12) hx hb dX7_init_30 rfl ?_
  refine j_naG (pc := 32) cx hS hf (ty := .long) rfl rfl (fun _ => rfl) (by decide) q248 dX7_init_32 (fun _ hh => by cases hh) hm (fun q4 h H cells slots hf hS => ?_)
  refine j_pRa (pc := 34) cx hS hf fp_WornSkinModel_textName (Or.inr ⟨rfl, hin, rfl⟩) q1696 dX7_init_34 (fun h H locs hf hS => ?_)
  refine lv_aload_n (pc := 37) hx hb dX7_init_37 rfl (lv_at hl 0 rfl) ?_
  refine lv_bipush (pc := 38) (v := 6) hx hb dX7_init_38 rfl ?_
  refine j_naG (pc := 40) cx hS hf (ty := .int) rfl rfl (fun _ => rfl) (by decide) q247 dX7_init_40 (fun _ hh => by cases hh) hm (fun q5 h H cells slots hf hS => ?_)
  refine j_pRa (pc := 42) cx hS hf fp_WornSkinModel_linesOf (Or.inr ⟨rfl, hin, rfl⟩) q1697 dX7_init_42 (fun h H locs hf hS => ?_)
  refine lv_aload_n (pc := 45) hx hb dX7_init_45 rfl (lv_at hl 0 rfl) ?_
  refine lv_bipush (pc := 46) (v := 6) hx hb dX7_init_46 rfl ?_
  refine j_naG (pc := 48) cx hS hf (ty := .int) rfl rfl (fun _ => rfl) (by decide) q247 dX7_init_48 (fun _ hh => by cases hh) hm (fun q6 h H cells slots hf hS => ?_)
  refine j_pRa (pc := 50) cx hS hf fp_WornSkinModel_thickTold (Or.inr ⟨rfl, hin, rfl⟩) q1698 dX7_init_50 (fun h H locs hf hS => ?_)
  refine lv_aload_n (pc := 53) hx hb dX7_init_53 rfl (lv_at hl 0 rfl) ?_
  refine lv_bipush (pc := 54) (v := 6) hx hb dX7_init_54 rfl ?_
  refine j_naG (pc := 56) cx hS hf (ty := .int) rfl rfl (fun _ => rfl) (by decide) q247 dX7_init_56 (fun _ hh => by cases hh) hm (fun q7 h H cells slots hf hS => ?_)
  refine j_pRa (pc := 58) cx hS hf fp_WornSkinModel_holes (Or.inr ⟨rfl, hin, rfl⟩) q1699 dX7_init_58 (fun h H locs hf hS => ?_)
  refine lv_aload_n (pc := 61) hx hb dX7_init_61 rfl (lv_at hl 0 rfl) ?_
  refine lv_bipush (pc := 62) (v := 12) hx hb dX7_init_62 rfl ?_
  refine j_naG (pc := 64) cx hS hf (ty := .int) rfl rfl (fun _ => rfl) (by decide) q247 dX7_init_64 (fun _ hh => by cases hh) hm (fun q8 h H cells slots hf hS => ?_)
  refine j_pRa (pc := 66) cx hS hf fp_WornSkinModel_kind (Or.inr ⟨rfl, hin, rfl⟩) q1700 dX7_init_66 (fun h H locs hf hS => ?_)
  refine lv_aload_n (pc := 69) hx hb dX7_init_69 rfl (lv_at hl 0 rfl) ?_
  refine lv_bipush (pc := 70) (v := 12) hx hb dX7_init_70 rfl ?_
  refine j_naG (pc := 72) cx hS hf (ty := .int) rfl rfl (fun _ => rfl) (by decide) q247 dX7_init_72 (fun _ hh => by cases hh) hm (fun q9 h H cells slots hf hS => ?_)
  refine j_pRa (pc := 74) cx hS hf fp_WornSkinModel_gall (Or.inr ⟨rfl, hin, rfl⟩) q1701 dX7_init_74 (fun h H locs hf hS => ?_)
  refine lv_aload_n (pc := 77) hx hb dX7_init_77 rfl (lv_at hl 0 rfl) ?_
  refine lv_bipush (pc := 78) (v := 12) hx hb dX7_init_78 rfl ?_
  refine j_naG (pc := 80) cx hS hf (ty := .int) rfl rfl (fun _ => rfl) (by decide) q247 dX7_init_80 (fun _ hh => by cases hh) hm (fun q10 h H cells slots hf hS => ?_)
  refine j_pRa (pc := 82) cx hS hf fp_WornSkinModel_long0 (Or.inr ⟨rfl, hin, rfl⟩) q1702 dX7_init_82 (fun h H locs hf hS => ?_)
  refine lv_aload_n (pc := 85) hx hb dX7_init_85 rfl (lv_at hl 0 rfl) ?_
  refine lv_bipush (pc := 86) (v := 24) hx hb dX7_init_86 rfl ?_
  refine j_naG (pc := 88) cx hS hf (ty := .int) rfl rfl (fun _ => rfl) (by decide) q247 dX7_init_88 (fun _ hh => by cases hh) hm (fun q11 h H cells slots hf hS => ?_)
  refine j_pRa (pc := 90) cx hS hf fp_WornSkinModel_damp (Or.inr ⟨rfl, hin, rfl⟩) q1703 dX7_init_90 (fun h H locs hf hS => ?_)
  refine lv_aload_n (pc := 93) hx hb dX7_init_93 rfl (lv_at hl 0 rfl) ?_
  refine lv_iconst (pc := 94) (v := 2) hx hb dX7_init_94 rfl ?_
  refine j_naG (pc := 95) cx hS hf (ty := .int) rfl rfl (fun _ => rfl) (by decide) q247 dX7_init_95 (fun _ hh => by cases hh) hm (fun q12 h H cells slots hf hS => ?_)
  refine j_pRa (pc := 97) cx hS hf fp_WornSkinModel_lineFrom (Or.inr ⟨rfl, hin, rfl⟩) q1704 dX7_init_97 (fun h H locs hf hS => ?_)
  refine lv_aload_n (pc := 100) hx hb dX7_init_100 rfl (lv_at hl 0 rfl) ?_
  refine lv_iconst (pc := 101) (v := 2) hx hb dX7_init_101 rfl ?_
  refine j_naG (pc := 102) cx hS hf (ty := .int) rfl rfl (fun _ => rfl) (by decide) q247 dX7_init_102 (fun _ hh => by cases hh) hm (fun q13 h H cells slots hf hS => ?_)
  refine j_pRa (pc := 104) cx hS hf fp_WornSkinModel_lineTo (Or.inr ⟨rfl, hin, rfl⟩) q1705 dX7_init_104 (fun h H locs hf hS => ?_)
  refine lv_aload_n (pc := 107) hx hb dX7_init_107 rfl (lv_at hl 0 rfl) ?_
  refine lv_sipush (pc := 108) (v := 2000) hx hb dX7_init_108 rfl ?_
  refine j_naG (pc := 111) cx hS hf (ty := .int) rfl rfl (fun _ => rfl) (by decide) q247 dX7_init_111 (fun _ hh => by cases hh) hm (fun q14 h H cells slots hf hS => ?_)
  refine j_pRa (pc := 113) cx hS hf fp_WornSkinModel_codes (Or.inr ⟨rfl, hin, rfl⟩) q1706 dX7_init_113 (fun h H locs hf hS => ?_)
  refine lv_aload_n (pc := 116) hx hb dX7_init_116 rfl (lv_at hl 0 rfl) ?_
  refine lv_bipush (pc := 117) (v := 7) hx hb dX7_init_117 rfl ?_
  refine j_naG (pc := 119) cx hS hf (ty := .int) rfl rfl (fun _ => rfl) (by decide) q247 dX7_init_119 (fun _ hh => by cases hh) hm (fun q15 h H cells slots hf hS => ?_)
  refine j_pRa (pc := 121) cx hS hf fp_WornSkinModel_opened (Or.inr ⟨rfl, hin, rfl⟩) q1708 dX7_init_121 (fun h H locs hf hS => ?_)
  refine lv_aload_n (pc := 124) hx hb dX7_init_124 rfl (lv_at hl 0 rfl) ?_
  refine lv_bipush (pc := 125) (v := 7) hx hb dX7_init_125 rfl ?_
  refine j_naG (pc := 127) cx hS hf (ty := .boolean) rfl rfl (fun _ => rfl) (by decide) q1862 dX7_init_127 (fun _ hh => by cases hh) hm (fun q16 h H cells slots hf hS => ?_)
  refine j_pRa (pc := 129) cx hS hf fp_WornSkinModel_compared (Or.inr ⟨rfl, hin, rfl⟩) q1709 dX7_init_129 (fun h H locs hf hS => ?_)
  refine lv_aload_n (pc := 132) hx hb dX7_init_132 rfl (lv_at hl 0 rfl) ?_
  refine lv_bipush (pc := 133) (v := 7) hx hb dX7_init_133 rfl ?_
  refine j_naG (pc := 135) cx hS hf (ty := .int) rfl rfl (fun _ => rfl) (by decide) q247 dX7_init_135 (fun _ hh => by cases hh) hm (fun q17 h H cells slots hf hS => ?_)
  refine j_pRa (pc := 137) cx hS hf fp_WornSkinModel_kept (Or.inr ⟨rfl, hin, rfl⟩) q1710 dX7_init_137 (fun h H locs hf hS => ?_)
  refine lv_aload_n (pc := 140) hx hb dX7_init_140 rfl (lv_at hl 0 rfl) ?_
  refine lv_bipush (pc := 141) (v := 7) hx hb dX7_init_141 rfl ?_
  refine j_naG (pc := 143) cx hS hf (ty := .int) rfl rfl (fun _ => rfl) (by decide) q247 dX7_init_143 (fun _ hh => by cases hh) hm (fun q18 h H cells slots hf hS => ?_)
  refine j_pRa (pc := 145) cx hS hf fp_WornSkinModel_keptBy (Or.inr ⟨rfl, hin, rfl⟩) q1711 dX7_init_145 (fun h H locs hf hS => ?_)
  refine lv_aload_n (pc := 148) hx hb dX7_init_148 rfl (lv_at hl 0 rfl) ?_
  refine lv_bipush (pc := 149) (v := 7) hx hb dX7_init_149 rfl ?_
  refine j_naG (pc := 151) cx hS hf (ty := .int) rfl rfl (fun _ => rfl) (by decide) q247 dX7_init_151 (fun _ hh => by cases hh) hm (fun q19 h H cells slots hf hS => ?_)
  refine j_pRa (pc := 153) cx hS hf fp_WornSkinModel_ahead (Or.inr ⟨rfl, hin, rfl⟩) q1712 dX7_init_153 (fun h H locs hf hS => ?_)
  refine lv_aload_n (pc := 156) hx hb dX7_init_156 rfl (lv_at hl 0 rfl) ?_
  refine lv_bipush (pc := 157) (v := 7) hx hb dX7_init_157 rfl ?_
  refine j_naG (pc := 159) cx hS hf (ty := .int) rfl rfl (fun _ => rfl) (by decide) q247 dX7_init_159 (fun _ hh => by cases hh) hm (fun q20 h H cells slots hf hS => ?_)
  refine j_pRa (pc := 161) cx hS hf fp_WornSkinModel_against (Or.inr ⟨rfl, hin, rfl⟩) q1713 dX7_init_161 (fun h H locs hf hS => ?_)
  refine lv_aload_n (pc := 164) hx hb dX7_init_164 rfl (lv_at hl 0 rfl) ?_
  refine lv_bipush (pc := 165) (v := 7) hx hb dX7_init_165 rfl ?_
  refine j_naG (pc := 167) cx hS hf (ty := .int) rfl rfl (fun _ => rfl) (by decide) q247 dX7_init_167 (fun _ hh => by cases hh) hm (fun q21 h H cells slots hf hS => ?_)
  refine j_pRa (pc := 169) cx hS hf fp_WornSkinModel_sum (Or.inr ⟨rfl, hin, rfl⟩) q1714 dX7_init_169 (fun h H locs hf hS => ?_)
  refine lv_aload_n (pc := 172) hx hb dX7_init_172 rfl (lv_at hl 0 rfl) ?_
  refine lv_bipush (pc := 173) (v := 7) hx hb dX7_init_173 rfl ?_
  refine j_naG (pc := 175) cx hS hf (ty := .int) rfl rfl (fun _ => rfl) (by decide) q247 dX7_init_175 (fun _ hh => by cases hh) hm (fun q22 h H cells slots hf hS => ?_)
  refine j_pRa (pc := 177) cx hS hf fp_WornSkinModel_sumBy (Or.inr ⟨rfl, hin, rfl⟩) q1715 dX7_init_177 (fun h H locs hf hS => ?_)
  refine lv_aload_n (pc := 180) hx hb dX7_init_180 rfl (lv_at hl 0 rfl) ?_
  refine lv_bipush (pc := 181) (v := 7) hx hb dX7_init_181 rfl ?_
  refine j_naG (pc := 183) cx hS hf (ty := .int) rfl rfl (fun _ => rfl) (by decide) q247 dX7_init_183 (fun _ hh => by cases hh) hm (fun q23 h H cells slots hf hS => ?_)
  refine j_pRa (pc := 185) cx hS hf fp_WornSkinModel_term (Or.inr ⟨rfl, hin, rfl⟩) q1716 dX7_init_185 (fun h H locs hf hS => ?_)
  refine lv_aload_n (pc := 188) hx hb dX7_init_188 rfl (lv_at hl 0 rfl) ?_
  refine lv_bipush (pc := 189) (v := 7) hx hb dX7_init_189 rfl ?_
  refine j_naG (pc := 191) cx hS hf (ty := .int) rfl rfl (fun _ => rfl) (by decide) q247 dX7_init_191 (fun _ hh => by cases hh) hm (fun q24 h H cells slots hf hS => ?_)
  refine j_pRa (pc := 193) cx hS hf fp_WornSkinModel_termBy (Or.inr ⟨rfl, hin, rfl⟩) q1717 dX7_init_193 (fun h H locs hf hS => ?_)
  refine lv_aload_n (pc := 196) hx hb dX7_init_196 rfl (lv_at hl 0 rfl) ?_
  refine lv_bipush (pc := 197) (v := 7) hx hb dX7_init_197 rfl ?_
  refine j_naG (pc := 199) cx hS hf (ty := .int) rfl rfl (fun _ => rfl) (by decide) q247 dX7_init_199 (fun _ hh => by cases hh) hm (fun q25 h H cells slots hf hS => ?_)
  refine j_pRa (pc := 201) cx hS hf fp_WornSkinModel_byNot (Or.inr ⟨rfl, hin, rfl⟩) q1718 dX7_init_201 (fun h H locs hf hS => ?_)
  refine lv_aload_n (pc := 204) hx hb dX7_init_204 rfl (lv_at hl 0 rfl) ?_
  refine lv_bipush (pc := 205) (v := 20) hx hb dX7_init_205 rfl ?_
  refine j_naG (pc := 207) cx hS hf (ty := .int) rfl rfl (fun _ => rfl) (by decide) q247 dX7_init_207 (fun _ hh => by cases hh) hm (fun q26 h H cells slots hf hS => ?_)
  refine j_pRa (pc := 209) cx hS hf fp_WornSkinModel_valueOf (Or.inr ⟨rfl, hin, rfl⟩) q1719 dX7_init_209 (fun h H locs hf hS => ?_)
  refine lv_aload_n (pc := 212) hx hb dX7_init_212 rfl (lv_at hl 0 rfl) ?_
  refine lv_bipush (pc := 213) (v := 6) hx hb dX7_init_213 rfl ?_
  refine j_naG (pc := 215) cx hS hf (ty := .int) rfl rfl (fun _ => rfl) (by decide) q247 dX7_init_215 (fun _ hh => by cases hh) hm (fun q27 h H cells slots hf hS => ?_)
  refine j_pRa (pc := 217) cx hS hf fp_WornSkinModel_lines (Or.inr ⟨rfl, hin, rfl⟩) q1722 dX7_init_217 (fun h H locs hf hS => ?_)
  refine lv_aload_n (pc := 220) hx hb dX7_init_220 rfl (lv_at hl 0 rfl) ?_
  refine lv_sipush (pc := 221) (v := 240) hx hb dX7_init_221 rfl ?_
  refine j_naG (pc := 224) cx hS hf (ty := .int) rfl rfl (fun _ => rfl) (by decide) q247 dX7_init_224 (fun _ hh => by cases hh) hm (fun q28 h H cells slots hf hS => ?_)
  refine j_pRa (pc := 226) cx hS hf fp_WornSkinModel_lineWhat (Or.inr ⟨rfl, hin, rfl⟩) q1723 dX7_init_226 (fun h H locs hf hS => ?_)
  refine lv_aload_n (pc := 229) hx hb dX7_init_229 rfl (lv_at hl 0 rfl) ?_
  refine lv_sipush (pc := 230) (v := 240) hx hb dX7_init_230 rfl ?_
  refine j_naG (pc := 233) cx hS hf (ty := .int) rfl rfl (fun _ => rfl) (by decide) q247 dX7_init_233 (fun _ hh => by cases hh) hm (fun q29 h H cells slots hf hS => ?_)
  refine j_pRa (pc := 235) cx hS hf fp_WornSkinModel_lineA (Or.inr ⟨rfl, hin, rfl⟩) q1724 dX7_init_235 (fun h H locs hf hS => ?_)
  refine lv_aload_n (pc := 238) hx hb dX7_init_238 rfl (lv_at hl 0 rfl) ?_
  refine lv_sipush (pc := 239) (v := 240) hx hb dX7_init_239 rfl ?_
  refine j_naG (pc := 242) cx hS hf (ty := .int) rfl rfl (fun _ => rfl) (by decide) q247 dX7_init_242 (fun _ hh => by cases hh) hm (fun q30 h H cells slots hf hS => ?_)
  refine j_pRa (pc := 244) cx hS hf fp_WornSkinModel_lineB (Or.inr ⟨rfl, hin, rfl⟩) q1725 dX7_init_244 (fun h H locs hf hS => ?_)
  refine lv_aload_n (pc := 247) hx hb dX7_init_247 rfl (lv_at hl 0 rfl) ?_
  refine lv_sipush (pc := 248) (v := 240) hx hb dX7_init_248 rfl ?_
  refine j_naG (pc := 251) cx hS hf (ty := .int) rfl rfl (fun _ => rfl) (by decide) q247 dX7_init_251 (fun _ hh => by cases hh) hm (fun q31 h H cells slots hf hS => ?_)
  refine j_pRa (pc := 253) cx hS hf fp_WornSkinModel_lineC (Or.inr ⟨rfl, hin, rfl⟩) q1726 dX7_init_253 (fun h H locs hf hS => ?_)
  refine lv_aload_n (pc := 256) hx hb dX7_init_256 rfl (lv_at hl 0 rfl) ?_
  refine lv_iconst (pc := 257) (v := 5) hx hb dX7_init_257 rfl ?_
  refine j_naG (pc := 258) cx hS hf (ty := .int) rfl rfl (fun _ => rfl) (by decide) q247 dX7_init_258 (fun _ hh => by cases hh) hm (fun q32 h H cells slots hf hS => ?_)
  refine j_pRa (pc := 260) cx hS hf fp_WornSkinModel_seens (Or.inr ⟨rfl, hin, rfl⟩) q1727 dX7_init_260 (fun h H locs hf hS => ?_)
  refine lv_aload_n (pc := 263) hx hb dX7_init_263 rfl (lv_at hl 0 rfl) ?_
  refine lv_bipush (pc := 264) (v := 40) hx hb dX7_init_264 rfl ?_
  refine j_naG (pc := 266) cx hS hf (ty := .int) rfl rfl (fun _ => rfl) (by decide) q247 dX7_init_266 (fun _ hh => by cases hh) hm (fun q33 h H cells slots hf hS => ?_)
  refine j_pRa (pc := 268) cx hS hf fp_WornSkinModel_seenSkin (Or.inr ⟨rfl, hin, rfl⟩) q1728 dX7_init_268 (fun h H locs hf hS => ?_)
  refine lv_aload_n (pc := 271) hx hb dX7_init_271 rfl (lv_at hl 0 rfl) ?_
  refine lv_bipush (pc := 272) (v := 40) hx hb dX7_init_272 rfl ?_
  refine j_naG (pc := 274) cx hS hf (ty := .int) rfl rfl (fun _ => rfl) (by decide) q247 dX7_init_274 (fun _ hh => by cases hh) hm (fun q34 h H cells slots hf hS => ?_)
  refine j_pRa (pc := 276) cx hS hf fp_WornSkinModel_seenDeep (Or.inr ⟨rfl, hin, rfl⟩) q1729 dX7_init_276 (fun h H locs hf hS => ?_)
  refine lv_aload_n (pc := 279) hx hb dX7_init_279 rfl (lv_at hl 0 rfl) ?_
  refine lv_bipush (pc := 280) (v := 40) hx hb dX7_init_280 rfl ?_
  refine j_naG (pc := 282) cx hS hf (ty := .int) rfl rfl (fun _ => rfl) (by decide) q247 dX7_init_282 (fun _ hh => by cases hh) hm (fun q35 h H cells slots hf hS => ?_)
  refine j_pRa (pc := 284) cx hS hf fp_WornSkinModel_seenDamp (Or.inr ⟨rfl, hin, rfl⟩) q1730 dX7_init_284 (fun h H locs hf hS => ?_)
  refine lv_aload_n (pc := 287) hx hb dX7_init_287 rfl (lv_at hl 0 rfl) ?_
  refine lv_bipush (pc := 288) (v := 40) hx hb dX7_init_288 rfl ?_
  refine j_naG (pc := 290) cx hS hf (ty := .boolean) rfl rfl (fun _ => rfl) (by decide) q1862 dX7_init_290 (fun _ hh => by cases hh) hm (fun q36 h H cells slots hf hS => ?_)
  refine j_pRa (pc := 292) cx hS hf fp_WornSkinModel_seenShows (Or.inr ⟨rfl, hin, rfl⟩) q1731 dX7_init_292 (fun h H locs hf hS => ?_)
  refine lv_aload_n (pc := 295) hx hb dX7_init_295 rfl (lv_at hl 0 rfl) ?_
  refine lv_bipush (pc := 296) (v := 25) hx hb dX7_init_296 rfl ?_
  refine j_naG (pc := 298) cx hS hf (ty := .int) rfl rfl (fun _ => rfl) (by decide) q247 dX7_init_298 (fun _ hh => by cases hh) hm (fun q37 h H cells slots hf hS => ?_)
  refine j_pRa (pc := 300) cx hS hf fp_WornSkinModel_s (Or.inr ⟨rfl, hin, rfl⟩) q1732 dX7_init_300 (fun h H locs hf hS => ?_)
  refine lv_aload_n (pc := 303) hx hb dX7_init_303 rfl (lv_at hl 0 rfl) ?_
  refine lv_bipush (pc := 304) (v := 25) hx hb dX7_init_304 rfl ?_
  refine j_naG (pc := 306) cx hS hf (ty := .int) rfl rfl (fun _ => rfl) (by decide) q247 dX7_init_306 (fun _ hh => by cases hh) hm (fun q38 h H cells slots hf hS => ?_)
  refine j_pRa (pc := 308) cx hS hf fp_WornSkinModel_aside (Or.inr ⟨rfl, hin, rfl⟩) q1733 dX7_init_308 (fun h H locs hf hS => ?_)
  refine lv_aload_n (pc := 311) hx hb dX7_init_311 rfl (lv_at hl 0 rfl) ?_
  refine lv_bipush (pc := 312) (v := 25) hx hb dX7_init_312 rfl ?_
  refine j_naG (pc := 314) cx hS hf (ty := .int) rfl rfl (fun _ => rfl) (by decide) q247 dX7_init_314 (fun _ hh => by cases hh) hm (fun q39 h H cells slots hf hS => ?_)
  refine j_pRa (pc := 316) cx hS hf fp_WornSkinModel_before (Or.inr ⟨rfl, hin, rfl⟩) q1734 dX7_init_316 (fun h H locs hf hS => ?_)
  refine lv_aload_n (pc := 319) hx hb dX7_init_319 rfl (lv_at hl 0 rfl) ?_
  refine lv_bipush (pc := 320) (v := 100) hx hb dX7_init_320 rfl ?_
  refine j_naG (pc := 322) cx hS hf (ty := .int) rfl rfl (fun _ => rfl) (by decide) q247 dX7_init_322 (fun _ hh => by cases hh) hm (fun q40 h H cells slots hf hS => ?_)
  refine j_pRa (pc := 324) cx hS hf fp_WornSkinModel_marked (Or.inr ⟨rfl, hin, rfl⟩) q1735 dX7_init_324 (fun h H locs hf hS => ?_)
  refine lv_aload_n (pc := 327) hx hb dX7_init_327 rfl (lv_at hl 0 rfl) ?_
  refine lv_sipush (pc := 328) (v := 400) hx hb dX7_init_328 rfl ?_
  refine j_naG (pc := 331) cx hS hf (ty := .int) rfl rfl (fun _ => rfl) (by decide) q247 dX7_init_331 (fun _ hh => by cases hh) hm (fun q41 h H cells slots hf hS => ?_)
  refine j_pRa (pc := 333) cx hS hf fp_WornSkinModel_undone (Or.inr ⟨rfl, hin, rfl⟩) q1736 dX7_init_333 (fun h H locs hf hS => ?_)
  refine lv_aload_n (pc := 336) hx hb dX7_init_336 rfl (lv_at hl 0 rfl) ?_
  refine lv_iconst (pc := 337) (v := 4) hx hb dX7_init_337 rfl ?_
  refine j_naG (pc := 338) cx hS hf (ty := .boolean) rfl rfl (fun _ => rfl) (by decide) q1862 dX7_init_338 (fun _ hh => by cases hh) hm (fun q42 h H cells slots hf hS => ?_)
  refine j_pRa (pc := 340) cx hS hf fp_WornSkinModel_isLaid (Or.inr ⟨rfl, hin, rfl⟩) q1737 dX7_init_340 (fun h H locs hf hS => ?_)
  refine lv_aload_n (pc := 343) hx hb dX7_init_343 rfl (lv_at hl 0 rfl) ?_
  refine lv_bipush (pc := 344) (v := 6) hx hb dX7_init_344 rfl ?_
  refine j_naG (pc := 346) cx hS hf (ty := .int) rfl rfl (fun _ => rfl) (by decide) q247 dX7_init_346 (fun _ hh => by cases hh) hm (fun q43 h H cells slots hf hS => ?_)
  refine j_pRa (pc := 348) cx hS hf fp_WornSkinModel_row (Or.inr ⟨rfl, hin, rfl⟩) q1739 dX7_init_348 (fun h H locs hf hS => ?_)
  refine lv_aload_n (pc := 351) hx hb dX7_init_351 rfl (lv_at hl 0 rfl) ?_
  refine lv_bipush (pc := 352) (v := 6) hx hb dX7_init_352 rfl ?_
  refine j_naG (pc := 354) cx hS hf (ty := .int) rfl rfl (fun _ => rfl) (by decide) q247 dX7_init_354 (fun _ hh => by cases hh) hm (fun q44 h H cells slots hf hS => ?_)
  refine j_pRa (pc := 356) cx hS hf fp_WornSkinModel_bestRow (Or.inr ⟨rfl, hin, rfl⟩) q1740 dX7_init_356 (fun h H locs hf hS => ?_)
  exact j_vret (pc := 359) cx hS hf e1 e2 dX7_init_359
theorem metX7_init (l : Launch) (a0 : Nat) (h h' : jH) (r : Unit) (hf : (fX7_init a0).1 h = some (r, h')) : jMet l yX7_init (ws_ yX7_init cX7_init 1 (Option.none : Option Jvm.ClassFile.FieldType)) (1) (20) [.ref a0] h h' (.returned none) := by
  refine jStart rfl (jle hf) (Nat.le_of_ble_eq_true rfl) ?_
  intro p e s m below meth c D dA H0 mc ms ls cx hnm e1 e2 hS hl
  exact wX7_init_0 cx e1 e2 hnm a0  _ _ _ _ _ _ hf hS hl
def fX7_thrown (a0 : Nat) : jM Int32 := jB (jgI [7] 0 (some a0)) fun y1 => jR y1
theorem wX7_thrown_0 {r : Int32} (cx : jCx p s m args meth c cX7_thrown "WornSkinModel" 1 (Option.some Jvm.ClassFile.FieldType.int) D dA H0 hs.2.2.2.2) (e1 : h'.2.2.1 = hs.2.2.1 + mc) (e2 : h'.2.2.2.1 = hs.2.2.2.1 + ms) (a0 : Nat) (hth : jTh hs a0 7) : ∀ (h : jH) (H : Heap) (locs : List Loc) (cells slots : Nat) (ls : Array Slot), (fX7_thrown a0).1 h = some (r, h') → jS D dA H0 hs h H locs cells slots → lv_has ls 1 [(0, .ref a0)] → W p l e { frames := 0, cells := mc, slots := ms, locals := 0 } s m args below meth c H locs cells slots (jQ D dA H0 below s (.returned (some (.int r))) h' mc ms) (F0 m 0 ls []) := by
  have hx := cx.1
  have hb := cx.2.1
  have hown := cx.2.2.2.1
  have hts := cx.2.2.2.2.1
  have hm : h'.2.2.1 ≤ hs.2.2.1 + mc ∧ h'.2.2.2.1 ≤ hs.2.2.2.1 + ms := ⟨Nat.le_of_eq e1, Nat.le_of_eq e2⟩
  intro h H locs cells slots ls hf hS hl
  unfold fX7_thrown at hf
  refine lv_aload_n (pc := 0) hx hb dX7_thrown_0 rfl (lv_at hl 0 rfl) ?_
  refine j_gI (pc := 1) cx hS hf fd_WornSkinModel_thrown q1684 dX7_thrown_1 (fun y1 hf => ?_)
  exact j_iret (pc := 4) cx hS hf e1 e2 dX7_thrown_4
theorem metX7_thrown (l : Launch) (a0 : Nat) (h h' : jH) (r : Int32) (hth : jcd h a0 = some 7) (hf : (fX7_thrown a0).1 h = some (r, h')) : jMet l yX7_thrown (ws_ yX7_thrown cX7_thrown 1 (Option.some Jvm.ClassFile.FieldType.int)) (0) (0) [.ref a0] h h' (.returned (some (.int r))) := by
  refine jStart rfl (jle hf) (Nat.le_of_ble_eq_true rfl) ?_
  intro p e s m below meth c D dA H0 mc ms ls cx hnm e1 e2 hS hl
  have hth := jTh.mk hS hth
  exact wX7_thrown_0 cx e1 e2 a0 hth  _ _ _ _ _ _ hf hS hl
def fX7_feed_120 (N : Nat) (a0 : Nat) : jM Int32 := jB (jgI [7] 1 (some a0)) fun y1 => jR y1
def fX7_feed_114 (N : Nat) (k8 : Int64 → Int64 → Int64 → Int32 → jM Int32) (a0 : Nat) (x1 : Int64) (x3 : Int64) (x5 : Int64) (x7 : Int32) : jM Int32 := k8 x1 x3 x5 (x7 + 1)
def fX7_feed_93 (N : Nat) (k8 : Int64 → Int64 → Int64 → Int32 → jM Int32) (a0 : Nat) (x1 : Int64) (x3 : Int64) (x5 : Int64) (x7 : Int32) (x10 : Int32) : jM Int32 := jB (jgR [7] 2 (some a0)) fun y1 => jB (jgI [7] 1 (some a0)) fun y2 => jB (jsI 0 y1 y2 x10) fun _ => jB (jgI [7] 1 (some a0)) fun y3 => jB (jpI [7] 1 (some a0) (y3 + 1)) fun _ => fX7_feed_114 N k8 a0 x1 x3 x5 x7
def fX7_feed_39 (N : Nat) (k8 : Int64 → Int64 → Int64 → Int32 → jM Int32) (a0 : Nat) (x1 : Int64) (x3 : Int64) (x5 : Int64) (x7 : Int32) (v0 : Int64) : jM Int32 := jB (jgI [7] 1 (some a0)) fun y1 => if 1000 ≤ y1 then (fX7_feed_114 N k8 a0 x1 x3 x5 x7) else (if ((((v0.toUInt64 >>> ((56 - (8 * (x7 &&& 7))).toInt64.toUInt64 &&& Int64.toUInt64 63)).toInt64) &&& 255).toInt32) = 10 then (fX7_feed_93 N k8 a0 x1 x3 x5 x7 ((((v0.toUInt64 >>> ((56 - (8 * (x7 &&& 7))).toInt64.toUInt64 &&& Int64.toUInt64 63)).toInt64) &&& 255).toInt32)) else (if ((((v0.toUInt64 >>> ((56 - (8 * (x7 &&& 7))).toInt64.toUInt64 &&& Int64.toUInt64 63)).toInt64) &&& 255).toInt32) < 32 then (fX7_feed_114 N k8 a0 x1 x3 x5 x7) else (if 126 < ((((v0.toUInt64 >>> ((56 - (8 * (x7 &&& 7))).toInt64.toUInt64 &&& Int64.toUInt64 63)).toInt64) &&& 255).toInt32) then (fX7_feed_114 N k8 a0 x1 x3 x5 x7) else (fX7_feed_93 N k8 a0 x1 x3 x5 x7 ((((v0.toUInt64 >>> ((56 - (8 * (x7 &&& 7))).toInt64.toUInt64 &&& Int64.toUInt64 63)).toInt64) &&& 255).toInt32)))))
def fX7_feed_8 (N : Nat) (a0 : Nat) : Nat → Int64 → Int64 → Int64 → Int32 → jM Int32
  | 0, _, _, _, _ => jE
  | n + 1, x1, x3, x5, x7 => if 24 ≤ x7 then (fX7_feed_120 N a0) else (if 8 ≤ x7 then (if 16 ≤ x7 then (fX7_feed_39 N (fX7_feed_8 N a0 n) a0 x1 x3 x5 x7 x5) else (fX7_feed_39 N (fX7_feed_8 N a0 n) a0 x1 x3 x5 x7 x3)) else (fX7_feed_39 N (fX7_feed_8 N a0 n) a0 x1 x3 x5 x7 x1))
def fX7_feed (N : Nat) (a0 : Nat) (x1 : Int64) (x3 : Int64) (x5 : Int64) : jM Int32 := jB (jpI [7] 0 (some a0) 0) fun _ => fX7_feed_8 N a0 N x1 x3 x5 0
theorem wX7_feed_120 {N : Nat} {r : Int32} (cx : jCx p s m args meth c cX7_feed "WornSkinModel" 11 (Option.some Jvm.ClassFile.FieldType.int) D dA H0 hs.2.2.2.2) (e1 : h'.2.2.1 = hs.2.2.1 + mc) (e2 : h'.2.2.2.1 = hs.2.2.2.1 + ms) (a0 : Nat) (hth : jTh hs a0 7) : ∀ (h : jH) (H : Heap) (locs : List Loc) (cells slots : Nat) (ls : Array Slot), (fX7_feed_120 N a0).1 h = some (r, h') → jS D dA H0 hs h H locs cells slots → lv_has ls 11 [(0, .ref a0)] → W p l e { frames := 0, cells := mc, slots := ms, locals := 0 } s m args below meth c H locs cells slots (jQ D dA H0 below s (.returned (some (.int r))) h' mc ms) (F0 m 120 ls []) := by
  have hx := cx.1
  have hb := cx.2.1
  have hown := cx.2.2.2.1
  have hts := cx.2.2.2.2.1
  have hm : h'.2.2.1 ≤ hs.2.2.1 + mc ∧ h'.2.2.2.1 ≤ hs.2.2.2.1 + ms := ⟨Nat.le_of_eq e1, Nat.le_of_eq e2⟩
  intro h H locs cells slots ls hf hS hl
  unfold fX7_feed_120 at hf
  refine lv_aload_n (pc := 120) hx hb dX7_feed_120 rfl (lv_at hl 0 rfl) ?_
  refine j_gI (pc := 121) cx hS hf fd_WornSkinModel_taped q1685 dX7_feed_121 (fun y1 hf => ?_)
  exact j_iret (pc := 124) cx hS hf e1 e2 dX7_feed_124
theorem wX7_feed_114 {N : Nat} {k8 : Int64 → Int64 → Int64 → Int32 → jM Int32} {r : Int32} (cx : jCx p s m args meth c cX7_feed "WornSkinModel" 11 (Option.some Jvm.ClassFile.FieldType.int) D dA H0 hs.2.2.2.2) (e1 : h'.2.2.1 = hs.2.2.1 + mc) (e2 : h'.2.2.2.1 = hs.2.2.2.1 + ms) (a0 : Nat) (hth : jTh hs a0 7) (hk8 : ∀ (x1 : Int64) (x3 : Int64) (x5 : Int64) (x7 : Int32), ∀ (h : jH) (H : Heap) (locs : List Loc) (cells slots : Nat) (ls : Array Slot), (k8 x1 x3 x5 x7).1 h = some (r, h') → jS D dA H0 hs h H locs cells slots → lv_has ls 11 [(0, .ref a0), (1, .long x1), (3, .long x3), (5, .long x5), (7, .int x7)] → W p l e { frames := 0, cells := mc, slots := ms, locals := 0 } s m args below meth c H locs cells slots (jQ D dA H0 below s (.returned (some (.int r))) h' mc ms) (F0 m 8 ls [])) : ∀ (x1 : Int64) (x3 : Int64) (x5 : Int64) (x7 : Int32), ∀ (h : jH) (H : Heap) (locs : List Loc) (cells slots : Nat) (ls : Array Slot), (fX7_feed_114 N k8 a0 x1 x3 x5 x7).1 h = some (r, h') → jS D dA H0 hs h H locs cells slots → lv_has ls 11 [(0, .ref a0), (1, .long x1), (3, .long x3), (5, .long x5), (7, .int x7)] → W p l e { frames := 0, cells := mc, slots := ms, locals := 0 } s m args below meth c H locs cells slots (jQ D dA H0 below s (.returned (some (.int r))) h' mc ms) (F0 m 114 ls []) := by
  have hx := cx.1
  have hb := cx.2.1
  have hown := cx.2.2.2.1
  have hts := cx.2.2.2.2.1
  have hm : h'.2.2.1 ≤ hs.2.2.1 + mc ∧ h'.2.2.2.1 ≤ hs.2.2.2.1 + ms := ⟨Nat.le_of_eq e1, Nat.le_of_eq e2⟩
  intro x1 x3 x5 x7 h H locs cells slots ls hf hS hl
  unfold fX7_feed_114 at hf
  refine lv_iinc (pc := 114) (v := (x7 + 1)) (lv' := [(7, .int (x7 + 1)), (0, .ref a0), (1, .long x1), (3, .long x3), (5, .long x5)]) hx hb dX7_feed_114 hl (k := 4) rfl rfl (Nat.le_of_ble_eq_true rfl) rfl (fun ls hl => ?_)
  refine lv_goto (pc := 117) (tgt := 8) hx hb dX7_feed_117 (by decide) ?_
  exact hk8 _ _ _ _ _ _ _ _ _ _ hf hS (lv_sub hl [1, 2, 3, 4, 0] rfl)
theorem wX7_feed_93 {N : Nat} {k8 : Int64 → Int64 → Int64 → Int32 → jM Int32} {r : Int32} (cx : jCx p s m args meth c cX7_feed "WornSkinModel" 11 (Option.some Jvm.ClassFile.FieldType.int) D dA H0 hs.2.2.2.2) (e1 : h'.2.2.1 = hs.2.2.1 + mc) (e2 : h'.2.2.2.1 = hs.2.2.2.1 + ms) (a0 : Nat) (hth : jTh hs a0 7) (hk8 : ∀ (x1 : Int64) (x3 : Int64) (x5 : Int64) (x7 : Int32), ∀ (h : jH) (H : Heap) (locs : List Loc) (cells slots : Nat) (ls : Array Slot), (k8 x1 x3 x5 x7).1 h = some (r, h') → jS D dA H0 hs h H locs cells slots → lv_has ls 11 [(0, .ref a0), (1, .long x1), (3, .long x3), (5, .long x5), (7, .int x7)] → W p l e { frames := 0, cells := mc, slots := ms, locals := 0 } s m args below meth c H locs cells slots (jQ D dA H0 below s (.returned (some (.int r))) h' mc ms) (F0 m 8 ls [])) : ∀ (x1 : Int64) (x3 : Int64) (x5 : Int64) (x7 : Int32) (x10 : Int32), ∀ (h : jH) (H : Heap) (locs : List Loc) (cells slots : Nat) (ls : Array Slot), (fX7_feed_93 N k8 a0 x1 x3 x5 x7 x10).1 h = some (r, h') → jS D dA H0 hs h H locs cells slots → lv_has ls 11 [(0, .ref a0), (1, .long x1), (3, .long x3), (5, .long x5), (7, .int x7), (10, .int x10)] → W p l e { frames := 0, cells := mc, slots := ms, locals := 0 } s m args below meth c H locs cells slots (jQ D dA H0 below s (.returned (some (.int r))) h' mc ms) (F0 m 93 ls []) := by
  have hx := cx.1
  have hb := cx.2.1
  have hown := cx.2.2.2.1
  have hts := cx.2.2.2.2.1
  have hm : h'.2.2.1 ≤ hs.2.2.1 + mc ∧ h'.2.2.2.1 ≤ hs.2.2.2.1 + ms := ⟨Nat.le_of_eq e1, Nat.le_of_eq e2⟩
  intro x1 x3 x5 x7 x10 h H locs cells slots ls hf hS hl
  unfold fX7_feed_93 at hf
  refine lv_aload_n (pc := 93) hx hb dX7_feed_93 rfl (lv_at hl 0 rfl) ?_
  refine j_gR (pc := 94) cx hS hf fd_WornSkinModel_tape q1686 dX7_feed_94 (fun y1 hf => ?_)
  refine lv_aload_n (pc := 97) hx hb dX7_feed_97 rfl (lv_at hl 0 rfl) ?_
  refine j_gI (pc := 98) cx hS hf fd_WornSkinModel_taped q1685 dX7_feed_98 (fun y2 hf => ?_)
  refine lv_iload (pc := 101) hx hb dX7_feed_101 (lv_at hl 5 rfl) ?_
  refine j_sI (pc := 103) cx hS hf rfl dX7_feed_103 (fun h H locs hf hS => ?_)
  refine lv_aload_n (pc := 104) hx hb dX7_feed_104 rfl (lv_at hl 0 rfl) ?_
  refine lv_dup (pc := 105) hx hb dX7_feed_105 rfl ?_
  refine j_gI (pc := 106) cx hS hf fd_WornSkinModel_taped q1685 dX7_feed_106 (fun y3 hf => ?_)
  refine lv_iconst (pc := 109) (v := 1) hx hb dX7_feed_109 rfl ?_
  refine lv_iadd (pc := 110) hx hb dX7_feed_110 ?_
  refine j_pI (pc := 111) cx hS hf fp_WornSkinModel_taped (Or.inl rfl) q1685 dX7_feed_111 (fun h H locs hf hS => ?_)
  exact wX7_feed_114 cx e1 e2 a0 hth hk8 _ _ _ _ _ _ _ _ _ _ hf hS (lv_sub hl [0, 1, 2, 3, 4] rfl)
theorem wX7_feed_39 {N : Nat} {k8 : Int64 → Int64 → Int64 → Int32 → jM Int32} {r : Int32} (cx : jCx p s m args meth c cX7_feed "WornSkinModel" 11 (Option.some Jvm.ClassFile.FieldType.int) D dA H0 hs.2.2.2.2) (e1 : h'.2.2.1 = hs.2.2.1 + mc) (e2 : h'.2.2.2.1 = hs.2.2.2.1 + ms) (a0 : Nat) (hth : jTh hs a0 7) (hk8 : ∀ (x1 : Int64) (x3 : Int64) (x5 : Int64) (x7 : Int32), ∀ (h : jH) (H : Heap) (locs : List Loc) (cells slots : Nat) (ls : Array Slot), (k8 x1 x3 x5 x7).1 h = some (r, h') → jS D dA H0 hs h H locs cells slots → lv_has ls 11 [(0, .ref a0), (1, .long x1), (3, .long x3), (5, .long x5), (7, .int x7)] → W p l e { frames := 0, cells := mc, slots := ms, locals := 0 } s m args below meth c H locs cells slots (jQ D dA H0 below s (.returned (some (.int r))) h' mc ms) (F0 m 8 ls [])) : ∀ (x1 : Int64) (x3 : Int64) (x5 : Int64) (x7 : Int32) (v0 : Int64), ∀ (h : jH) (H : Heap) (locs : List Loc) (cells slots : Nat) (ls : Array Slot), (fX7_feed_39 N k8 a0 x1 x3 x5 x7 v0).1 h = some (r, h') → jS D dA H0 hs h H locs cells slots → lv_has ls 11 [(0, .ref a0), (1, .long x1), (3, .long x3), (5, .long x5), (7, .int x7)] → W p l e { frames := 0, cells := mc, slots := ms, locals := 0 } s m args below meth c H locs cells slots (jQ D dA H0 below s (.returned (some (.int r))) h' mc ms) (F0 m 39 ls [.long v0]) := by
  have hx := cx.1
  have hb := cx.2.1
  have hown := cx.2.2.2.1
  have hts := cx.2.2.2.2.1
  have hm : h'.2.2.1 ≤ hs.2.2.1 + mc ∧ h'.2.2.2.1 ≤ hs.2.2.2.1 + ms := ⟨Nat.le_of_eq e1, Nat.le_of_eq e2⟩
  intro x1 x3 x5 x7 v0 h H locs cells slots ls hf hS hl
  unfold fX7_feed_39 at hf
  refine lv_lstore (pc := 39) (i := 8) (lv' := [(8, .long v0), (0, .ref a0), (1, .long x1), (3, .long x3), (5, .long x5), (7, .int x7)]) hx hb dX7_feed_39 hl (Nat.le_of_ble_eq_true rfl) rfl (fun ls hl => ?_)
  refine lv_lload (pc := 41) hx hb dX7_feed_41 (lv_at hl 0 rfl) ?_
  refine lv_bipush (pc := 43) (v := 56) hx hb dX7_feed_43 rfl ?_
  refine lv_bipush (pc := 45) (v := 8) hx hb dX7_feed_45 rfl ?_
  refine lv_iload (pc := 47) hx hb dX7_feed_47 (lv_at hl 5 rfl) ?_
  refine lv_bipush (pc := 49) (v := 7) hx hb dX7_feed_49 rfl ?_
  refine lv_iand (pc := 51) hx hb dX7_feed_51 ?_
  refine lv_imul (pc := 52) hx hb dX7_feed_52 ?_
  refine lv_isub (pc := 53) hx hb dX7_feed_53 ?_
  refine lv_lushr (pc := 54) (v := (v0.toUInt64 >>> ((56 - (8 * (x7 &&& 7))).toInt64.toUInt64 &&& Int64.toUInt64 63)).toInt64) hx hb dX7_feed_54 rfl ?_
  refine lv_ldc2 (pc := 55) (v := 255) hx hb hown (hts _ q1871) dX7_feed_55 ?_
  refine lv_land (pc := 58) hx hb dX7_feed_58 ?_
  refine lv_l2i (pc := 59) (v := (((v0.toUInt64 >>> ((56 - (8 * (x7 &&& 7))).toInt64.toUInt64 &&& Int64.toUInt64 63)).toInt64) &&& 255).toInt32) hx hb dX7_feed_59 rfl ?_
  refine lv_istore (pc := 60) (i := 10) (lv' := [(10, .int ((((v0.toUInt64 >>> ((56 - (8 * (x7 &&& 7))).toInt64.toUInt64 &&& Int64.toUInt64 63)).toInt64) &&& 255).toInt32)), (8, .long v0), (0, .ref a0), (1, .long x1), (3, .long x3), (5, .long x5), (7, .int x7)]) hx hb dX7_feed_60 hl (Nat.le_of_ble_eq_true rfl) rfl (fun ls hl => ?_)
  refine lv_aload_n (pc := 62) hx hb dX7_feed_62 rfl (lv_at hl 2 rfl) ?_
  refine j_gI (pc := 63) cx hS hf fd_WornSkinModel_taped q1685 dX7_feed_63 (fun y1 hf => ?_)
  refine lv_sipush (pc := 66) (v := 1000) hx hb dX7_feed_66 rfl ?_
  refine lv_icmp_ge (pc := 69) (tgt := 114) hx hb dX7_feed_69 (by decide) (fun hc => ?_) (fun hc => ?_)
  · have hf := jI_t hf hc
    exact wX7_feed_114 cx e1 e2 a0 hth hk8 _ _ _ _ _ _ _ _ _ _ hf hS (lv_sub hl [2, 3, 4, 5, 6] rfl)
  · have hf := jI_f hf hc
    refine lv_iload (pc := 72) hx hb dX7_feed_72 (lv_at hl 0 rfl) ?_
    refine lv_bipush (pc := 74) (v := 10) hx hb dX7_feed_74 rfl ?_
    refine lv_icmp_eq (pc := 76) (tgt := 93) hx hb dX7_feed_76 (by decide) (fun hc => ?_) (fun hc => ?_)
    · have hf := jI_t hf hc
      exact wX7_feed_93 cx e1 e2 a0 hth hk8 _ _ _ _ _ _ _ _ _ _ _ hf hS (lv_sub hl [2, 3, 4, 5, 6, 0] rfl)
    · have hf := jI_f hf hc
      refine lv_iload (pc := 79) hx hb dX7_feed_79 (lv_at hl 0 rfl) ?_
      refine lv_bipush (pc := 81) (v := 32) hx hb dX7_feed_81 rfl ?_
      refine lv_icmp_lt (pc := 83) (tgt := 114) hx hb dX7_feed_83 (by decide) (fun hc => ?_) (fun hc => ?_)
      · have hf := jI_t hf hc
        exact wX7_feed_114 cx e1 e2 a0 hth hk8 _ _ _ _ _ _ _ _ _ _ hf hS (lv_sub hl [2, 3, 4, 5, 6] rfl)
      · have hf := jI_f hf hc
        refine lv_iload (pc := 86) hx hb dX7_feed_86 (lv_at hl 0 rfl) ?_
        refine lv_bipush (pc := 88) (v := 126) hx hb dX7_feed_88 rfl ?_
        refine lv_icmp_gt (pc := 90) (tgt := 114) hx hb dX7_feed_90 (by decide) (fun hc => ?_) (fun hc => ?_)
        · have hf := jI_t hf hc
          exact wX7_feed_114 cx e1 e2 a0 hth hk8 _ _ _ _ _ _ _ _ _ _ hf hS (lv_sub hl [2, 3, 4, 5, 6] rfl)
        · have hf := jI_f hf hc
          exact wX7_feed_93 cx e1 e2 a0 hth hk8 _ _ _ _ _ _ _ _ _ _ _ hf hS (lv_sub hl [2, 3, 4, 5, 6, 0] rfl)
theorem wX7_feed_8 {N : Nat} {r : Int32} (cx : jCx p s m args meth c cX7_feed "WornSkinModel" 11 (Option.some Jvm.ClassFile.FieldType.int) D dA H0 hs.2.2.2.2) (e1 : h'.2.2.1 = hs.2.2.1 + mc) (e2 : h'.2.2.2.1 = hs.2.2.2.1 + ms) (a0 : Nat) (hth : jTh hs a0 7) : ∀ (n : Nat) (x1 : Int64) (x3 : Int64) (x5 : Int64) (x7 : Int32), ∀ (h : jH) (H : Heap) (locs : List Loc) (cells slots : Nat) (ls : Array Slot), (fX7_feed_8 N a0 n x1 x3 x5 x7).1 h = some (r, h') → jS D dA H0 hs h H locs cells slots → lv_has ls 11 [(0, .ref a0), (1, .long x1), (3, .long x3), (5, .long x5), (7, .int x7)] → W p l e { frames := 0, cells := mc, slots := ms, locals := 0 } s m args below meth c H locs cells slots (jQ D dA H0 below s (.returned (some (.int r))) h' mc ms) (F0 m 8 ls []) := by
  have hx := cx.1
  have hb := cx.2.1
  have hown := cx.2.2.2.1
  have hts := cx.2.2.2.2.1
  have hm : h'.2.2.1 ≤ hs.2.2.1 + mc ∧ h'.2.2.2.1 ≤ hs.2.2.2.1 + ms := ⟨Nat.le_of_eq e1, Nat.le_of_eq e2⟩
  intro n
  induction n with
  | zero =>
    intro x1 x3 x5 x7 h H locs cells slots ls hf hS hl
    exact jE_f hf
  | succ n ih =>
    intro x1 x3 x5 x7 h H locs cells slots ls hf hS hl
    unfold fX7_feed_8 at hf
    refine lv_iload (pc := 8) hx hb dX7_feed_8 (lv_at hl 4 rfl) ?_
    refine lv_bipush (pc := 10) (v := 24) hx hb dX7_feed_10 rfl ?_
    refine lv_icmp_ge (pc := 12) (tgt := 120) hx hb dX7_feed_12 (by decide) (fun hc => ?_) (fun hc => ?_)
    · have hf := jI_t hf hc
      exact wX7_feed_120 cx e1 e2 a0 hth _ _ _ _ _ _ hf hS (lv_sub hl [0] rfl)
    · have hf := jI_f hf hc
      refine lv_iload (pc := 15) hx hb dX7_feed_15 (lv_at hl 4 rfl) ?_
      refine lv_bipush (pc := 17) (v := 8) hx hb dX7_feed_17 rfl ?_
      refine lv_icmp_ge (pc := 19) (tgt := 26) hx hb dX7_feed_19 (by decide) (fun hc => ?_) (fun hc => ?_)
      · have hf := jI_t hf hc
        refine lv_iload (pc := 26) hx hb dX7_feed_26 (lv_at hl 4 rfl) ?_
        refine lv_bipush (pc := 28) (v := 16) hx hb dX7_feed_28 rfl ?_
        refine lv_icmp_ge (pc := 30) (tgt := 37) hx hb dX7_feed_30 (by decide) (fun hc => ?_) (fun hc => ?_)
        · have hf := jI_t hf hc
          refine lv_lload (pc := 37) hx hb dX7_feed_37 (lv_at hl 3 rfl) ?_
          exact wX7_feed_39 cx e1 e2 a0 hth ih _ _ _ _ _ _ _ _ _ _ _ hf hS hl
        · have hf := jI_f hf hc
          refine lv_lload_n (pc := 33) hx hb dX7_feed_33 rfl (lv_at hl 2 rfl) ?_
          refine lv_goto (pc := 34) (tgt := 39) hx hb dX7_feed_34 (by decide) ?_
          exact wX7_feed_39 cx e1 e2 a0 hth ih _ _ _ _ _ _ _ _ _ _ _ hf hS hl
      · have hf := jI_f hf hc
        refine lv_lload_n (pc := 22) hx hb dX7_feed_22 rfl (lv_at hl 1 rfl) ?_
        refine lv_goto (pc := 23) (tgt := 39) hx hb dX7_feed_23 (by decide) ?_
        exact wX7_feed_39 cx e1 e2 a0 hth ih _ _ _ _ _ _ _ _ _ _ _ hf hS hl
theorem wX7_feed_0 {N : Nat} {r : Int32} (cx : jCx p s m args meth c cX7_feed "WornSkinModel" 11 (Option.some Jvm.ClassFile.FieldType.int) D dA H0 hs.2.2.2.2) (e1 : h'.2.2.1 = hs.2.2.1 + mc) (e2 : h'.2.2.2.1 = hs.2.2.2.1 + ms) (a0 : Nat) (hth : jTh hs a0 7) : ∀ (x1 : Int64) (x3 : Int64) (x5 : Int64), ∀ (h : jH) (H : Heap) (locs : List Loc) (cells slots : Nat) (ls : Array Slot), (fX7_feed N a0 x1 x3 x5).1 h = some (r, h') → jS D dA H0 hs h H locs cells slots → lv_has ls 11 [(0, .ref a0), (1, .long x1), (3, .long x3), (5, .long x5)] → W p l e { frames := 0, cells := mc, slots := ms, locals := 0 } s m args below meth c H locs cells slots (jQ D dA H0 below s (.returned (some (.int r))) h' mc ms) (F0 m 0 ls []) := by
  have hx := cx.1
  have hb := cx.2.1
  have hown := cx.2.2.2.1
  have hts := cx.2.2.2.2.1
  have hm : h'.2.2.1 ≤ hs.2.2.1 + mc ∧ h'.2.2.2.1 ≤ hs.2.2.2.1 + ms := ⟨Nat.le_of_eq e1, Nat.le_of_eq e2⟩
  intro x1 x3 x5 h H locs cells slots ls hf hS hl
  unfold fX7_feed at hf
  refine lv_aload_n (pc := 0) hx hb dX7_feed_0 rfl (lv_at hl 0 rfl) ?_
  refine lv_iconst (pc := 1) (v := 0) hx hb dX7_feed_1 rfl ?_
  refine j_pI (pc := 2) cx hS hf fp_WornSkinModel_thrown (Or.inl rfl) q1684 dX7_feed_2 (fun h H locs hf hS => ?_)
  refine lv_iconst (pc := 5) (v := 0) hx hb dX7_feed_5 rfl ?_
  refine lv_istore (pc := 6) (i := 7) (lv' := [(7, .int 0), (0, .ref a0), (1, .long x1), (3, .long x3), (5, .long x5)]) hx hb dX7_feed_6 hl (Nat.le_of_ble_eq_true rfl) rfl (fun ls hl => ?_)
  exact wX7_feed_8 cx e1 e2 a0 hth N _ _ _ _ _ _ _ _ _ _ hf hS (lv_sub hl [1, 2, 3, 4, 0] rfl)
theorem metX7_feed (l : Launch) (N : Nat) (a0 : Nat) (x1 : Int64) (x3 : Int64) (x5 : Int64) (h h' : jH) (r : Int32) (hth : jcd h a0 = some 7) (hf : (fX7_feed N a0 x1 x3 x5).1 h = some (r, h')) : jMet l yX7_feed (ws_ yX7_feed cX7_feed 11 (Option.some Jvm.ClassFile.FieldType.int)) (0) (0) [.ref a0, .long x1, .long x3, .long x5] h h' (.returned (some (.int r))) := by
  refine jStart rfl (jle hf) (Nat.le_of_ble_eq_true rfl) ?_
  intro p e s m below meth c D dA H0 mc ms ls cx hnm e1 e2 hS hl
  have hth := jTh.mk hS hth
  exact wX7_feed_0 cx e1 e2 a0 hth _ _ _ _ _ _ _ _ _ hf hS hl
def fX7_signAt_18 (a0 : Nat) (v0 : Int32) : jM Int32 := jR v0
def fX7_signAt (a0 : Nat) (x1 : Int32) : jM Int32 := jB (jgI [7] 3 (some a0)) fun y1 => if y1 ≤ x1 then (fX7_signAt_18 a0 0) else (jB (jgR [7] 2 (some a0)) fun y2 => jB (jaI 0 y2 x1) fun y3 => fX7_signAt_18 a0 y3)
theorem wX7_signAt_18 {r : Int32} (cx : jCx p s m args meth c cX7_signAt "WornSkinModel" 2 (Option.some Jvm.ClassFile.FieldType.int) D dA H0 hs.2.2.2.2) (e1 : h'.2.2.1 = hs.2.2.1 + mc) (e2 : h'.2.2.2.1 = hs.2.2.2.1 + ms) (a0 : Nat) (hth : jTh hs a0 7) : ∀ (v0 : Int32), ∀ (h : jH) (H : Heap) (locs : List Loc) (cells slots : Nat) (ls : Array Slot), (fX7_signAt_18 a0 v0).1 h = some (r, h') → jS D dA H0 hs h H locs cells slots → lv_has ls 2 [(0, .ref a0)] → W p l e { frames := 0, cells := mc, slots := ms, locals := 0 } s m args below meth c H locs cells slots (jQ D dA H0 below s (.returned (some (.int r))) h' mc ms) (F0 m 18 ls [.int v0]) := by
  have hx := cx.1
  have hb := cx.2.1
  have hown := cx.2.2.2.1
  have hts := cx.2.2.2.2.1
  have hm : h'.2.2.1 ≤ hs.2.2.1 + mc ∧ h'.2.2.2.1 ≤ hs.2.2.2.1 + ms := ⟨Nat.le_of_eq e1, Nat.le_of_eq e2⟩
  intro v0 h H locs cells slots ls hf hS hl
  unfold fX7_signAt_18 at hf
  exact j_iret (pc := 18) cx hS hf e1 e2 dX7_signAt_18
theorem wX7_signAt_0 {r : Int32} (cx : jCx p s m args meth c cX7_signAt "WornSkinModel" 2 (Option.some Jvm.ClassFile.FieldType.int) D dA H0 hs.2.2.2.2) (e1 : h'.2.2.1 = hs.2.2.1 + mc) (e2 : h'.2.2.2.1 = hs.2.2.2.1 + ms) (a0 : Nat) (hth : jTh hs a0 7) : ∀ (x1 : Int32), ∀ (h : jH) (H : Heap) (locs : List Loc) (cells slots : Nat) (ls : Array Slot), (fX7_signAt a0 x1).1 h = some (r, h') → jS D dA H0 hs h H locs cells slots → lv_has ls 2 [(0, .ref a0), (1, .int x1)] → W p l e { frames := 0, cells := mc, slots := ms, locals := 0 } s m args below meth c H locs cells slots (jQ D dA H0 below s (.returned (some (.int r))) h' mc ms) (F0 m 0 ls []) := by
  have hx := cx.1
  have hb := cx.2.1
  have hown := cx.2.2.2.1
  have hts := cx.2.2.2.2.1
  have hm : h'.2.2.1 ≤ hs.2.2.1 + mc ∧ h'.2.2.2.1 ≤ hs.2.2.2.1 + ms := ⟨Nat.le_of_eq e1, Nat.le_of_eq e2⟩
  intro x1 h H locs cells slots ls hf hS hl
  unfold fX7_signAt at hf
  refine lv_iload_n (pc := 0) hx hb dX7_signAt_0 rfl (lv_at hl 1 rfl) ?_
  refine lv_aload_n (pc := 1) hx hb dX7_signAt_1 rfl (lv_at hl 0 rfl) ?_
  refine j_gI (pc := 2) cx hS hf fd_WornSkinModel_size q1687 dX7_signAt_2 (fun y1 hf => ?_)
  refine lv_icmp_ge (pc := 5) (tgt := 17) hx hb dX7_signAt_5 (by decide) (fun hc => ?_) (fun hc => ?_)
  · have hf := jI_t hf hc
    refine lv_iconst (pc := 17) (v := 0) hx hb dX7_signAt_17 rfl ?_
    exact wX7_signAt_18 cx e1 e2 a0 hth _ _ _ _ _ _ _ hf hS (lv_sub hl [0] rfl)
  · have hf := jI_f hf hc
    refine lv_aload_n (pc := 8) hx hb dX7_signAt_8 rfl (lv_at hl 0 rfl) ?_
    refine j_gR (pc := 9) cx hS hf fd_WornSkinModel_tape q1686 dX7_signAt_9 (fun y2 hf => ?_)
    refine lv_iload_n (pc := 12) hx hb dX7_signAt_12 rfl (lv_at hl 1 rfl) ?_
    refine j_aI (pc := 13) cx hS hf rfl dX7_signAt_13 (fun y3 hf => ?_)
    refine lv_goto (pc := 14) (tgt := 18) hx hb dX7_signAt_14 (by decide) ?_
    exact wX7_signAt_18 cx e1 e2 a0 hth _ _ _ _ _ _ _ hf hS (lv_sub hl [0] rfl)
theorem metX7_signAt (l : Launch) (a0 : Nat) (x1 : Int32) (h h' : jH) (r : Int32) (hth : jcd h a0 = some 7) (hf : (fX7_signAt a0 x1).1 h = some (r, h')) : jMet l yX7_signAt (ws_ yX7_signAt cX7_signAt 2 (Option.some Jvm.ClassFile.FieldType.int)) (0) (0) [.ref a0, .int x1] h h' (.returned (some (.int r))) := by
  refine jStart rfl (jle hf) (Nat.le_of_ble_eq_true rfl) ?_
  intro p e s m below meth c D dA H0 mc ms ls cx hnm e1 e2 hS hl
  have hth := jTh.mk hS hth
  exact wX7_signAt_0 cx e1 e2 a0 hth _ _ _ _ _ _ _ hf hS hl
def fX7_nextToken_368 (N : Nat) (a0 : Nat) (v1 : Int32) : jM Unit := jB (jpI [7] 6 (some a0) v1) fun _ => jR ()
def fX7_nextToken_363 (N : Nat) (a0 : Nat) : jM Unit := fX7_nextToken_368 N a0 3
def fX7_nextToken_367 (N : Nat) (a0 : Nat) : jM Unit := fX7_nextToken_368 N a0 4
def fX7_nextToken_345 (N : Nat) (a0 : Nat) (x1 : Int32) : jM Unit := if x1 = 45 then (fX7_nextToken_363 N a0) else (if x1 < 59 then (fX7_nextToken_367 N a0) else (if 61 < x1 then (fX7_nextToken_367 N a0) else (fX7_nextToken_363 N a0)))
def fX7_nextToken_322 (N : Nat) (a0 : Nat) (x1 : Int32) : jM Unit := jB (jgI [7] 4 (some a0)) fun y1 => jB (jpI [7] 4 (some a0) (y1 + 1)) fun _ => if x1 < 40 then (fX7_nextToken_345 N a0 x1) else (if x1 ≤ 43 then (fX7_nextToken_363 N a0) else (fX7_nextToken_345 N a0 x1))
def fX7_nextToken_318 (N : Nat) (a0 : Nat) (v1 : Int32) : jM Unit := jB (jpI [7] 6 (some a0) v1) fun _ => jR ()
def fX7_nextToken_299 (N : Nat) (a0 : Nat) : jM Unit := jB (jgI [7] 4 (some a0)) fun y1 => jB (jgI [7] 5 (some a0)) fun y2 => if (y1 - y2) ≤ 4 then (fX7_nextToken_318 N a0 2) else (fX7_nextToken_318 N a0 4)
def fX7_nextToken_286 (N : Nat) (k224 : jM Unit) (a0 : Nat) : jM Unit := jB (jgI [7] 4 (some a0)) fun y1 => jB (jpI [7] 4 (some a0) (y1 + 1)) fun _ => k224
def fX7_nextToken_224 (N : Nat) (a0 : Nat) : Nat → jM Unit
  | 0 => jE
  | n + 1 => jB (jgI [7] 4 (some a0)) fun y1 => jB (fX7_signAt a0 y1) fun y2 => if y2 < 48 then (fX7_nextToken_299 N a0) else (jB (jgI [7] 4 (some a0)) fun y3 => jB (fX7_signAt a0 y3) fun y4 => if 57 < y4 then (fX7_nextToken_299 N a0) else (jB (jgI [7] 4 (some a0)) fun y5 => jB (jgI [7] 5 (some a0)) fun y6 => if 4 ≤ (y5 - y6) then (fX7_nextToken_286 N (fX7_nextToken_224 N a0 n) a0) else (jB (jgI [7] 8 (some a0)) fun y7 => jB (jgI [7] 4 (some a0)) fun y8 => jB (fX7_signAt a0 y8) fun y9 => jB (jpI [7] 8 (some a0) (((y7 * 10) + y9) - 48)) fun _ => fX7_nextToken_286 N (fX7_nextToken_224 N a0 n) a0)))
def fX7_nextToken_212 (N : Nat) (a0 : Nat) (x1 : Int32) : jM Unit := if x1 < 48 then (fX7_nextToken_322 N a0 x1) else (if 57 < x1 then (fX7_nextToken_322 N a0 x1) else (fX7_nextToken_224 N a0 N))
def fX7_nextToken_208 (N : Nat) (a0 : Nat) (v1 : Int32) : jM Unit := jB (jpI [7] 6 (some a0) v1) fun _ => jR ()
def fX7_nextToken_188 (N : Nat) (a0 : Nat) : jM Unit := jB (jgI [7] 4 (some a0)) fun y1 => jB (jgI [7] 5 (some a0)) fun y2 => if (y1 - y2) ≤ 8 then (fX7_nextToken_208 N a0 1) else (fX7_nextToken_208 N a0 4)
def fX7_nextToken_175 (N : Nat) (k109 : jM Unit) (a0 : Nat) : jM Unit := jB (jgI [7] 4 (some a0)) fun y1 => jB (jpI [7] 4 (some a0) (y1 + 1)) fun _ => k109
def fX7_nextToken_109 (N : Nat) (a0 : Nat) : Nat → jM Unit
  | 0 => jE
  | n + 1 => jB (jgI [7] 4 (some a0)) fun y1 => jB (fX7_signAt a0 y1) fun y2 => if y2 < 97 then (fX7_nextToken_188 N a0) else (jB (jgI [7] 4 (some a0)) fun y3 => jB (fX7_signAt a0 y3) fun y4 => if 122 < y4 then (fX7_nextToken_188 N a0) else (jB (jgI [7] 4 (some a0)) fun y5 => jB (jgI [7] 5 (some a0)) fun y6 => if 8 ≤ (y5 - y6) then (fX7_nextToken_175 N (fX7_nextToken_109 N a0 n) a0) else (jB (jgL [7] 7 (some a0)) fun y7 => jB (jgI [7] 4 (some a0)) fun y8 => jB (fX7_signAt a0 y8) fun y9 => jB (jpL [7] 7 (some a0) (((y7 * 27) + (y9.toInt64)) - 96)) fun _ => fX7_nextToken_175 N (fX7_nextToken_109 N a0 n) a0)))
def fX7_nextToken_52 (N : Nat) (a0 : Nat) : jM Unit := jB (jgI [7] 4 (some a0)) fun y1 => jB (jpI [7] 5 (some a0) y1) fun _ => jB (jpL [7] 7 (some a0) 0) fun _ => jB (jpI [7] 8 (some a0) 0) fun _ => jB (jgI [7] 4 (some a0)) fun y2 => jB (jgI [7] 3 (some a0)) fun y3 => if y2 = y3 then (jB (jpI [7] 6 (some a0) 0) fun _ => jR ()) else (jB (jgR [7] 2 (some a0)) fun y4 => jB (jgI [7] 4 (some a0)) fun y5 => jB (jaI 0 y4 y5) fun y6 => if y6 < 97 then (fX7_nextToken_212 N a0 y6) else (if 122 < y6 then (fX7_nextToken_212 N a0 y6) else (fX7_nextToken_109 N a0 N)))
def fX7_nextToken_39 (N : Nat) (k0 : jM Unit) (a0 : Nat) : jM Unit := jB (jgI [7] 4 (some a0)) fun y1 => jB (jpI [7] 4 (some a0) (y1 + 1)) fun _ => k0
def fX7_nextToken_l (N : Nat) (a0 : Nat) : Nat → jM Unit
  | 0 => jE
  | n + 1 => jB (jgI [7] 4 (some a0)) fun y1 => jB (jgI [7] 3 (some a0)) fun y2 => if y2 ≤ y1 then (fX7_nextToken_52 N a0) else (jB (jgR [7] 2 (some a0)) fun y3 => jB (jgI [7] 4 (some a0)) fun y4 => jB (jaI 0 y3 y4) fun y5 => if y5 = 32 then (fX7_nextToken_39 N (fX7_nextToken_l N a0 n) a0) else (jB (jgR [7] 2 (some a0)) fun y6 => jB (jgI [7] 4 (some a0)) fun y7 => jB (jaI 0 y6 y7) fun y8 => if y8 = 10 then (fX7_nextToken_39 N (fX7_nextToken_l N a0 n) a0) else (fX7_nextToken_52 N a0)))
def fX7_nextToken (N : Nat) (a0 : Nat) : jM Unit := fX7_nextToken_l N a0 N
theorem wX7_nextToken_368 {N : Nat} {r : Unit} (cx : jCx p s m args meth c cX7_nextToken "WornSkinModel" 2 (Option.none : Option Jvm.ClassFile.FieldType) D dA H0 hs.2.2.2.2) (e1 : h'.2.2.1 = hs.2.2.1 + mc) (e2 : h'.2.2.2.1 = hs.2.2.2.1 + ms) (a0 : Nat) (hth : jTh hs a0 7) : ∀ (v1 : Int32), ∀ (h : jH) (H : Heap) (locs : List Loc) (cells slots : Nat) (ls : Array Slot), (fX7_nextToken_368 N a0 v1).1 h = some (r, h') → jS D dA H0 hs h H locs cells slots → lv_has ls 2 [(0, .ref a0)] → W p l e { frames := 1, cells := mc, slots := ms, locals := 21 } s m args below meth c H locs cells slots (jQ D dA H0 below s (.returned none) h' mc ms) (F0 m 368 ls [.int v1, .ref a0]) := by
  have hx := cx.1
  have hb := cx.2.1
  have hown := cx.2.2.2.1
  have hts := cx.2.2.2.2.1
  have hm : h'.2.2.1 ≤ hs.2.2.1 + mc ∧ h'.2.2.2.1 ≤ hs.2.2.2.1 + ms := ⟨Nat.le_of_eq e1, Nat.le_of_eq e2⟩
  intro v1 h H locs cells slots ls hf hS hl
  unfold fX7_nextToken_368 at hf
  refine j_pI (pc := 368) cx hS hf fp_WornSkinModel_token (Or.inl rfl) q1690 dX7_nextToken_368 (fun h H locs hf hS => ?_)
  exact j_vret (pc := 371) cx hS hf e1 e2 dX7_nextToken_371
theorem wX7_nextToken_363 {N : Nat} {r : Unit} (cx : jCx p s m args meth c cX7_nextToken "WornSkinModel" 2 (Option.none : Option Jvm.ClassFile.FieldType) D dA H0 hs.2.2.2.2) (e1 : h'.2.2.1 = hs.2.2.1 + mc) (e2 : h'.2.2.2.1 = hs.2.2.2.1 + ms) (a0 : Nat) (hth : jTh hs a0 7) : ∀ (h : jH) (H : Heap) (locs : List Loc) (cells slots : Nat) (ls : Array Slot), (fX7_nextToken_363 N a0).1 h = some (r, h') → jS D dA H0 hs h H locs cells slots → lv_has ls 2 [(0, .ref a0)] → W p l e { frames := 1, cells := mc, slots := ms, locals := 21 } s m args below meth c H locs cells slots (jQ D dA H0 below s (.returned none) h' mc ms) (F0 m 363 ls [.ref a0]) := by
  have hx := cx.1
  have hb := cx.2.1
  have hown := cx.2.2.2.1
  have hts := cx.2.2.2.2.1
  have hm : h'.2.2.1 ≤ hs.2.2.1 + mc ∧ h'.2.2.2.1 ≤ hs.2.2.2.1 + ms := ⟨Nat.le_of_eq e1, Nat.le_of_eq e2⟩
  intro h H locs cells slots ls hf hS hl
  unfold fX7_nextToken_363 at hf
  refine lv_iconst (pc := 363) (v := 3) hx hb dX7_nextToken_363 rfl ?_
  refine lv_goto (pc := 364) (tgt := 368) hx hb dX7_nextToken_364 (by decide) ?_
  exact wX7_nextToken_368 cx e1 e2 a0 hth _ _ _ _ _ _ _ hf hS hl
theorem wX7_nextToken_367 {N : Nat} {r : Unit} (cx : jCx p s m args meth c cX7_nextToken "WornSkinModel" 2 (Option.none : Option Jvm.ClassFile.FieldType) D dA H0 hs.2.2.2.2) (e1 : h'.2.2.1 = hs.2.2.1 + mc) (e2 : h'.2.2.2.1 = hs.2.2.2.1 + ms) (a0 : Nat) (hth : jTh hs a0 7) : ∀ (h : jH) (H : Heap) (locs : List Loc) (cells slots : Nat) (ls : Array Slot), (fX7_nextToken_367 N a0).1 h = some (r, h') → jS D dA H0 hs h H locs cells slots → lv_has ls 2 [(0, .ref a0)] → W p l e { frames := 1, cells := mc, slots := ms, locals := 21 } s m args below meth c H locs cells slots (jQ D dA H0 below s (.returned none) h' mc ms) (F0 m 367 ls [.ref a0]) := by
  have hx := cx.1
  have hb := cx.2.1
  have hown := cx.2.2.2.1
  have hts := cx.2.2.2.2.1
  have hm : h'.2.2.1 ≤ hs.2.2.1 + mc ∧ h'.2.2.2.1 ≤ hs.2.2.2.1 + ms := ⟨Nat.le_of_eq e1, Nat.le_of_eq e2⟩
  intro h H locs cells slots ls hf hS hl
  unfold fX7_nextToken_367 at hf
  refine lv_iconst (pc := 367) (v := 4) hx hb dX7_nextToken_367 rfl ?_
  exact wX7_nextToken_368 cx e1 e2 a0 hth _ _ _ _ _ _ _ hf hS hl
theorem wX7_nextToken_345 {N : Nat} {r : Unit} (cx : jCx p s m args meth c cX7_nextToken "WornSkinModel" 2 (Option.none : Option Jvm.ClassFile.FieldType) D dA H0 hs.2.2.2.2) (e1 : h'.2.2.1 = hs.2.2.1 + mc) (e2 : h'.2.2.2.1 = hs.2.2.2.1 + ms) (a0 : Nat) (hth : jTh hs a0 7) : ∀ (x1 : Int32), ∀ (h : jH) (H : Heap) (locs : List Loc) (cells slots : Nat) (ls : Array Slot), (fX7_nextToken_345 N a0 x1).1 h = some (r, h') → jS D dA H0 hs h H locs cells slots → lv_has ls 2 [(0, .ref a0), (1, .int x1)] → W p l e { frames := 1, cells := mc, slots := ms, locals := 21 } s m args below meth c H locs cells slots (jQ D dA H0 below s (.returned none) h' mc ms) (F0 m 345 ls [.ref a0]) := by
  have hx := cx.1
  have hb := cx.2.1
  have hown := cx.2.2.2.1
  have hts := cx.2.2.2.2.1
  have hm : h'.2.2.1 ≤ hs.2.2.1 + mc ∧ h'.2.2.2.1 ≤ hs.2.2.2.1 + ms := ⟨Nat.le_of_eq e1, Nat.le_of_eq e2⟩
  intro x1 h H locs cells slots ls hf hS hl
  unfold fX7_nextToken_345 at hf
  refine lv_iload_n (pc := 345) hx hb dX7_nextToken_345 rfl (lv_at hl 1 rfl) ?_
  refine lv_bipush (pc := 346) (v := 45) hx hb dX7_nextToken_346 rfl ?_
  refine lv_icmp_eq (pc := 348) (tgt := 363) hx hb dX7_nextToken_348 (by decide) (fun hc => ?_) (fun hc => ?_)
  · have hf := jI_t hf hc
    exact wX7_nextToken_363 cx e1 e2 a0 hth _ _ _ _ _ _ hf hS (lv_sub hl [0] rfl)
  · have hf := jI_f hf hc
    refine lv_iload_n (pc := 351) hx hb dX7_nextToken_351 rfl (lv_at hl 1 rfl) ?_
    refine lv_bipush (pc := 352) (v := 59) hx hb dX7_nextToken_352 rfl ?_
    refine lv_icmp_lt (pc := 354) (tgt := 367) hx hb dX7_nextToken_354 (by decide) (fun hc => ?_) (fun hc => ?_)
    · have hf := jI_t hf hc
      exact wX7_nextToken_367 cx e1 e2 a0 hth _ _ _ _ _ _ hf hS (lv_sub hl [0] rfl)
    · have hf := jI_f hf hc
      refine lv_iload_n (pc := 357) hx hb dX7_nextToken_357 rfl (lv_at hl 1 rfl) ?_
      refine lv_bipush (pc := 358) (v := 61) hx hb dX7_nextToken_358 rfl ?_
      refine lv_icmp_gt (pc := 360) (tgt := 367) hx hb dX7_nextToken_360 (by decide) (fun hc => ?_) (fun hc => ?_)
      · have hf := jI_t hf hc
        exact wX7_nextToken_367 cx e1 e2 a0 hth _ _ _ _ _ _ hf hS (lv_sub hl [0] rfl)
      · have hf := jI_f hf hc
        exact wX7_nextToken_363 cx e1 e2 a0 hth _ _ _ _ _ _ hf hS (lv_sub hl [0] rfl)
theorem wX7_nextToken_322 {N : Nat} {r : Unit} (cx : jCx p s m args meth c cX7_nextToken "WornSkinModel" 2 (Option.none : Option Jvm.ClassFile.FieldType) D dA H0 hs.2.2.2.2) (e1 : h'.2.2.1 = hs.2.2.1 + mc) (e2 : h'.2.2.2.1 = hs.2.2.2.1 + ms) (a0 : Nat) (hth : jTh hs a0 7) : ∀ (x1 : Int32), ∀ (h : jH) (H : Heap) (locs : List Loc) (cells slots : Nat) (ls : Array Slot), (fX7_nextToken_322 N a0 x1).1 h = some (r, h') → jS D dA H0 hs h H locs cells slots → lv_has ls 2 [(0, .ref a0), (1, .int x1)] → W p l e { frames := 1, cells := mc, slots := ms, locals := 21 } s m args below meth c H locs cells slots (jQ D dA H0 below s (.returned none) h' mc ms) (F0 m 322 ls []) := by
  have hx := cx.1
  have hb := cx.2.1
  have hown := cx.2.2.2.1
  have hts := cx.2.2.2.2.1
  have hm : h'.2.2.1 ≤ hs.2.2.1 + mc ∧ h'.2.2.2.1 ≤ hs.2.2.2.1 + ms := ⟨Nat.le_of_eq e1, Nat.le_of_eq e2⟩
  intro x1 h H locs cells slots ls hf hS hl
  unfold fX7_nextToken_322 at hf
  refine lv_aload_n (pc := 322) hx hb dX7_nextToken_322 rfl (lv_at hl 0 rfl) ?_
  refine lv_dup (pc := 323) hx hb dX7_nextToken_323 rfl ?_
  refine j_gI (pc := 324) cx hS hf fd_WornSkinModel_place q1688 dX7_nextToken_324 (fun y1 hf => ?_)
  refine lv_iconst (pc := 327) (v := 1) hx hb dX7_nextToken_327 rfl ?_
  refine lv_iadd (pc := 328) hx hb dX7_nextToken_328 ?_
  refine j_pI (pc := 329) cx hS hf fp_WornSkinModel_place (Or.inl rfl) q1688 dX7_nextToken_329 (fun h H locs hf hS => ?_)
  refine lv_aload_n (pc := 332) hx hb dX7_nextToken_332 rfl (lv_at hl 0 rfl) ?_
  refine lv_iload_n (pc := 333) hx hb dX7_nextToken_333 rfl (lv_at hl 1 rfl) ?_
  refine lv_bipush (pc := 334) (v := 40) hx hb dX7_nextToken_334 rfl ?_
  refine lv_icmp_lt (pc := 336) (tgt := 345) hx hb dX7_nextToken_336 (by decide) (fun hc => ?_) (fun hc => ?_)
  · have hf := jI_t hf hc
    exact wX7_nextToken_345 cx e1 e2 a0 hth _ _ _ _ _ _ _ hf hS hl
  · have hf := jI_f hf hc
    refine lv_iload_n (pc := 339) hx hb dX7_nextToken_339 rfl (lv_at hl 1 rfl) ?_
    refine lv_bipush (pc := 340) (v := 43) hx hb dX7_nextToken_340 rfl ?_
    refine lv_icmp_le (pc := 342) (tgt := 363) hx hb dX7_nextToken_342 (by decide) (fun hc => ?_) (fun hc => ?_)
    · have hf := jI_t hf hc
      exact wX7_nextToken_363 cx e1 e2 a0 hth _ _ _ _ _ _ hf hS (lv_sub hl [0] rfl)
    · have hf := jI_f hf hc
      exact wX7_nextToken_345 cx e1 e2 a0 hth _ _ _ _ _ _ _ hf hS hl
theorem wX7_nextToken_318 {N : Nat} {r : Unit} (cx : jCx p s m args meth c cX7_nextToken "WornSkinModel" 2 (Option.none : Option Jvm.ClassFile.FieldType) D dA H0 hs.2.2.2.2) (e1 : h'.2.2.1 = hs.2.2.1 + mc) (e2 : h'.2.2.2.1 = hs.2.2.2.1 + ms) (a0 : Nat) (hth : jTh hs a0 7) : ∀ (v1 : Int32), ∀ (h : jH) (H : Heap) (locs : List Loc) (cells slots : Nat) (ls : Array Slot), (fX7_nextToken_318 N a0 v1).1 h = some (r, h') → jS D dA H0 hs h H locs cells slots → lv_has ls 2 [(0, .ref a0)] → W p l e { frames := 1, cells := mc, slots := ms, locals := 21 } s m args below meth c H locs cells slots (jQ D dA H0 below s (.returned none) h' mc ms) (F0 m 318 ls [.int v1, .ref a0]) := by
  have hx := cx.1
  have hb := cx.2.1
  have hown := cx.2.2.2.1
  have hts := cx.2.2.2.2.1
  have hm : h'.2.2.1 ≤ hs.2.2.1 + mc ∧ h'.2.2.2.1 ≤ hs.2.2.2.1 + ms := ⟨Nat.le_of_eq e1, Nat.le_of_eq e2⟩
  intro v1 h H locs cells slots ls hf hS hl
  unfold fX7_nextToken_318 at hf
  refine j_pI (pc := 318) cx hS hf fp_WornSkinModel_token (Or.inl rfl) q1690 dX7_nextToken_318 (fun h H locs hf hS => ?_)
  exact j_vret (pc := 321) cx hS hf e1 e2 dX7_nextToken_321
theorem wX7_nextToken_299 {N : Nat} {r : Unit} (cx : jCx p s m args meth c cX7_nextToken "WornSkinModel" 2 (Option.none : Option Jvm.ClassFile.FieldType) D dA H0 hs.2.2.2.2) (e1 : h'.2.2.1 = hs.2.2.1 + mc) (e2 : h'.2.2.2.1 = hs.2.2.2.1 + ms) (a0 : Nat) (hth : jTh hs a0 7) : ∀ (h : jH) (H : Heap) (locs : List Loc) (cells slots : Nat) (ls : Array Slot), (fX7_nextToken_299 N a0).1 h = some (r, h') → jS D dA H0 hs h H locs cells slots → lv_has ls 2 [(0, .ref a0)] → W p l e { frames := 1, cells := mc, slots := ms, locals := 21 } s m args below meth c H locs cells slots (jQ D dA H0 below s (.returned none) h' mc ms) (F0 m 299 ls []) := by
  have hx := cx.1
  have hb := cx.2.1
  have hown := cx.2.2.2.1
  have hts := cx.2.2.2.2.1
  have hm : h'.2.2.1 ≤ hs.2.2.1 + mc ∧ h'.2.2.2.1 ≤ hs.2.2.2.1 + ms := ⟨Nat.le_of_eq e1, Nat.le_of_eq e2⟩
  intro h H locs cells slots ls hf hS hl
  unfold fX7_nextToken_299 at hf
  refine lv_aload_n (pc := 299) hx hb dX7_nextToken_299 rfl (lv_at hl 0 rfl) ?_
  refine lv_aload_n (pc := 300) hx hb dX7_nextToken_300 rfl (lv_at hl 0 rfl) ?_
  refine j_gI (pc := 301) cx hS hf fd_WornSkinModel_place q1688 dX7_nextToken_301 (fun y1 hf => ?_)
  refine lv_aload_n (pc := 304) hx hb dX7_nextToken_304 rfl (lv_at hl 0 rfl) ?_
  refine j_gI (pc := 305) cx hS hf fd_WornSkinModel_begin q1689 dX7_nextToken_305 (fun y2 hf => ?_)
  refine lv_isub (pc := 308) hx hb dX7_nextToken_308 ?_
  refine lv_iconst (pc := 309) (v := 4) hx hb dX7_nextToken_309 rfl ?_
  refine lv_icmp_le (pc := 310) (tgt := 317) hx hb dX7_nextToken_310 (by decide) (fun hc => ?_) (fun hc => ?_)
  · have hf := jI_t hf hc
    refine lv_iconst (pc := 317) (v := 2) hx hb dX7_nextToken_317 rfl ?_
    exact wX7_nextToken_318 cx e1 e2 a0 hth _ _ _ _ _ _ _ hf hS hl
  · have hf := jI_f hf hc
    refine lv_iconst (pc := 313) (v := 4) hx hb dX7_nextToken_313 rfl ?_
    refine lv_goto (pc := 314) (tgt := 318) hx hb dX7_nextToken_314 (by decide) ?_
    exact wX7_nextToken_318 cx e1 e2 a0 hth _ _ _ _ _ _ _ hf hS hl
theorem wX7_nextToken_286 {N : Nat} {k224 : jM Unit} {r : Unit} (cx : jCx p s m args meth c cX7_nextToken "WornSkinModel" 2 (Option.none : Option Jvm.ClassFile.FieldType) D dA H0 hs.2.2.2.2) (e1 : h'.2.2.1 = hs.2.2.1 + mc) (e2 : h'.2.2.2.1 = hs.2.2.2.1 + ms) (a0 : Nat) (hth : jTh hs a0 7) (hk224 : ∀ (h : jH) (H : Heap) (locs : List Loc) (cells slots : Nat) (ls : Array Slot), (k224).1 h = some (r, h') → jS D dA H0 hs h H locs cells slots → lv_has ls 2 [(0, .ref a0)] → W p l e { frames := 1, cells := mc, slots := ms, locals := 21 } s m args below meth c H locs cells slots (jQ D dA H0 below s (.returned none) h' mc ms) (F0 m 224 ls [])) : ∀ (h : jH) (H : Heap) (locs : List Loc) (cells slots : Nat) (ls : Array Slot), (fX7_nextToken_286 N k224 a0).1 h = some (r, h') → jS D dA H0 hs h H locs cells slots → lv_has ls 2 [(0, .ref a0)] → W p l e { frames := 1, cells := mc, slots := ms, locals := 21 } s m args below meth c H locs cells slots (jQ D dA H0 below s (.returned none) h' mc ms) (F0 m 286 ls []) := by
  have hx := cx.1
  have hb := cx.2.1
  have hown := cx.2.2.2.1
  have hts := cx.2.2.2.2.1
  have hm : h'.2.2.1 ≤ hs.2.2.1 + mc ∧ h'.2.2.2.1 ≤ hs.2.2.2.1 + ms := ⟨Nat.le_of_eq e1, Nat.le_of_eq e2⟩
  intro h H locs cells slots ls hf hS hl
  unfold fX7_nextToken_286 at hf
  refine lv_aload_n (pc := 286) hx hb dX7_nextToken_286 rfl (lv_at hl 0 rfl) ?_
  refine lv_dup (pc := 287) hx hb dX7_nextToken_287 rfl ?_
  refine j_gI (pc := 288) cx hS hf fd_WornSkinModel_place q1688 dX7_nextToken_288 (fun y1 hf => ?_)
  refine lv_iconst (pc := 291) (v := 1) hx hb dX7_nextToken_291 rfl ?_
  refine lv_iadd (pc := 292) hx hb dX7_nextToken_292 ?_
  refine j_pI (pc := 293) cx hS hf fp_WornSkinModel_place (Or.inl rfl) q1688 dX7_nextToken_293 (fun h H locs hf hS => ?_)
  refine lv_goto (pc := 296) (tgt := 224) hx hb dX7_nextToken_296 (by decide) ?_
  exact hk224 _ _ _ _ _ _ hf hS hl
theorem wX7_nextToken_224 {N : Nat} {r : Unit} (cx : jCx p s m args meth c cX7_nextToken "WornSkinModel" 2 (Option.none : Option Jvm.ClassFile.FieldType) D dA H0 hs.2.2.2.2) (e1 : h'.2.2.1 = hs.2.2.1 + mc) (e2 : h'.2.2.2.1 = hs.2.2.2.1 + ms) (a0 : Nat) (hth : jTh hs a0 7) : ∀ (n : Nat), ∀ (h : jH) (H : Heap) (locs : List Loc) (cells slots : Nat) (ls : Array Slot), (fX7_nextToken_224 N a0 n).1 h = some (r, h') → jS D dA H0 hs h H locs cells slots → lv_has ls 2 [(0, .ref a0)] → W p l e { frames := 1, cells := mc, slots := ms, locals := 21 } s m args below meth c H locs cells slots (jQ D dA H0 below s (.returned none) h' mc ms) (F0 m 224 ls []) := by
  have hx := cx.1
  have hb := cx.2.1
  have hown := cx.2.2.2.1
  have hts := cx.2.2.2.2.1
  have hm : h'.2.2.1 ≤ hs.2.2.1 + mc ∧ h'.2.2.2.1 ≤ hs.2.2.2.1 + ms := ⟨Nat.le_of_eq e1, Nat.le_of_eq e2⟩
  intro n
  induction n with
  | zero =>
    intro h H locs cells slots ls hf hS hl
    exact jE_f hf
  | succ n ih =>
    intro h H locs cells slots ls hf hS hl
    unfold fX7_nextToken_224 at hf
    refine lv_aload_n (pc := 224) hx hb dX7_nextToken_224 rfl (lv_at hl 0 rfl) ?_
    refine lv_aload_n (pc := 225) hx hb dX7_nextToken_225 rfl (lv_at hl 0 rfl) ?_
    refine j_gI (pc := 226) cx hS hf fd_WornSkinModel_place q1688 dX7_nextToken_226 (fun y1 hf => ?_)
    obtain ⟨y2, h1, e9, hf⟩ := jB_some hf
    refine j_callV (pc := 229) (st1 := [.int y2]) (As := [.int y1]) (rest := []) cx hS rfl hl.1 hm (metX7_signAt l _ _ _ _ _ (hth.at hS) e9) (jle hf) (hth.at hS) rfl (lw_V q1888 q1890 qs55 q123 q1891) pdX7_signAt rfl rfl (Nat.le_of_ble_eq_true rfl) ⟨Nat.le_of_ble_eq_true rfl, Nat.le_of_ble_eq_true rfl⟩ dX7_nextToken_229 rfl (fun H locs cells slots hS => ?_)
    refine lv_bipush (pc := 232) (v := 48) hx hb dX7_nextToken_232 rfl ?_
    refine lv_icmp_lt (pc := 234) (tgt := 299) hx hb dX7_nextToken_234 (by decide) (fun hc => ?_) (fun hc => ?_)
    · have hf := jI_t hf hc
      exact wX7_nextToken_299 cx e1 e2 a0 hth _ _ _ _ _ _ hf hS hl
    · have hf := jI_f hf hc
      refine lv_aload_n (pc := 237) hx hb dX7_nextToken_237 rfl (lv_at hl 0 rfl) ?_
      refine lv_aload_n (pc := 238) hx hb dX7_nextToken_238 rfl (lv_at hl 0 rfl) ?_
      refine j_gI (pc := 239) cx hS hf fd_WornSkinModel_place q1688 dX7_nextToken_239 (fun y3 hf => ?_)
      obtain ⟨y4, h1, e9, hf⟩ := jB_some hf
      refine j_callV (pc := 242) (st1 := [.int y4]) (As := [.int y3]) (rest := []) cx hS rfl hl.1 hm (metX7_signAt l _ _ _ _ _ (hth.at hS) e9) (jle hf) (hth.at hS) rfl (lw_V q1888 q1890 qs55 q123 q1891) pdX7_signAt rfl rfl (Nat.le_of_ble_eq_true rfl) ⟨Nat.le_of_ble_eq_true rfl, Nat.le_of_ble_eq_true rfl⟩ dX7_nextToken_242 rfl (fun H locs cells slots hS => ?_)
      refine lv_bipush (pc := 245) (v := 57) hx hb dX7_nextToken_245 rfl ?_
      refine lv_icmp_gt (pc := 247) (tgt := 299) hx hb dX7_nextToken_247 (by decide) (fun hc => ?_) (fun hc => ?_)
      · have hf := jI_t hf hc
        exact wX7_nextToken_299 cx e1 e2 a0 hth _ _ _ _ _ _ hf hS hl
      · have hf := jI_f hf hc
        refine lv_aload_n (pc := 250) hx hb dX7_nextToken_250 rfl (lv_at hl 0 rfl) ?_
        refine j_gI (pc := 251) cx hS hf fd_WornSkinModel_place q1688 dX7_nextToken_251 (fun y5 hf => ?_)
        refine lv_aload_n (pc := 254) hx hb dX7_nextToken_254 rfl (lv_at hl 0 rfl) ?_
        refine j_gI (pc := 255) cx hS hf fd_WornSkinModel_begin q1689 dX7_nextToken_255 (fun y6 hf => ?_)
        refine lv_isub (pc := 258) hx hb dX7_nextToken_258 ?_
        refine lv_iconst (pc := 259) (v := 4) hx hb dX7_nextToken_259 rfl ?_
        refine lv_icmp_ge (pc := 260) (tgt := 286) hx hb dX7_nextToken_260 (by decide) (fun hc => ?_) (fun hc => ?_)
        · have hf := jI_t hf hc
          exact wX7_nextToken_286 cx e1 e2 a0 hth ih _ _ _ _ _ _ hf hS hl
        · have hf := jI_f hf hc
          refine lv_aload_n (pc := 263) hx hb dX7_nextToken_263 rfl (lv_at hl 0 rfl) ?_
          refine lv_aload_n (pc := 264) hx hb dX7_nextToken_264 rfl (lv_at hl 0 rfl) ?_
          refine j_gI (pc := 265) cx hS hf fd_WornSkinModel_told q1692 dX7_nextToken_265 (fun y7 hf => ?_)
          refine lv_bipush (pc := 268) (v := 10) hx hb dX7_nextToken_268 rfl ?_
          refine lv_imul (pc := 270) hx hb dX7_nextToken_270 ?_
          refine lv_aload_n (pc := 271) hx hb dX7_nextToken_271 rfl (lv_at hl 0 rfl) ?_
          refine lv_aload_n (pc := 272) hx hb dX7_nextToken_272 rfl (lv_at hl 0 rfl) ?_
          refine j_gI (pc := 273) cx hS hf fd_WornSkinModel_place q1688 dX7_nextToken_273 (fun y8 hf => ?_)
          obtain ⟨y9, h1, e9, hf⟩ := jB_some hf
          refine j_callV (pc := 276) (st1 := [.int y9, .int (y7 * 10), .ref a0]) (As := [.int y8]) (rest := [.int (y7 * 10), .ref a0]) cx hS rfl hl.1 hm (metX7_signAt l _ _ _ _ _ (hth.at hS) e9) (jle hf) (hth.at hS) rfl (lw_V q1888 q1890 qs55 q123 q1891) pdX7_signAt rfl rfl (Nat.le_of_ble_eq_true rfl) ⟨Nat.le_of_ble_eq_true rfl, Nat.le_of_ble_eq_true rfl⟩ dX7_nextToken_276 rfl (fun H locs cells slots hS => ?_)
          refine lv_iadd (pc := 279) hx hb dX7_nextToken_279 ?_
          refine lv_bipush (pc := 280) (v := 48) hx hb dX7_nextToken_280 rfl ?_
          refine lv_isub (pc := 282) hx hb dX7_nextToken_282 ?_
          refine j_pI (pc := 283) cx hS hf fp_WornSkinModel_told (Or.inl rfl) q1692 dX7_nextToken_283 (fun h H locs hf hS => ?_)
          exact wX7_nextToken_286 cx e1 e2 a0 hth ih _ _ _ _ _ _ hf hS hl
theorem wX7_nextToken_212 {N : Nat} {r : Unit} (cx : jCx p s m args meth c cX7_nextToken "WornSkinModel" 2 (Option.none : Option Jvm.ClassFile.FieldType) D dA H0 hs.2.2.2.2) (e1 : h'.2.2.1 = hs.2.2.1 + mc) (e2 : h'.2.2.2.1 = hs.2.2.2.1 + ms) (a0 : Nat) (hth : jTh hs a0 7) : ∀ (x1 : Int32), ∀ (h : jH) (H : Heap) (locs : List Loc) (cells slots : Nat) (ls : Array Slot), (fX7_nextToken_212 N a0 x1).1 h = some (r, h') → jS D dA H0 hs h H locs cells slots → lv_has ls 2 [(0, .ref a0), (1, .int x1)] → W p l e { frames := 1, cells := mc, slots := ms, locals := 21 } s m args below meth c H locs cells slots (jQ D dA H0 below s (.returned none) h' mc ms) (F0 m 212 ls []) := by
  have hx := cx.1
  have hb := cx.2.1
  have hown := cx.2.2.2.1
  have hts := cx.2.2.2.2.1
  have hm : h'.2.2.1 ≤ hs.2.2.1 + mc ∧ h'.2.2.2.1 ≤ hs.2.2.2.1 + ms := ⟨Nat.le_of_eq e1, Nat.le_of_eq e2⟩
  intro x1 h H locs cells slots ls hf hS hl
  unfold fX7_nextToken_212 at hf
  refine lv_iload_n (pc := 212) hx hb dX7_nextToken_212 rfl (lv_at hl 1 rfl) ?_
  refine lv_bipush (pc := 213) (v := 48) hx hb dX7_nextToken_213 rfl ?_
  refine lv_icmp_lt (pc := 215) (tgt := 322) hx hb dX7_nextToken_215 (by decide) (fun hc => ?_) (fun hc => ?_)
  · have hf := jI_t hf hc
    exact wX7_nextToken_322 cx e1 e2 a0 hth _ _ _ _ _ _ _ hf hS hl
  · have hf := jI_f hf hc
    refine lv_iload_n (pc := 218) hx hb dX7_nextToken_218 rfl (lv_at hl 1 rfl) ?_
    refine lv_bipush (pc := 219) (v := 57) hx hb dX7_nextToken_219 rfl ?_
    refine lv_icmp_gt (pc := 221) (tgt := 322) hx hb dX7_nextToken_221 (by decide) (fun hc => ?_) (fun hc => ?_)
    · have hf := jI_t hf hc
      exact wX7_nextToken_322 cx e1 e2 a0 hth _ _ _ _ _ _ _ hf hS hl
    · have hf := jI_f hf hc
      exact wX7_nextToken_224 cx e1 e2 a0 hth N _ _ _ _ _ _ hf hS (lv_sub hl [0] rfl)
theorem wX7_nextToken_208 {N : Nat} {r : Unit} (cx : jCx p s m args meth c cX7_nextToken "WornSkinModel" 2 (Option.none : Option Jvm.ClassFile.FieldType) D dA H0 hs.2.2.2.2) (e1 : h'.2.2.1 = hs.2.2.1 + mc) (e2 : h'.2.2.2.1 = hs.2.2.2.1 + ms) (a0 : Nat) (hth : jTh hs a0 7) : ∀ (v1 : Int32), ∀ (h : jH) (H : Heap) (locs : List Loc) (cells slots : Nat) (ls : Array Slot), (fX7_nextToken_208 N a0 v1).1 h = some (r, h') → jS D dA H0 hs h H locs cells slots → lv_has ls 2 [(0, .ref a0)] → W p l e { frames := 1, cells := mc, slots := ms, locals := 21 } s m args below meth c H locs cells slots (jQ D dA H0 below s (.returned none) h' mc ms) (F0 m 208 ls [.int v1, .ref a0]) := by
  have hx := cx.1
  have hb := cx.2.1
  have hown := cx.2.2.2.1
  have hts := cx.2.2.2.2.1
  have hm : h'.2.2.1 ≤ hs.2.2.1 + mc ∧ h'.2.2.2.1 ≤ hs.2.2.2.1 + ms := ⟨Nat.le_of_eq e1, Nat.le_of_eq e2⟩
  intro v1 h H locs cells slots ls hf hS hl
  unfold fX7_nextToken_208 at hf
  refine j_pI (pc := 208) cx hS hf fp_WornSkinModel_token (Or.inl rfl) q1690 dX7_nextToken_208 (fun h H locs hf hS => ?_)
  exact j_vret (pc := 211) cx hS hf e1 e2 dX7_nextToken_211
theorem wX7_nextToken_188 {N : Nat} {r : Unit} (cx : jCx p s m args meth c cX7_nextToken "WornSkinModel" 2 (Option.none : Option Jvm.ClassFile.FieldType) D dA H0 hs.2.2.2.2) (e1 : h'.2.2.1 = hs.2.2.1 + mc) (e2 : h'.2.2.2.1 = hs.2.2.2.1 + ms) (a0 : Nat) (hth : jTh hs a0 7) : ∀ (h : jH) (H : Heap) (locs : List Loc) (cells slots : Nat) (ls : Array Slot), (fX7_nextToken_188 N a0).1 h = some (r, h') → jS D dA H0 hs h H locs cells slots → lv_has ls 2 [(0, .ref a0)] → W p l e { frames := 1, cells := mc, slots := ms, locals := 21 } s m args below meth c H locs cells slots (jQ D dA H0 below s (.returned none) h' mc ms) (F0 m 188 ls []) := by
  have hx := cx.1
  have hb := cx.2.1
  have hown := cx.2.2.2.1
  have hts := cx.2.2.2.2.1
  have hm : h'.2.2.1 ≤ hs.2.2.1 + mc ∧ h'.2.2.2.1 ≤ hs.2.2.2.1 + ms := ⟨Nat.le_of_eq e1, Nat.le_of_eq e2⟩
  intro h H locs cells slots ls hf hS hl
  unfold fX7_nextToken_188 at hf
  refine lv_aload_n (pc := 188) hx hb dX7_nextToken_188 rfl (lv_at hl 0 rfl) ?_
  refine lv_aload_n (pc := 189) hx hb dX7_nextToken_189 rfl (lv_at hl 0 rfl) ?_
  refine j_gI (pc := 190) cx hS hf fd_WornSkinModel_place q1688 dX7_nextToken_190 (fun y1 hf => ?_)
  refine lv_aload_n (pc := 193) hx hb dX7_nextToken_193 rfl (lv_at hl 0 rfl) ?_
  refine j_gI (pc := 194) cx hS hf fd_WornSkinModel_begin q1689 dX7_nextToken_194 (fun y2 hf => ?_)
  refine lv_isub (pc := 197) hx hb dX7_nextToken_197 ?_
  refine lv_bipush (pc := 198) (v := 8) hx hb dX7_nextToken_198 rfl ?_
  refine lv_icmp_le (pc := 200) (tgt := 207) hx hb dX7_nextToken_200 (by decide) (fun hc => ?_) (fun hc => ?_)
  · have hf := jI_t hf hc
    refine lv_iconst (pc := 207) (v := 1) hx hb dX7_nextToken_207 rfl ?_
    exact wX7_nextToken_208 cx e1 e2 a0 hth _ _ _ _ _ _ _ hf hS hl
  · have hf := jI_f hf hc
    refine lv_iconst (pc := 203) (v := 4) hx hb dX7_nextToken_203 rfl ?_
    refine lv_goto (pc := 204) (tgt := 208) hx hb dX7_nextToken_204 (by decide) ?_
    exact wX7_nextToken_208 cx e1 e2 a0 hth _ _ _ _ _ _ _ hf hS hl
theorem wX7_nextToken_175 {N : Nat} {k109 : jM Unit} {r : Unit} (cx : jCx p s m args meth c cX7_nextToken "WornSkinModel" 2 (Option.none : Option Jvm.ClassFile.FieldType) D dA H0 hs.2.2.2.2) (e1 : h'.2.2.1 = hs.2.2.1 + mc) (e2 : h'.2.2.2.1 = hs.2.2.2.1 + ms) (a0 : Nat) (hth : jTh hs a0 7) (hk109 : ∀ (h : jH) (H : Heap) (locs : List Loc) (cells slots : Nat) (ls : Array Slot), (k109).1 h = some (r, h') → jS D dA H0 hs h H locs cells slots → lv_has ls 2 [(0, .ref a0)] → W p l e { frames := 1, cells := mc, slots := ms, locals := 21 } s m args below meth c H locs cells slots (jQ D dA H0 below s (.returned none) h' mc ms) (F0 m 109 ls [])) : ∀ (h : jH) (H : Heap) (locs : List Loc) (cells slots : Nat) (ls : Array Slot), (fX7_nextToken_175 N k109 a0).1 h = some (r, h') → jS D dA H0 hs h H locs cells slots → lv_has ls 2 [(0, .ref a0)] → W p l e { frames := 1, cells := mc, slots := ms, locals := 21 } s m args below meth c H locs cells slots (jQ D dA H0 below s (.returned none) h' mc ms) (F0 m 175 ls []) := by
  have hx := cx.1
  have hb := cx.2.1
  have hown := cx.2.2.2.1
  have hts := cx.2.2.2.2.1
  have hm : h'.2.2.1 ≤ hs.2.2.1 + mc ∧ h'.2.2.2.1 ≤ hs.2.2.2.1 + ms := ⟨Nat.le_of_eq e1, Nat.le_of_eq e2⟩
  intro h H locs cells slots ls hf hS hl
  unfold fX7_nextToken_175 at hf
  refine lv_aload_n (pc := 175) hx hb dX7_nextToken_175 rfl (lv_at hl 0 rfl) ?_
  refine lv_dup (pc := 176) hx hb dX7_nextToken_176 rfl ?_
  refine j_gI (pc := 177) cx hS hf fd_WornSkinModel_place q1688 dX7_nextToken_177 (fun y1 hf => ?_)
  refine lv_iconst (pc := 180) (v := 1) hx hb dX7_nextToken_180 rfl ?_
  refine lv_iadd (pc := 181) hx hb dX7_nextToken_181 ?_
  refine j_pI (pc := 182) cx hS hf fp_WornSkinModel_place (Or.inl rfl) q1688 dX7_nextToken_182 (fun h H locs hf hS => ?_)
  refine lv_goto (pc := 185) (tgt := 109) hx hb dX7_nextToken_185 (by decide) ?_
  exact hk109 _ _ _ _ _ _ hf hS hl
theorem wX7_nextToken_109 {N : Nat} {r : Unit} (cx : jCx p s m args meth c cX7_nextToken "WornSkinModel" 2 (Option.none : Option Jvm.ClassFile.FieldType) D dA H0 hs.2.2.2.2) (e1 : h'.2.2.1 = hs.2.2.1 + mc) (e2 : h'.2.2.2.1 = hs.2.2.2.1 + ms) (a0 : Nat) (hth : jTh hs a0 7) : ∀ (n : Nat), ∀ (h : jH) (H : Heap) (locs : List Loc) (cells slots : Nat) (ls : Array Slot), (fX7_nextToken_109 N a0 n).1 h = some (r, h') → jS D dA H0 hs h H locs cells slots → lv_has ls 2 [(0, .ref a0)] → W p l e { frames := 1, cells := mc, slots := ms, locals := 21 } s m args below meth c H locs cells slots (jQ D dA H0 below s (.returned none) h' mc ms) (F0 m 109 ls []) := by
  have hx := cx.1
  have hb := cx.2.1
  have hown := cx.2.2.2.1
  have hts := cx.2.2.2.2.1
  have hm : h'.2.2.1 ≤ hs.2.2.1 + mc ∧ h'.2.2.2.1 ≤ hs.2.2.2.1 + ms := ⟨Nat.le_of_eq e1, Nat.le_of_eq e2⟩
  intro n
  induction n with
  | zero =>
    intro h H locs cells slots ls hf hS hl
    exact jE_f hf
  | succ n ih =>
    intro h H locs cells slots ls hf hS hl
    unfold fX7_nextToken_109 at hf
    refine lv_aload_n (pc := 109) hx hb dX7_nextToken_109 rfl (lv_at hl 0 rfl) ?_
    refine lv_aload_n (pc := 110) hx hb dX7_nextToken_110 rfl (lv_at hl 0 rfl) ?_
    refine j_gI (pc := 111) cx hS hf fd_WornSkinModel_place q1688 dX7_nextToken_111 (fun y1 hf => ?_)
    obtain ⟨y2, h1, e9, hf⟩ := jB_some hf
    refine j_callV (pc := 114) (st1 := [.int y2]) (As := [.int y1]) (rest := []) cx hS rfl hl.1 hm (metX7_signAt l _ _ _ _ _ (hth.at hS) e9) (jle hf) (hth.at hS) rfl (lw_V q1888 q1890 qs55 q123 q1891) pdX7_signAt rfl rfl (Nat.le_of_ble_eq_true rfl) ⟨Nat.le_of_ble_eq_true rfl, Nat.le_of_ble_eq_true rfl⟩ dX7_nextToken_114 rfl (fun H locs cells slots hS => ?_)
    refine lv_bipush (pc := 117) (v := 97) hx hb dX7_nextToken_117 rfl ?_
    refine lv_icmp_lt (pc := 119) (tgt := 188) hx hb dX7_nextToken_119 (by decide) (fun hc => ?_) (fun hc => ?_)
    · have hf := jI_t hf hc
      exact wX7_nextToken_188 cx e1 e2 a0 hth _ _ _ _ _ _ hf hS hl
    · have hf := jI_f hf hc
      refine lv_aload_n (pc := 122) hx hb dX7_nextToken_122 rfl (lv_at hl 0 rfl) ?_
      refine lv_aload_n (pc := 123) hx hb dX7_nextToken_123 rfl (lv_at hl 0 rfl) ?_
      refine j_gI (pc := 124) cx hS hf fd_WornSkinModel_place q1688 dX7_nextToken_124 (fun y3 hf => ?_)
      obtain ⟨y4, h1, e9, hf⟩ := jB_some hf
      refine j_callV (pc := 127) (st1 := [.int y4]) (As := [.int y3]) (rest := []) cx hS rfl hl.1 hm (metX7_signAt l _ _ _ _ _ (hth.at hS) e9) (jle hf) (hth.at hS) rfl (lw_V q1888 q1890 qs55 q123 q1891) pdX7_signAt rfl rfl (Nat.le_of_ble_eq_true rfl) ⟨Nat.le_of_ble_eq_true rfl, Nat.le_of_ble_eq_true rfl⟩ dX7_nextToken_127 rfl (fun H locs cells slots hS => ?_)
      refine lv_bipush (pc := 130) (v := 122) hx hb dX7_nextToken_130 rfl ?_
      refine lv_icmp_gt (pc := 132) (tgt := 188) hx hb dX7_nextToken_132 (by decide) (fun hc => ?_) (fun hc => ?_)
      · have hf := jI_t hf hc
        exact wX7_nextToken_188 cx e1 e2 a0 hth _ _ _ _ _ _ hf hS hl
      · have hf := jI_f hf hc
        refine lv_aload_n (pc := 135) hx hb dX7_nextToken_135 rfl (lv_at hl 0 rfl) ?_
        refine j_gI (pc := 136) cx hS hf fd_WornSkinModel_place q1688 dX7_nextToken_136 (fun y5 hf => ?_)
        refine lv_aload_n (pc := 139) hx hb dX7_nextToken_139 rfl (lv_at hl 0 rfl) ?_
        refine j_gI (pc := 140) cx hS hf fd_WornSkinModel_begin q1689 dX7_nextToken_140 (fun y6 hf => ?_)
        refine lv_isub (pc := 143) hx hb dX7_nextToken_143 ?_
        refine lv_bipush (pc := 144) (v := 8) hx hb dX7_nextToken_144 rfl ?_
        refine lv_icmp_ge (pc := 146) (tgt := 175) hx hb dX7_nextToken_146 (by decide) (fun hc => ?_) (fun hc => ?_)
        · have hf := jI_t hf hc
          exact wX7_nextToken_175 cx e1 e2 a0 hth ih _ _ _ _ _ _ hf hS hl
        · have hf := jI_f hf hc
          refine lv_aload_n (pc := 149) hx hb dX7_nextToken_149 rfl (lv_at hl 0 rfl) ?_
          refine lv_aload_n (pc := 150) hx hb dX7_nextToken_150 rfl (lv_at hl 0 rfl) ?_
          refine j_gL (pc := 151) cx hS hf fd_WornSkinModel_word q1691 dX7_nextToken_151 (fun y7 hf => ?_)
          refine lv_ldc2 (pc := 154) (v := 27) hx hb hown (hts _ q1892) dX7_nextToken_154 ?_
          refine lv_lmul (pc := 157) hx hb dX7_nextToken_157 ?_
          refine lv_aload_n (pc := 158) hx hb dX7_nextToken_158 rfl (lv_at hl 0 rfl) ?_
          refine lv_aload_n (pc := 159) hx hb dX7_nextToken_159 rfl (lv_at hl 0 rfl) ?_
          refine j_gI (pc := 160) cx hS hf fd_WornSkinModel_place q1688 dX7_nextToken_160 (fun y8 hf => ?_)
          obtain ⟨y9, h1, e9, hf⟩ := jB_some hf
          refine j_callV (pc := 163) (st1 := [.int y9, .long (y7 * 27), .ref a0]) (As := [.int y8]) (rest := [.long (y7 * 27), .ref a0]) cx hS rfl hl.1 hm (metX7_signAt l _ _ _ _ _ (hth.at hS) e9) (jle hf) (hth.at hS) rfl (lw_V q1888 q1890 qs55 q123 q1891) pdX7_signAt rfl rfl (Nat.le_of_ble_eq_true rfl) ⟨Nat.le_of_ble_eq_true rfl, Nat.le_of_ble_eq_true rfl⟩ dX7_nextToken_163 rfl (fun H locs cells slots hS => ?_)
          refine lv_i2l (pc := 166) (v := y9.toInt64) hx hb dX7_nextToken_166 rfl ?_
          refine lv_ladd (pc := 167) hx hb dX7_nextToken_167 ?_
          refine lv_ldc2 (pc := 168) (v := 96) hx hb hown (hts _ q1893) dX7_nextToken_168 ?_
          refine lv_lsub (pc := 171) hx hb dX7_nextToken_171 ?_
          refine j_pL (pc := 172) cx hS hf fp_WornSkinModel_word (Or.inl rfl) q1691 dX7_nextToken_172 (fun h H locs hf hS => ?_)
          exact wX7_nextToken_175 cx e1 e2 a0 hth ih _ _ _ _ _ _ hf hS hl
theorem wX7_nextToken_52 {N : Nat} {r : Unit} (cx : jCx p s m args meth c cX7_nextToken "WornSkinModel" 2 (Option.none : Option Jvm.ClassFile.FieldType) D dA H0 hs.2.2.2.2) (e1 : h'.2.2.1 = hs.2.2.1 + mc) (e2 : h'.2.2.2.1 = hs.2.2.2.1 + ms) (a0 : Nat) (hth : jTh hs a0 7) : ∀ (h : jH) (H : Heap) (locs : List Loc) (cells slots : Nat) (ls : Array Slot), (fX7_nextToken_52 N a0).1 h = some (r, h') → jS D dA H0 hs h H locs cells slots → lv_has ls 2 [(0, .ref a0)] → W p l e { frames := 1, cells := mc, slots := ms, locals := 21 } s m args below meth c H locs cells slots (jQ D dA H0 below s (.returned none) h' mc ms) (F0 m 52 ls []) := by
  have hx := cx.1
  have hb := cx.2.1
  have hown := cx.2.2.2.1
  have hts := cx.2.2.2.2.1
  have hm : h'.2.2.1 ≤ hs.2.2.1 + mc ∧ h'.2.2.2.1 ≤ hs.2.2.2.1 + ms := ⟨Nat.le_of_eq e1, Nat.le_of_eq e2⟩
  intro h H locs cells slots ls hf hS hl
  unfold fX7_nextToken_52 at hf
  refine lv_aload_n (pc := 52) hx hb dX7_nextToken_52 rfl (lv_at hl 0 rfl) ?_
  refine lv_aload_n (pc := 53) hx hb dX7_nextToken_53 rfl (lv_at hl 0 rfl) ?_
  refine j_gI (pc := 54) cx hS hf fd_WornSkinModel_place q1688 dX7_nextToken_54 (fun y1 hf => ?_)
  refine j_pI (pc := 57) cx hS hf fp_WornSkinModel_begin (Or.inl rfl) q1689 dX7_nextToken_57 (fun h H locs hf hS => ?_)
  refine lv_aload_n (pc := 60) hx hb dX7_nextToken_60 rfl (lv_at hl 0 rfl) ?_
  refine lv_lconst (pc := 61) (v := 0) hx hb dX7_nextToken_61 rfl ?_
  refine j_pL (pc := 62) cx hS hf fp_WornSkinModel_word (Or.inl rfl) q1691 dX7_nextToken_62 (fun h H locs hf hS => ?_)
  refine lv_aload_n (pc := 65) hx hb dX7_nextToken_65 rfl (lv_at hl 0 rfl) ?_
  refine lv_iconst (pc := 66) (v := 0) hx hb dX7_nextToken_66 rfl ?_
  refine j_pI (pc := 67) cx hS hf fp_WornSkinModel_told (Or.inl rfl) q1692 dX7_nextToken_67 (fun h H locs hf hS => ?_)
  refine lv_aload_n (pc := 70) hx hb dX7_nextToken_70 rfl (lv_at hl 0 rfl) ?_
  refine j_gI (pc := 71) cx hS hf fd_WornSkinModel_place q1688 dX7_nextToken_71 (fun y2 hf => ?_)
  refine lv_aload_n (pc := 74) hx hb dX7_nextToken_74 rfl (lv_at hl 0 rfl) ?_
  refine j_gI (pc := 75) cx hS hf fd_WornSkinModel_size q1687 dX7_nextToken_75 (fun y3 hf => ?_)
  refine lv_icmp_ne (pc := 78) (tgt := 87) hx hb dX7_nextToken_78 (by decide) (fun hc => ?_) (fun hc => ?_)
  · have hf := jI_f hf hc
    refine lv_aload_n (pc := 87) hx hb dX7_nextToken_87 rfl (lv_at hl 0 rfl) ?_
    refine j_gR (pc := 88) cx hS hf fd_WornSkinModel_tape q1686 dX7_nextToken_88 (fun y4 hf => ?_)
    refine lv_aload_n (pc := 91) hx hb dX7_nextToken_91 rfl (lv_at hl 0 rfl) ?_
    refine j_gI (pc := 92) cx hS hf fd_WornSkinModel_place q1688 dX7_nextToken_92 (fun y5 hf => ?_)
    refine j_aI (pc := 95) cx hS hf rfl dX7_nextToken_95 (fun y6 hf => ?_)
    refine lv_istore_n (pc := 96) (i := 1) (lv' := [(1, .int y6), (0, .ref a0)]) hx hb dX7_nextToken_96 rfl hl (Nat.le_of_ble_eq_true rfl) rfl (fun ls hl => ?_)
    refine lv_iload_n (pc := 97) hx hb dX7_nextToken_97 rfl (lv_at hl 0 rfl) ?_
    refine lv_bipush (pc := 98) (v := 97) hx hb dX7_nextToken_98 rfl ?_
    refine lv_icmp_lt (pc := 100) (tgt := 212) hx hb dX7_nextToken_100 (by decide) (fun hc => ?_) (fun hc => ?_)
    · have hf := jI_t hf hc
      exact wX7_nextToken_212 cx e1 e2 a0 hth _ _ _ _ _ _ _ hf hS (lv_sub hl [1, 0] rfl)
    · have hf := jI_f hf hc
      refine lv_iload_n (pc := 103) hx hb dX7_nextToken_103 rfl (lv_at hl 0 rfl) ?_
      refine lv_bipush (pc := 104) (v := 122) hx hb dX7_nextToken_104 rfl ?_
      refine lv_icmp_gt (pc := 106) (tgt := 212) hx hb dX7_nextToken_106 (by decide) (fun hc => ?_) (fun hc => ?_)
      · have hf := jI_t hf hc
        exact wX7_nextToken_212 cx e1 e2 a0 hth _ _ _ _ _ _ _ hf hS (lv_sub hl [1, 0] rfl)
      · have hf := jI_f hf hc
        exact wX7_nextToken_109 cx e1 e2 a0 hth N _ _ _ _ _ _ hf hS (lv_sub hl [1] rfl)
  · have hf := jI_t hf hc
    refine lv_aload_n (pc := 81) hx hb dX7_nextToken_81 rfl (lv_at hl 0 rfl) ?_
    refine lv_iconst (pc := 82) (v := 0) hx hb dX7_nextToken_82 rfl ?_
    refine j_pI (pc := 83) cx hS hf fp_WornSkinModel_token (Or.inl rfl) q1690 dX7_nextToken_83 (fun h H locs hf hS => ?_)
    exact j_vret (pc := 86) cx hS hf e1 e2 dX7_nextToken_86
theorem wX7_nextToken_39 {N : Nat} {k0 : jM Unit} {r : Unit} (cx : jCx p s m args meth c cX7_nextToken "WornSkinModel" 2 (Option.none : Option Jvm.ClassFile.FieldType) D dA H0 hs.2.2.2.2) (e1 : h'.2.2.1 = hs.2.2.1 + mc) (e2 : h'.2.2.2.1 = hs.2.2.2.1 + ms) (a0 : Nat) (hth : jTh hs a0 7) (hk0 : ∀ (h : jH) (H : Heap) (locs : List Loc) (cells slots : Nat) (ls : Array Slot), (k0).1 h = some (r, h') → jS D dA H0 hs h H locs cells slots → lv_has ls 2 [(0, .ref a0)] → W p l e { frames := 1, cells := mc, slots := ms, locals := 21 } s m args below meth c H locs cells slots (jQ D dA H0 below s (.returned none) h' mc ms) (F0 m 0 ls [])) : ∀ (h : jH) (H : Heap) (locs : List Loc) (cells slots : Nat) (ls : Array Slot), (fX7_nextToken_39 N k0 a0).1 h = some (r, h') → jS D dA H0 hs h H locs cells slots → lv_has ls 2 [(0, .ref a0)] → W p l e { frames := 1, cells := mc, slots := ms, locals := 21 } s m args below meth c H locs cells slots (jQ D dA H0 below s (.returned none) h' mc ms) (F0 m 39 ls []) := by
  have hx := cx.1
  have hb := cx.2.1
  have hown := cx.2.2.2.1
  have hts := cx.2.2.2.2.1
  have hm : h'.2.2.1 ≤ hs.2.2.1 + mc ∧ h'.2.2.2.1 ≤ hs.2.2.2.1 + ms := ⟨Nat.le_of_eq e1, Nat.le_of_eq e2⟩
  intro h H locs cells slots ls hf hS hl
  unfold fX7_nextToken_39 at hf
  refine lv_aload_n (pc := 39) hx hb dX7_nextToken_39 rfl (lv_at hl 0 rfl) ?_
  refine lv_dup (pc := 40) hx hb dX7_nextToken_40 rfl ?_
  refine j_gI (pc := 41) cx hS hf fd_WornSkinModel_place q1688 dX7_nextToken_41 (fun y1 hf => ?_)
  refine lv_iconst (pc := 44) (v := 1) hx hb dX7_nextToken_44 rfl ?_
  refine lv_iadd (pc := 45) hx hb dX7_nextToken_45 ?_
  refine j_pI (pc := 46) cx hS hf fp_WornSkinModel_place (Or.inl rfl) q1688 dX7_nextToken_46 (fun h H locs hf hS => ?_)
  refine lv_goto (pc := 49) (tgt := 0) hx hb dX7_nextToken_49 (by decide) ?_
  exact hk0 _ _ _ _ _ _ hf hS hl
theorem wX7_nextToken_0l {N : Nat} {r : Unit} (cx : jCx p s m args meth c cX7_nextToken "WornSkinModel" 2 (Option.none : Option Jvm.ClassFile.FieldType) D dA H0 hs.2.2.2.2) (e1 : h'.2.2.1 = hs.2.2.1 + mc) (e2 : h'.2.2.2.1 = hs.2.2.2.1 + ms) (a0 : Nat) (hth : jTh hs a0 7) : ∀ (n : Nat), ∀ (h : jH) (H : Heap) (locs : List Loc) (cells slots : Nat) (ls : Array Slot), (fX7_nextToken_l N a0 n).1 h = some (r, h') → jS D dA H0 hs h H locs cells slots → lv_has ls 2 [(0, .ref a0)] → W p l e { frames := 1, cells := mc, slots := ms, locals := 21 } s m args below meth c H locs cells slots (jQ D dA H0 below s (.returned none) h' mc ms) (F0 m 0 ls []) := by
  have hx := cx.1
  have hb := cx.2.1
  have hown := cx.2.2.2.1
  have hts := cx.2.2.2.2.1
  have hm : h'.2.2.1 ≤ hs.2.2.1 + mc ∧ h'.2.2.2.1 ≤ hs.2.2.2.1 + ms := ⟨Nat.le_of_eq e1, Nat.le_of_eq e2⟩
  intro n
  induction n with
  | zero =>
    intro h H locs cells slots ls hf hS hl
    exact jE_f hf
  | succ n ih =>
    intro h H locs cells slots ls hf hS hl
    unfold fX7_nextToken_l at hf
    refine lv_aload_n (pc := 0) hx hb dX7_nextToken_0 rfl (lv_at hl 0 rfl) ?_
    refine j_gI (pc := 1) cx hS hf fd_WornSkinModel_place q1688 dX7_nextToken_1 (fun y1 hf => ?_)
    refine lv_aload_n (pc := 4) hx hb dX7_nextToken_4 rfl (lv_at hl 0 rfl) ?_
    refine j_gI (pc := 5) cx hS hf fd_WornSkinModel_size q1687 dX7_nextToken_5 (fun y2 hf => ?_)
    refine lv_icmp_ge (pc := 8) (tgt := 52) hx hb dX7_nextToken_8 (by decide) (fun hc => ?_) (fun hc => ?_)
    · have hf := jI_t hf hc
      exact wX7_nextToken_52 cx e1 e2 a0 hth _ _ _ _ _ _ hf hS hl
    · have hf := jI_f hf hc
      refine lv_aload_n (pc := 11) hx hb dX7_nextToken_11 rfl (lv_at hl 0 rfl) ?_
      refine j_gR (pc := 12) cx hS hf fd_WornSkinModel_tape q1686 dX7_nextToken_12 (fun y3 hf => ?_)
      refine lv_aload_n (pc := 15) hx hb dX7_nextToken_15 rfl (lv_at hl 0 rfl) ?_
      refine j_gI (pc := 16) cx hS hf fd_WornSkinModel_place q1688 dX7_nextToken_16 (fun y4 hf => ?_)
      refine j_aI (pc := 19) cx hS hf rfl dX7_nextToken_19 (fun y5 hf => ?_)
      refine lv_bipush (pc := 20) (v := 32) hx hb dX7_nextToken_20 rfl ?_
      refine lv_icmp_eq (pc := 22) (tgt := 39) hx hb dX7_nextToken_22 (by decide) (fun hc => ?_) (fun hc => ?_)
      · have hf := jI_t hf hc
        exact wX7_nextToken_39 cx e1 e2 a0 hth ih _ _ _ _ _ _ hf hS hl
      · have hf := jI_f hf hc
        refine lv_aload_n (pc := 25) hx hb dX7_nextToken_25 rfl (lv_at hl 0 rfl) ?_
        refine j_gR (pc := 26) cx hS hf fd_WornSkinModel_tape q1686 dX7_nextToken_26 (fun y6 hf => ?_)
        refine lv_aload_n (pc := 29) hx hb dX7_nextToken_29 rfl (lv_at hl 0 rfl) ?_
        refine j_gI (pc := 30) cx hS hf fd_WornSkinModel_place q1688 dX7_nextToken_30 (fun y7 hf => ?_)
        refine j_aI (pc := 33) cx hS hf rfl dX7_nextToken_33 (fun y8 hf => ?_)
        refine lv_bipush (pc := 34) (v := 10) hx hb dX7_nextToken_34 rfl ?_
        refine lv_icmp_ne (pc := 36) (tgt := 52) hx hb dX7_nextToken_36 (by decide) (fun hc => ?_) (fun hc => ?_)
        · have hf := jI_f hf hc
          exact wX7_nextToken_52 cx e1 e2 a0 hth _ _ _ _ _ _ hf hS hl
        · have hf := jI_t hf hc
          exact wX7_nextToken_39 cx e1 e2 a0 hth ih _ _ _ _ _ _ hf hS hl
theorem wX7_nextToken_0 {N : Nat} {r : Unit} (cx : jCx p s m args meth c cX7_nextToken "WornSkinModel" 2 (Option.none : Option Jvm.ClassFile.FieldType) D dA H0 hs.2.2.2.2) (e1 : h'.2.2.1 = hs.2.2.1 + mc) (e2 : h'.2.2.2.1 = hs.2.2.2.1 + ms) (a0 : Nat) (hth : jTh hs a0 7) : ∀ (h : jH) (H : Heap) (locs : List Loc) (cells slots : Nat) (ls : Array Slot), (fX7_nextToken N a0).1 h = some (r, h') → jS D dA H0 hs h H locs cells slots → lv_has ls 2 [(0, .ref a0)] → W p l e { frames := 1, cells := mc, slots := ms, locals := 21 } s m args below meth c H locs cells slots (jQ D dA H0 below s (.returned none) h' mc ms) (F0 m 0 ls []) := by
  intro h H locs cells slots ls hf hS hl
  exact wX7_nextToken_0l cx e1 e2 a0 hth N h H locs cells slots ls hf hS hl
theorem metX7_nextToken (l : Launch) (N : Nat) (a0 : Nat) (h h' : jH) (r : Unit) (hth : jcd h a0 = some 7) (hf : (fX7_nextToken N a0).1 h = some (r, h')) : jMet l yX7_nextToken (ws_ yX7_nextToken cX7_nextToken 2 (Option.none : Option Jvm.ClassFile.FieldType)) (1) (21) [.ref a0] h h' (.returned none) := by
  refine jStart rfl (jle hf) (Nat.le_of_ble_eq_true rfl) ?_
  intro p e s m below meth c D dA H0 mc ms ls cx hnm e1 e2 hS hl
  have hth := jTh.mk hS hth
  exact wX7_nextToken_0 cx e1 e2 a0 hth  _ _ _ _ _ _ hf hS hl
def fX7_begins (N : Nat) (a0 : Nat) : jM Unit := jB (jgI [7] 1 (some a0)) fun y1 => jB (jpI [7] 3 (some a0) y1) fun _ => jB (jpI [7] 1 (some a0) 0) fun _ => jB (jpI [7] 4 (some a0) 0) fun _ => jB (fX7_nextToken N a0) fun _ => jR ()
theorem wX7_begins_0 {N : Nat} {r : Unit} (cx : jCx p s m args meth c cX7_begins "WornSkinModel" 1 (Option.none : Option Jvm.ClassFile.FieldType) D dA H0 hs.2.2.2.2) (e1 : h'.2.2.1 = hs.2.2.1 + mc) (e2 : h'.2.2.2.1 = hs.2.2.2.1 + ms) (a0 : Nat) (hth : jTh hs a0 7) : ∀ (h : jH) (H : Heap) (locs : List Loc) (cells slots : Nat) (ls : Array Slot), (fX7_begins N a0).1 h = some (r, h') → jS D dA H0 hs h H locs cells slots → lv_has ls 1 [(0, .ref a0)] → W p l e { frames := 2, cells := mc, slots := ms, locals := 42 } s m args below meth c H locs cells slots (jQ D dA H0 below s (.returned none) h' mc ms) (F0 m 0 ls []) := by
  have hx := cx.1
  have hb := cx.2.1
  have hown := cx.2.2.2.1
  have hts := cx.2.2.2.2.1
  have hm : h'.2.2.1 ≤ hs.2.2.1 + mc ∧ h'.2.2.2.1 ≤ hs.2.2.2.1 + ms := ⟨Nat.le_of_eq e1, Nat.le_of_eq e2⟩
  intro h H locs cells slots ls hf hS hl
  unfold fX7_begins at hf
  refine lv_aload_n (pc := 0) hx hb dX7_begins_0 rfl (lv_at hl 0 rfl) ?_
  refine lv_aload_n (pc := 1) hx hb dX7_begins_1 rfl (lv_at hl 0 rfl) ?_
  refine j_gI (pc := 2) cx hS hf fd_WornSkinModel_taped q1685 dX7_begins_2 (fun y1 hf => ?_)
  refine j_pI (pc := 5) cx hS hf fp_WornSkinModel_size (Or.inl rfl) q1687 dX7_begins_5 (fun h H locs hf hS => ?_)
  refine lv_aload_n (pc := 8) hx hb dX7_begins_8 rfl (lv_at hl 0 rfl) ?_
  refine lv_iconst (pc := 9) (v := 0) hx hb dX7_begins_9 rfl ?_
  refine j_pI (pc := 10) cx hS hf fp_WornSkinModel_taped (Or.inl rfl) q1685 dX7_begins_10 (fun h H locs hf hS => ?_)
  refine lv_aload_n (pc := 13) hx hb dX7_begins_13 rfl (lv_at hl 0 rfl) ?_
  refine lv_iconst (pc := 14) (v := 0) hx hb dX7_begins_14 rfl ?_
  refine j_pI (pc := 15) cx hS hf fp_WornSkinModel_place (Or.inl rfl) q1688 dX7_begins_15 (fun h H locs hf hS => ?_)
  refine lv_aload_n (pc := 18) hx hb dX7_begins_18 rfl (lv_at hl 0 rfl) ?_
  obtain ⟨_, h1, e9, hf⟩ := jB_some hf
  refine j_callV (pc := 19) (st1 := []) (As := []) (rest := []) cx hS rfl hl.1 hm (metX7_nextToken l _ _ _ _ _ (hth.at hS) e9) (jle hf) (hth.at hS) rfl (lw_V q1884 q1886 qs54 q123 q1887) pdX7_nextToken rfl rfl (Nat.le_of_ble_eq_true rfl) ⟨Nat.le_of_ble_eq_true rfl, Nat.le_of_ble_eq_true rfl⟩ dX7_begins_19 rfl (fun H locs cells slots hS => ?_)
  exact j_vret (pc := 22) cx hS hf e1 e2 dX7_begins_22
theorem metX7_begins (l : Launch) (N : Nat) (a0 : Nat) (h h' : jH) (r : Unit) (hth : jcd h a0 = some 7) (hf : (fX7_begins N a0).1 h = some (r, h')) : jMet l yX7_begins (ws_ yX7_begins cX7_begins 1 (Option.none : Option Jvm.ClassFile.FieldType)) (2) (42) [.ref a0] h h' (.returned none) := by
  refine jStart rfl (jle hf) (Nat.le_of_ble_eq_true rfl) ?_
  intro p e s m below meth c D dA H0 mc ms ls cx hnm e1 e2 hS hl
  have hth := jTh.mk hS hth
  exact wX7_begins_0 cx e1 e2 a0 hth  _ _ _ _ _ _ hf hS hl
def fX7_isWord_22 (a0 : Nat) (v0 : Int32) : jM Int32 := jRn .boolean v0
def fX7_isWord_21 (a0 : Nat) : jM Int32 := fX7_isWord_22 a0 0
def fX7_isWord (a0 : Nat) (x1 : Int64) : jM Int32 := jB (jgI [7] 6 (some a0)) fun y1 => if y1 = 1 then (jB (jgL [7] 7 (some a0)) fun y2 => if (lg_cmp y2 x1) = 0 then (fX7_isWord_22 a0 1) else (fX7_isWord_21 a0)) else (fX7_isWord_21 a0)
theorem wX7_isWord_22 {r : Int32} (cx : jCx p s m args meth c cX7_isWord "WornSkinModel" 3 (Option.some Jvm.ClassFile.FieldType.boolean) D dA H0 hs.2.2.2.2) (e1 : h'.2.2.1 = hs.2.2.1 + mc) (e2 : h'.2.2.2.1 = hs.2.2.2.1 + ms) (a0 : Nat) (hth : jTh hs a0 7) : ∀ (v0 : Int32), ∀ (h : jH) (H : Heap) (locs : List Loc) (cells slots : Nat) (ls : Array Slot), (fX7_isWord_22 a0 v0).1 h = some (r, h') → jS D dA H0 hs h H locs cells slots → lv_has ls 3 [(0, .ref a0)] → W p l e { frames := 0, cells := mc, slots := ms, locals := 0 } s m args below meth c H locs cells slots (jQ D dA H0 below s (.returned (some (.int r))) h' mc ms) (F0 m 22 ls [.int v0]) := by
  have hx := cx.1
  have hb := cx.2.1
  have hown := cx.2.2.2.1
  have hts := cx.2.2.2.2.1
  have hm : h'.2.2.1 ≤ hs.2.2.1 + mc ∧ h'.2.2.2.1 ≤ hs.2.2.2.1 + ms := ⟨Nat.le_of_eq e1, Nat.le_of_eq e2⟩
  intro v0 h H locs cells slots ls hf hS hl
  unfold fX7_isWord_22 at hf
  exact j_zret (pc := 22) cx (Or.inl rfl) hS hf e1 e2 dX7_isWord_22
theorem wX7_isWord_21 {r : Int32} (cx : jCx p s m args meth c cX7_isWord "WornSkinModel" 3 (Option.some Jvm.ClassFile.FieldType.boolean) D dA H0 hs.2.2.2.2) (e1 : h'.2.2.1 = hs.2.2.1 + mc) (e2 : h'.2.2.2.1 = hs.2.2.2.1 + ms) (a0 : Nat) (hth : jTh hs a0 7) : ∀ (h : jH) (H : Heap) (locs : List Loc) (cells slots : Nat) (ls : Array Slot), (fX7_isWord_21 a0).1 h = some (r, h') → jS D dA H0 hs h H locs cells slots → lv_has ls 3 [(0, .ref a0)] → W p l e { frames := 0, cells := mc, slots := ms, locals := 0 } s m args below meth c H locs cells slots (jQ D dA H0 below s (.returned (some (.int r))) h' mc ms) (F0 m 21 ls []) := by
  have hx := cx.1
  have hb := cx.2.1
  have hown := cx.2.2.2.1
  have hts := cx.2.2.2.2.1
  have hm : h'.2.2.1 ≤ hs.2.2.1 + mc ∧ h'.2.2.2.1 ≤ hs.2.2.2.1 + ms := ⟨Nat.le_of_eq e1, Nat.le_of_eq e2⟩
  intro h H locs cells slots ls hf hS hl
  unfold fX7_isWord_21 at hf
  refine lv_iconst (pc := 21) (v := 0) hx hb dX7_isWord_21 rfl ?_
  exact wX7_isWord_22 cx e1 e2 a0 hth _ _ _ _ _ _ _ hf hS hl
theorem wX7_isWord_0 {r : Int32} (cx : jCx p s m args meth c cX7_isWord "WornSkinModel" 3 (Option.some Jvm.ClassFile.FieldType.boolean) D dA H0 hs.2.2.2.2) (e1 : h'.2.2.1 = hs.2.2.1 + mc) (e2 : h'.2.2.2.1 = hs.2.2.2.1 + ms) (a0 : Nat) (hth : jTh hs a0 7) : ∀ (x1 : Int64), ∀ (h : jH) (H : Heap) (locs : List Loc) (cells slots : Nat) (ls : Array Slot), (fX7_isWord a0 x1).1 h = some (r, h') → jS D dA H0 hs h H locs cells slots → lv_has ls 3 [(0, .ref a0), (1, .long x1)] → W p l e { frames := 0, cells := mc, slots := ms, locals := 0 } s m args below meth c H locs cells slots (jQ D dA H0 below s (.returned (some (.int r))) h' mc ms) (F0 m 0 ls []) := by
  have hx := cx.1
  have hb := cx.2.1
  have hown := cx.2.2.2.1
  have hts := cx.2.2.2.2.1
  have hm : h'.2.2.1 ≤ hs.2.2.1 + mc ∧ h'.2.2.2.1 ≤ hs.2.2.2.1 + ms := ⟨Nat.le_of_eq e1, Nat.le_of_eq e2⟩
  intro x1 h H locs cells slots ls hf hS hl
  unfold fX7_isWord at hf
  refine lv_aload_n (pc := 0) hx hb dX7_isWord_0 rfl (lv_at hl 0 rfl) ?_
  refine j_gI (pc := 1) cx hS hf fd_WornSkinModel_token q1690 dX7_isWord_1 (fun y1 hf => ?_)
  refine lv_iconst (pc := 4) (v := 1) hx hb dX7_isWord_4 rfl ?_
  refine lv_icmp_ne (pc := 5) (tgt := 21) hx hb dX7_isWord_5 (by decide) (fun hc => ?_) (fun hc => ?_)
  · have hf := jI_f hf hc
    exact wX7_isWord_21 cx e1 e2 a0 hth _ _ _ _ _ _ hf hS (lv_sub hl [0] rfl)
  · have hf := jI_t hf hc
    refine lv_aload_n (pc := 8) hx hb dX7_isWord_8 rfl (lv_at hl 0 rfl) ?_
    refine j_gL (pc := 9) cx hS hf fd_WornSkinModel_word q1691 dX7_isWord_9 (fun y2 hf => ?_)
    refine lv_lload_n (pc := 12) hx hb dX7_isWord_12 rfl (lv_at hl 1 rfl) ?_
    refine W.lcmp (pc := 13) hx hb dX7_isWord_13 ?_
    refine lv_if_ne (pc := 14) (tgt := 21) hx hb dX7_isWord_14 (by decide) (fun hc => ?_) (fun hc => ?_)
    · have hf := jI_f hf hc
      exact wX7_isWord_21 cx e1 e2 a0 hth _ _ _ _ _ _ hf hS (lv_sub hl [0] rfl)
    · have hf := jI_t hf hc
      refine lv_iconst (pc := 17) (v := 1) hx hb dX7_isWord_17 rfl ?_
      refine lv_goto (pc := 18) (tgt := 22) hx hb dX7_isWord_18 (by decide) ?_
      exact wX7_isWord_22 cx e1 e2 a0 hth _ _ _ _ _ _ _ hf hS (lv_sub hl [0] rfl)
theorem metX7_isWord (l : Launch) (a0 : Nat) (x1 : Int64) (h h' : jH) (r : Int32) (hth : jcd h a0 = some 7) (hf : (fX7_isWord a0 x1).1 h = some (r, h')) : jMet l yX7_isWord (ws_ yX7_isWord cX7_isWord 3 (Option.some Jvm.ClassFile.FieldType.boolean)) (0) (0) [.ref a0, .long x1] h h' (.returned (some (.int r))) := by
  refine jStart rfl (jle hf) (Nat.le_of_ble_eq_true rfl) ?_
  intro p e s m below meth c D dA H0 mc ms ls cx hnm e1 e2 hS hl
  have hth := jTh.mk hS hth
  exact wX7_isWord_0 cx e1 e2 a0 hth _ _ _ _ _ _ _ hf hS hl
def fX7_fails (a0 : Nat) (x1 : Int32) : jM Int32 := jB (jgI [7] 5 (some a0)) fun y1 => jB (jpI [7] 9 (some a0) (x1 + (16 * y1))) fun _ => jRn .boolean 0
theorem wX7_fails_0 {r : Int32} (cx : jCx p s m args meth c cX7_fails "WornSkinModel" 2 (Option.some Jvm.ClassFile.FieldType.boolean) D dA H0 hs.2.2.2.2) (e1 : h'.2.2.1 = hs.2.2.1 + mc) (e2 : h'.2.2.2.1 = hs.2.2.2.1 + ms) (a0 : Nat) (hth : jTh hs a0 7) : ∀ (x1 : Int32), ∀ (h : jH) (H : Heap) (locs : List Loc) (cells slots : Nat) (ls : Array Slot), (fX7_fails a0 x1).1 h = some (r, h') → jS D dA H0 hs h H locs cells slots → lv_has ls 2 [(0, .ref a0), (1, .int x1)] → W p l e { frames := 0, cells := mc, slots := ms, locals := 0 } s m args below meth c H locs cells slots (jQ D dA H0 below s (.returned (some (.int r))) h' mc ms) (F0 m 0 ls []) := by
  have hx := cx.1
  have hb := cx.2.1
  have hown := cx.2.2.2.1
  have hts := cx.2.2.2.2.1
  have hm : h'.2.2.1 ≤ hs.2.2.1 + mc ∧ h'.2.2.2.1 ≤ hs.2.2.2.1 + ms := ⟨Nat.le_of_eq e1, Nat.le_of_eq e2⟩
  intro x1 h H locs cells slots ls hf hS hl
  unfold fX7_fails at hf
  refine lv_aload_n (pc := 0) hx hb dX7_fails_0 rfl (lv_at hl 0 rfl) ?_
  refine lv_iload_n (pc := 1) hx hb dX7_fails_1 rfl (lv_at hl 1 rfl) ?_
  refine lv_bipush (pc := 2) (v := 16) hx hb dX7_fails_2 rfl ?_
  refine lv_aload_n (pc := 4) hx hb dX7_fails_4 rfl (lv_at hl 0 rfl) ?_
  refine j_gI (pc := 5) cx hS hf fd_WornSkinModel_begin q1689 dX7_fails_5 (fun y1 hf => ?_)
  refine lv_imul (pc := 8) hx hb dX7_fails_8 ?_
  refine lv_iadd (pc := 9) hx hb dX7_fails_9 ?_
  refine j_pI (pc := 10) cx hS hf fp_WornSkinModel_wrong (Or.inl rfl) q1693 dX7_fails_10 (fun h H locs hf hS => ?_)
  refine lv_iconst (pc := 13) (v := 0) hx hb dX7_fails_13 rfl ?_
  exact j_zret (pc := 14) cx (Or.inl rfl) hS hf e1 e2 dX7_fails_14
theorem metX7_fails (l : Launch) (a0 : Nat) (x1 : Int32) (h h' : jH) (r : Int32) (hth : jcd h a0 = some 7) (hf : (fX7_fails a0 x1).1 h = some (r, h')) : jMet l yX7_fails (ws_ yX7_fails cX7_fails 2 (Option.some Jvm.ClassFile.FieldType.boolean)) (0) (0) [.ref a0, .int x1] h h' (.returned (some (.int r))) := by
  refine jStart rfl (jle hf) (Nat.le_of_ble_eq_true rfl) ?_
  intro p e s m below meth c D dA H0 mc ms ls cx hnm e1 e2 hS hl
  have hth := jTh.mk hS hth
  exact wX7_fails_0 cx e1 e2 a0 hth _ _ _ _ _ _ _ hf hS hl
def fX7_isKept_235 (a0 : Nat) (v0 : Int32) : jM Int32 := jRn .boolean v0
def fX7_isKept_230 (a0 : Nat) : jM Int32 := fX7_isKept_235 a0 1
def fX7_isKept (a0 : Nat) : jM Int32 := jB (jgI [7] 6 (some a0)) fun y1 => if y1 = 1 then (jB (jgL [7] 7 (some a0)) fun y2 => if (lg_cmp y2 382253) = 0 then (fX7_isKept_230 a0) else (jB (jgL [7] 7 (some a0)) fun y3 => if (lg_cmp y3 6564799) = 0 then (fX7_isKept_230 a0) else (jB (jgL [7] 7 (some a0)) fun y4 => if (lg_cmp y4 10792937) = 0 then (fX7_isKept_230 a0) else (jB (jgL [7] 7 (some a0)) fun y5 => if (lg_cmp y5 168728) = 0 then (fX7_isKept_230 a0) else (jB (jgL [7] 7 (some a0)) fun y6 => if (lg_cmp y6 397973) = 0 then (fX7_isKept_230 a0) else (jB (jgL [7] 7 (some a0)) fun y7 => if (lg_cmp y7 79828) = 0 then (fX7_isKept_230 a0) else (jB (jgL [7] 7 (some a0)) fun y8 => if (lg_cmp y8 10266418) = 0 then (fX7_isKept_230 a0) else (jB (jgL [7] 7 (some a0)) fun y9 => if (lg_cmp y9 12584543) = 0 then (fX7_isKept_230 a0) else (jB (jgL [7] 7 (some a0)) fun y10 => if (lg_cmp y10 274579016) = 0 then (fX7_isKept_230 a0) else (jB (jgL [7] 7 (some a0)) fun y11 => if (lg_cmp y11 10793335) = 0 then (fX7_isKept_230 a0) else (jB (jgL [7] 7 (some a0)) fun y12 => if (lg_cmp y12 456500) = 0 then (fX7_isKept_230 a0) else (jB (jgL [7] 7 (some a0)) fun y13 => if (lg_cmp y13 138846) = 0 then (fX7_isKept_230 a0) else (jB (jgL [7] 7 (some a0)) fun y14 => if (lg_cmp y14 385337) = 0 then (fX7_isKept_230 a0) else (jB (jgL [7] 7 (some a0)) fun y15 => if (lg_cmp y15 1277953191) = 0 then (fX7_isKept_230 a0) else (jB (jgL [7] 7 (some a0)) fun y16 => if (lg_cmp y16 8878099) = 0 then (fX7_isKept_230 a0) else (jB (jgL [7] 7 (some a0)) fun y17 => if (lg_cmp y17 261003578) = 0 then (fX7_isKept_230 a0) else (jB (jgL [7] 7 (some a0)) fun y18 => if (lg_cmp y18 296522) = 0 then (fX7_isKept_230 a0) else (jB (jgL [7] 7 (some a0)) fun y19 => if (lg_cmp y19 10631) = 0 then (fX7_isKept_230 a0) else (jB (jgL [7] 7 (some a0)) fun y20 => if (lg_cmp y20 1111) = 0 then (fX7_isKept_230 a0) else (jB (jgL [7] 7 (some a0)) fun y21 => if (lg_cmp y21 423) = 0 then (fX7_isKept_230 a0) else (fX7_isKept_235 a0 0))))))))))))))))))))) else (jRn .boolean 1)
theorem wX7_isKept_235 {r : Int32} (cx : jCx p s m args meth c cX7_isKept "WornSkinModel" 1 (Option.some Jvm.ClassFile.FieldType.boolean) D dA H0 hs.2.2.2.2) (e1 : h'.2.2.1 = hs.2.2.1 + mc) (e2 : h'.2.2.2.1 = hs.2.2.2.1 + ms) (a0 : Nat) (hth : jTh hs a0 7) : ∀ (v0 : Int32), ∀ (h : jH) (H : Heap) (locs : List Loc) (cells slots : Nat) (ls : Array Slot), (fX7_isKept_235 a0 v0).1 h = some (r, h') → jS D dA H0 hs h H locs cells slots → lv_has ls 1 [(0, .ref a0)] → W p l e { frames := 0, cells := mc, slots := ms, locals := 0 } s m args below meth c H locs cells slots (jQ D dA H0 below s (.returned (some (.int r))) h' mc ms) (F0 m 235 ls [.int v0]) := by
  have hx := cx.1
  have hb := cx.2.1
  have hown := cx.2.2.2.1
  have hts := cx.2.2.2.2.1
  have hm : h'.2.2.1 ≤ hs.2.2.1 + mc ∧ h'.2.2.2.1 ≤ hs.2.2.2.1 + ms := ⟨Nat.le_of_eq e1, Nat.le_of_eq e2⟩
  intro v0 h H locs cells slots ls hf hS hl
  unfold fX7_isKept_235 at hf
  exact j_zret (pc := 235) cx (Or.inl rfl) hS hf e1 e2 dX7_isKept_235
theorem wX7_isKept_230 {r : Int32} (cx : jCx p s m args meth c cX7_isKept "WornSkinModel" 1 (Option.some Jvm.ClassFile.FieldType.boolean) D dA H0 hs.2.2.2.2) (e1 : h'.2.2.1 = hs.2.2.1 + mc) (e2 : h'.2.2.2.1 = hs.2.2.2.1 + ms) (a0 : Nat) (hth : jTh hs a0 7) : ∀ (h : jH) (H : Heap) (locs : List Loc) (cells slots : Nat) (ls : Array Slot), (fX7_isKept_230 a0).1 h = some (r, h') → jS D dA H0 hs h H locs cells slots → lv_has ls 1 [(0, .ref a0)] → W p l e { frames := 0, cells := mc, slots := ms, locals := 0 } s m args below meth c H locs cells slots (jQ D dA H0 below s (.returned (some (.int r))) h' mc ms) (F0 m 230 ls []) := by
  have hx := cx.1
  have hb := cx.2.1
  have hown := cx.2.2.2.1
  have hts := cx.2.2.2.2.1
  have hm : h'.2.2.1 ≤ hs.2.2.1 + mc ∧ h'.2.2.2.1 ≤ hs.2.2.2.1 + ms := ⟨Nat.le_of_eq e1, Nat.le_of_eq e2⟩
  intro h H locs cells slots ls hf hS hl
  unfold fX7_isKept_230 at hf
  refine lv_iconst (pc := 230) (v := 1) hx hb dX7_isKept_230 rfl ?_
  refine lv_goto (pc := 231) (tgt := 235) hx hb dX7_isKept_231 (by decide) ?_
  exact wX7_isKept_235 cx e1 e2 a0 hth _ _ _ _ _ _ _ hf hS hl
theorem wX7_isKept_0 {r : Int32} (cx : jCx p s m args meth c cX7_isKept "WornSkinModel" 1 (Option.some Jvm.ClassFile.FieldType.boolean) D dA H0 hs.2.2.2.2) (e1 : h'.2.2.1 = hs.2.2.1 + mc) (e2 : h'.2.2.2.1 = hs.2.2.2.1 + ms) (a0 : Nat) (hth : jTh hs a0 7) : ∀ (h : jH) (H : Heap) (locs : List Loc) (cells slots : Nat) (ls : Array Slot), (fX7_isKept a0).1 h = some (r, h') → jS D dA H0 hs h H locs cells slots → lv_has ls 1 [(0, .ref a0)] → W p l e { frames := 0, cells := mc, slots := ms, locals := 0 } s m args below meth c H locs cells slots (jQ D dA H0 below s (.returned (some (.int r))) h' mc ms) (F0 m 0 ls []) := by
  have hx := cx.1
  have hb := cx.2.1
  have hown := cx.2.2.2.1
  have hts := cx.2.2.2.2.1
  have hm : h'.2.2.1 ≤ hs.2.2.1 + mc ∧ h'.2.2.2.1 ≤ hs.2.2.2.1 + ms := ⟨Nat.le_of_eq e1, Nat.le_of_eq e2⟩
  intro h H locs cells slots ls hf hS hl
  unfold fX7_isKept at hf
  refine lv_aload_n (pc := 0) hx hb dX7_isKept_0 rfl (lv_at hl 0 rfl) ?_
  refine j_gI (pc := 1) cx hS hf fd_WornSkinModel_token q1690 dX7_isKept_1 (fun y1 hf => ?_)
  refine lv_iconst (pc := 4) (v := 1) hx hb dX7_isKept_4 rfl ?_
  refine lv_icmp_eq (pc := 5) (tgt := 10) hx hb dX7_isKept_5 (by decide) (fun hc => ?_) (fun hc => ?_)
  · have hf := jI_t hf hc
    refine lv_aload_n (pc := 10) hx hb dX7_isKept_10 rfl (lv_at hl 0 rfl) ?_
    refine j_gL (pc := 11) cx hS hf fd_WornSkinModel_word q1691 dX7_isKept_11 (fun y2 hf => ?_)
    refine lv_ldc2 (pc := 14) (v := 382253) hx hb hown (hts _ q1894) dX7_isKept_14 ?_
    refine W.lcmp (pc := 17) hx hb dX7_isKept_17 ?_
    refine lv_if_eq (pc := 18) (tgt := 230) hx hb dX7_isKept_18 (by decide) (fun hc => ?_) (fun hc => ?_)
    · have hf := jI_t hf hc
      exact wX7_isKept_230 cx e1 e2 a0 hth _ _ _ _ _ _ hf hS hl
    · have hf := jI_f hf hc
      refine lv_aload_n (pc := 21) hx hb dX7_isKept_21 rfl (lv_at hl 0 rfl) ?_
      refine j_gL (pc := 22) cx hS hf fd_WornSkinModel_word q1691 dX7_isKept_22 (fun y3 hf => ?_)
      refine lv_ldc2 (pc := 25) (v := 6564799) hx hb hown (hts _ q1915) dX7_isKept_25 ?_
      refine W.lcmp (pc := 28) hx hb dX7_isKept_28 ?_
      refine lv_if_eq (pc := 29) (tgt := 230) hx hb dX7_isKept_29 (by decide) (fun hc => ?_) (fun hc => ?_)
      · have hf := jI_t hf hc
        exact wX7_isKept_230 cx e1 e2 a0 hth _ _ _ _ _ _ hf hS hl
      · have hf := jI_f hf hc
        refine lv_aload_n (pc := 32) hx hb dX7_isKept_32 rfl (lv_at hl 0 rfl) ?_
        refine j_gL (pc := 33) cx hS hf fd_WornSkinModel_word q1691 dX7_isKept_33 (fun y4 hf => ?_)
        refine lv_ldc2 (pc := 36) (v := 10792937) hx hb hown (hts _ q1916) dX7_isKept_36 ?_
        refine W.lcmp (pc := 39) hx hb dX7_isKept_39 ?_
        refine lv_if_eq (pc := 40) (tgt := 230) hx hb dX7_isKept_40 (by decide) (fun hc => ?_) (fun hc => ?_)
        · have hf := jI_t hf hc
          exact wX7_isKept_230 cx e1 e2 a0 hth _ _ _ _ _ _ hf hS hl
        · have hf := jI_f hf hc
          refine lv_aload_n (pc := 43) hx hb dX7_isKept_43 rfl (lv_at hl 0 rfl) ?_
          refine j_gL (pc := 44) cx hS hf fd_WornSkinModel_word q1691 dX7_isKept_44 (fun y5 hf => ?_)
          refine lv_ldc2 (pc := 47) (v := 168728) hx hb hown (hts _ q1917) dX7_isKept_47 ?_
          refine W.lcmp (pc := 50) hx hb dX7_isKept_50 ?_
          refine lv_if_eq (pc := 51) (tgt := 230) hx hb dX7_isKept_51 (by decide) (fun hc => ?_) (fun hc => ?_)
          · have hf := jI_t hf hc
            exact wX7_isKept_230 cx e1 e2 a0 hth _ _ _ _ _ _ hf hS hl
          · have hf := jI_f hf hc
            refine lv_aload_n (pc := 54) hx hb dX7_isKept_54 rfl (lv_at hl 0 rfl) ?_
            refine j_gL (pc := 55) cx hS hf fd_WornSkinModel_word q1691 dX7_isKept_55 (fun y6 hf => ?_)
            refine lv_ldc2 (pc := 58) (v := 397973) hx hb hown (hts _ q1918) dX7_isKept_58 ?_
            refine W.lcmp (pc := 61) hx hb dX7_isKept_61 ?_
            refine lv_if_eq (pc := 62) (tgt := 230) hx hb dX7_isKept_62 (by decide) (fun hc => ?_) (fun hc => ?_)
            · have hf := jI_t hf hc
              exact wX7_isKept_230 cx e1 e2 a0 hth _ _ _ _ _ _ hf hS hl
            · have hf := jI_f hf hc
              refine lv_aload_n (pc := 65) hx hb dX7_isKept_65 rfl (lv_at hl 0 rfl) ?_
              refine j_gL (pc := 66) cx hS hf fd_WornSkinModel_word q1691 dX7_isKept_66 (fun y7 hf => ?_)
              refine lv_ldc2 (pc := 69) (v := 79828) hx hb hown (hts _ q1919) dX7_isKept_69 ?_
              refine W.lcmp (pc := 72) hx hb dX7_isKept_72 ?_
              refine lv_if_eq (pc := 73) (tgt := 230) hx hb dX7_isKept_73 (by decide) (fun hc => ?_) (fun hc => ?_)
              · have hf := jI_t hf hc
                exact wX7_isKept_230 cx e1 e2 a0 hth _ _ _ _ _ _ hf hS hl
              · have hf := jI_f hf hc
                refine lv_aload_n (pc := 76) hx hb dX7_isKept_76 rfl (lv_at hl 0 rfl) ?_
                refine j_gL (pc := 77) cx hS hf fd_WornSkinModel_word q1691 dX7_isKept_77 (fun y8 hf => ?_)
                refine lv_ldc2 (pc := 80) (v := 10266418) hx hb hown (hts _ q1920) dX7_isKept_80 ?_
                refine W.lcmp (pc := 83) hx hb dX7_isKept_83 ?_
                refine lv_if_eq (pc := 84) (tgt := 230) hx hb dX7_isKept_84 (by decide) (fun hc => ?_) (fun hc => ?_)
                · have hf := jI_t hf hc
                  exact wX7_isKept_230 cx e1 e2 a0 hth _ _ _ _ _ _ hf hS hl
                · have hf := jI_f hf hc
                  refine lv_aload_n (pc := 87) hx hb dX7_isKept_87 rfl (lv_at hl 0 rfl) ?_
                  refine j_gL (pc := 88) cx hS hf fd_WornSkinModel_word q1691 dX7_isKept_88 (fun y9 hf => ?_)
                  refine lv_ldc2 (pc := 91) (v := 12584543) hx hb hown (hts _ q1921) dX7_isKept_91 ?_
                  refine W.lcmp (pc := 94) hx hb dX7_isKept_94 ?_
                  refine lv_if_eq (pc := 95) (tgt := 230) hx hb dX7_isKept_95 (by decide) (fun hc => ?_) (fun hc => ?_)
                  · have hf := jI_t hf hc
                    exact wX7_isKept_230 cx e1 e2 a0 hth _ _ _ _ _ _ hf hS hl
                  · have hf := jI_f hf hc
                    refine lv_aload_n (pc := 98) hx hb dX7_isKept_98 rfl (lv_at hl 0 rfl) ?_
                    refine j_gL (pc := 99) cx hS hf fd_WornSkinModel_word q1691 dX7_isKept_99 (fun y10 hf => ?_)
                    refine lv_ldc2 (pc := 102) (v := 274579016) hx hb hown (hts _ q1922) dX7_isKept_102 ?_
                    refine W.lcmp (pc := 105) hx hb dX7_isKept_105 ?_
                    refine lv_if_eq (pc := 106) (tgt := 230) hx hb dX7_isKept_106 (by decide) (fun hc => ?_) (fun hc => ?_)
                    · have hf := jI_t hf hc
                      exact wX7_isKept_230 cx e1 e2 a0 hth _ _ _ _ _ _ hf hS hl
                    · have hf := jI_f hf hc
                      refine lv_aload_n (pc := 109) hx hb dX7_isKept_109 rfl (lv_at hl 0 rfl) ?_
                      refine j_gL (pc := 110) cx hS hf fd_WornSkinModel_word q1691 dX7_isKept_110 (fun y11 hf => ?_)
                      refine lv_ldc2 (pc := 113) (v := 10793335) hx hb hown (hts _ q1923) dX7_isKept_113 ?_
                      refine W.lcmp (pc := 116) hx hb dX7_isKept_116 ?_
                      refine lv_if_eq (pc := 117) (tgt := 230) hx hb dX7_isKept_117 (by decide) (fun hc => ?_) (fun hc => ?_)
                      · have hf := jI_t hf hc
                        exact wX7_isKept_230 cx e1 e2 a0 hth _ _ _ _ _ _ hf hS hl
                      · have hf := jI_f hf hc
                        refine lv_aload_n (pc := 120) hx hb dX7_isKept_120 rfl (lv_at hl 0 rfl) ?_
                        refine j_gL (pc := 121) cx hS hf fd_WornSkinModel_word q1691 dX7_isKept_121 (fun y12 hf => ?_)
                        refine lv_ldc2 (pc := 124) (v := 456500) hx hb hown (hts _ q1924) dX7_isKept_124 ?_
                        refine W.lcmp (pc := 127) hx hb dX7_isKept_127 ?_
                        refine lv_if_eq (pc := 128) (tgt := 230) hx hb dX7_isKept_128 (by decide) (fun hc => ?_) (fun hc => ?_)
                        · have hf := jI_t hf hc
                          exact wX7_isKept_230 cx e1 e2 a0 hth _ _ _ _ _ _ hf hS hl
                        · have hf := jI_f hf hc
                          refine lv_aload_n (pc := 131) hx hb dX7_isKept_131 rfl (lv_at hl 0 rfl) ?_
                          refine j_gL (pc := 132) cx hS hf fd_WornSkinModel_word q1691 dX7_isKept_132 (fun y13 hf => ?_)
                          refine lv_ldc2 (pc := 135) (v := 138846) hx hb hown (hts _ q1925) dX7_isKept_135 ?_
                          refine W.lcmp (pc := 138) hx hb dX7_isKept_138 ?_
                          refine lv_if_eq (pc := 139) (tgt := 230) hx hb dX7_isKept_139 (by decide) (fun hc => ?_) (fun hc => ?_)
                          · have hf := jI_t hf hc
                            exact wX7_isKept_230 cx e1 e2 a0 hth _ _ _ _ _ _ hf hS hl
                          · have hf := jI_f hf hc
                            refine lv_aload_n (pc := 142) hx hb dX7_isKept_142 rfl (lv_at hl 0 rfl) ?_
                            refine j_gL (pc := 143) cx hS hf fd_WornSkinModel_word q1691 dX7_isKept_143 (fun y14 hf => ?_)
                            refine lv_ldc2 (pc := 146) (v := 385337) hx hb hown (hts _ q1926) dX7_isKept_146 ?_
                            refine W.lcmp (pc := 149) hx hb dX7_isKept_149 ?_
                            refine lv_if_eq (pc := 150) (tgt := 230) hx hb dX7_isKept_150 (by decide) (fun hc => ?_) (fun hc => ?_)
                            · have hf := jI_t hf hc
                              exact wX7_isKept_230 cx e1 e2 a0 hth _ _ _ _ _ _ hf hS hl
                            · have hf := jI_f hf hc
                              refine lv_aload_n (pc := 153) hx hb dX7_isKept_153 rfl (lv_at hl 0 rfl) ?_
                              refine j_gL (pc := 154) cx hS hf fd_WornSkinModel_word q1691 dX7_isKept_154 (fun y15 hf => ?_)
                              refine lv_ldc2 (pc := 157) (v := 1277953191) hx hb hown (hts _ q1927) dX7_isKept_157 ?_
                              refine W.lcmp (pc := 160) hx hb dX7_isKept_160 ?_
                              refine lv_if_eq (pc := 161) (tgt := 230) hx hb dX7_isKept_161 (by decide) (fun hc => ?_) (fun hc => ?_)
                              · have hf := jI_t hf hc
                                exact wX7_isKept_230 cx e1 e2 a0 hth _ _ _ _ _ _ hf hS hl
                              · have hf := jI_f hf hc
                                refine lv_aload_n (pc := 164) hx hb dX7_isKept_164 rfl (lv_at hl 0 rfl) ?_
                                refine j_gL (pc := 165) cx hS hf fd_WornSkinModel_word q1691 dX7_isKept_165 (fun y16 hf => ?_)
                                refine lv_ldc2 (pc := 168) (v := 8878099) hx hb hown (hts _ q1928) dX7_isKept_168 ?_
                                refine W.lcmp (pc := 171) hx hb dX7_isKept_171 ?_
                                refine lv_if_eq (pc := 172) (tgt := 230) hx hb dX7_isKept_172 (by decide) (fun hc => ?_) (fun hc => ?_)
                                · have hf := jI_t hf hc
                                  exact wX7_isKept_230 cx e1 e2 a0 hth _ _ _ _ _ _ hf hS hl
                                · have hf := jI_f hf hc
                                  refine lv_aload_n (pc := 175) hx hb dX7_isKept_175 rfl (lv_at hl 0 rfl) ?_
                                  refine j_gL (pc := 176) cx hS hf fd_WornSkinModel_word q1691 dX7_isKept_176 (fun y17 hf => ?_)
                                  refine lv_ldc2 (pc := 179) (v := 261003578) hx hb hown (hts _ q1929) dX7_isKept_179 ?_
                                  refine W.lcmp (pc := 182) hx hb dX7_isKept_182 ?_
                                  refine lv_if_eq (pc := 183) (tgt := 230) hx hb dX7_isKept_183 (by decide) (fun hc => ?_) (fun hc => ?_)
                                  · have hf := jI_t hf hc
                                    exact wX7_isKept_230 cx e1 e2 a0 hth _ _ _ _ _ _ hf hS hl
                                  · have hf := jI_f hf hc
                                    refine lv_aload_n (pc := 186) hx hb dX7_isKept_186 rfl (lv_at hl 0 rfl) ?_
                                    refine j_gL (pc := 187) cx hS hf fd_WornSkinModel_word q1691 dX7_isKept_187 (fun y18 hf => ?_)
                                    refine lv_ldc2 (pc := 190) (v := 296522) hx hb hown (hts _ q1930) dX7_isKept_190 ?_
                                    refine W.lcmp (pc := 193) hx hb dX7_isKept_193 ?_
                                    refine lv_if_eq (pc := 194) (tgt := 230) hx hb dX7_isKept_194 (by decide) (fun hc => ?_) (fun hc => ?_)
                                    · have hf := jI_t hf hc
                                      exact wX7_isKept_230 cx e1 e2 a0 hth _ _ _ _ _ _ hf hS hl
                                    · have hf := jI_f hf hc
                                      refine lv_aload_n (pc := 197) hx hb dX7_isKept_197 rfl (lv_at hl 0 rfl) ?_
                                      refine j_gL (pc := 198) cx hS hf fd_WornSkinModel_word q1691 dX7_isKept_198 (fun y19 hf => ?_)
                                      refine lv_ldc2 (pc := 201) (v := 10631) hx hb hown (hts _ q1931) dX7_isKept_201 ?_
                                      refine W.lcmp (pc := 204) hx hb dX7_isKept_204 ?_
                                      refine lv_if_eq (pc := 205) (tgt := 230) hx hb dX7_isKept_205 (by decide) (fun hc => ?_) (fun hc => ?_)
                                      · have hf := jI_t hf hc
                                        exact wX7_isKept_230 cx e1 e2 a0 hth _ _ _ _ _ _ hf hS hl
                                      · have hf := jI_f hf hc
                                        refine lv_aload_n (pc := 208) hx hb dX7_isKept_208 rfl (lv_at hl 0 rfl) ?_
                                        refine j_gL (pc := 209) cx hS hf fd_WornSkinModel_word q1691 dX7_isKept_209 (fun y20 hf => ?_)
                                        refine lv_ldc2 (pc := 212) (v := 1111) hx hb hown (hts _ q1932) dX7_isKept_212 ?_
                                        refine W.lcmp (pc := 215) hx hb dX7_isKept_215 ?_
                                        refine lv_if_eq (pc := 216) (tgt := 230) hx hb dX7_isKept_216 (by decide) (fun hc => ?_) (fun hc => ?_)
                                        · have hf := jI_t hf hc
                                          exact wX7_isKept_230 cx e1 e2 a0 hth _ _ _ _ _ _ hf hS hl
                                        · have hf := jI_f hf hc
                                          refine lv_aload_n (pc := 219) hx hb dX7_isKept_219 rfl (lv_at hl 0 rfl) ?_
                                          refine j_gL (pc := 220) cx hS hf fd_WornSkinModel_word q1691 dX7_isKept_220 (fun y21 hf => ?_)
                                          refine lv_ldc2 (pc := 223) (v := 423) hx hb hown (hts _ q1933) dX7_isKept_223 ?_
                                          refine W.lcmp (pc := 226) hx hb dX7_isKept_226 ?_
                                          refine lv_if_ne (pc := 227) (tgt := 234) hx hb dX7_isKept_227 (by decide) (fun hc => ?_) (fun hc => ?_)
                                          · have hf := jI_f hf hc
                                            refine lv_iconst (pc := 234) (v := 0) hx hb dX7_isKept_234 rfl ?_
                                            exact wX7_isKept_235 cx e1 e2 a0 hth _ _ _ _ _ _ _ hf hS hl
                                          · have hf := jI_t hf hc
                                            exact wX7_isKept_230 cx e1 e2 a0 hth _ _ _ _ _ _ hf hS hl
  · have hf := jI_f hf hc
    refine lv_iconst (pc := 8) (v := 1) hx hb dX7_isKept_8 rfl ?_
    exact j_zret (pc := 9) cx (Or.inl rfl) hS hf e1 e2 dX7_isKept_9
theorem metX7_isKept (l : Launch) (a0 : Nat) (h h' : jH) (r : Int32) (hth : jcd h a0 = some 7) (hf : (fX7_isKept a0).1 h = some (r, h')) : jMet l yX7_isKept (ws_ yX7_isKept cX7_isKept 1 (Option.some Jvm.ClassFile.FieldType.boolean)) (0) (0) [.ref a0] h h' (.returned (some (.int r))) := by
  refine jStart rfl (jle hf) (Nat.le_of_ble_eq_true rfl) ?_
  intro p e s m below meth c D dA H0 mc ms ls cx hnm e1 e2 hS hl
  have hth := jTh.mk hS hth
  exact wX7_isKept_0 cx e1 e2 a0 hth  _ _ _ _ _ _ hf hS hl
def fX7_skinNamed_48 (N : Nat) (a0 : Nat) : jM Int32 := jR (-1)
def fX7_skinNamed_36 (N : Nat) (a0 : Nat) (x1 : Int32) (x2 : Int32) : jM Int32 := jR (x2 - (3 * x1))
def fX7_skinNamed_4 (N : Nat) (a0 : Nat) : Nat → Int32 → Int32 → jM Int32
  | 0, _, _ => jE
  | n + 1, x1, x2 => jB (jgR [7] 10 (some a0)) fun y1 => jB (jaI 0 y1 ((3 * x1) + 0)) fun y2 => if ((3 * x1) + y2) ≤ x2 then (fX7_skinNamed_48 N a0) else (jB (jgR [7] 11 (some a0)) fun y3 => jB (jaL 1 y3 x2) fun y4 => jB (jgL [7] 7 (some a0)) fun y5 => if (lg_cmp y4 y5) = 0 then (fX7_skinNamed_36 N a0 x1 x2) else (fX7_skinNamed_4 N a0 n x1 (x2 + 1)))
def fX7_skinNamed (N : Nat) (a0 : Nat) (x1 : Int32) : jM Int32 := fX7_skinNamed_4 N a0 N x1 (3 * x1)
theorem wX7_skinNamed_48 {N : Nat} {r : Int32} (cx : jCx p s m args meth c cX7_skinNamed "WornSkinModel" 3 (Option.some Jvm.ClassFile.FieldType.int) D dA H0 hs.2.2.2.2) (e1 : h'.2.2.1 = hs.2.2.1 + mc) (e2 : h'.2.2.2.1 = hs.2.2.2.1 + ms) (a0 : Nat) (hth : jTh hs a0 7) : ∀ (h : jH) (H : Heap) (locs : List Loc) (cells slots : Nat) (ls : Array Slot), (fX7_skinNamed_48 N a0).1 h = some (r, h') → jS D dA H0 hs h H locs cells slots → lv_has ls 3 [(0, .ref a0)] → W p l e { frames := 0, cells := mc, slots := ms, locals := 0 } s m args below meth c H locs cells slots (jQ D dA H0 below s (.returned (some (.int r))) h' mc ms) (F0 m 48 ls []) := by
  have hx := cx.1
  have hb := cx.2.1
  have hown := cx.2.2.2.1
  have hts := cx.2.2.2.2.1
  have hm : h'.2.2.1 ≤ hs.2.2.1 + mc ∧ h'.2.2.2.1 ≤ hs.2.2.2.1 + ms := ⟨Nat.le_of_eq e1, Nat.le_of_eq e2⟩
  intro h H locs cells slots ls hf hS hl
  unfold fX7_skinNamed_48 at hf
  refine lv_iconst (pc := 48) (v := (-1)) hx hb dX7_skinNamed_48 rfl ?_
  exact j_iret (pc := 49) cx hS hf e1 e2 dX7_skinNamed_49
theorem wX7_skinNamed_36 {N : Nat} {r : Int32} (cx : jCx p s m args meth c cX7_skinNamed "WornSkinModel" 3 (Option.some Jvm.ClassFile.FieldType.int) D dA H0 hs.2.2.2.2) (e1 : h'.2.2.1 = hs.2.2.1 + mc) (e2 : h'.2.2.2.1 = hs.2.2.2.1 + ms) (a0 : Nat) (hth : jTh hs a0 7) : ∀ (x1 : Int32) (x2 : Int32), ∀ (h : jH) (H : Heap) (locs : List Loc) (cells slots : Nat) (ls : Array Slot), (fX7_skinNamed_36 N a0 x1 x2).1 h = some (r, h') → jS D dA H0 hs h H locs cells slots → lv_has ls 3 [(0, .ref a0), (1, .int x1), (2, .int x2)] → W p l e { frames := 0, cells := mc, slots := ms, locals := 0 } s m args below meth c H locs cells slots (jQ D dA H0 below s (.returned (some (.int r))) h' mc ms) (F0 m 36 ls []) := by
  have hx := cx.1
  have hb := cx.2.1
  have hown := cx.2.2.2.1
  have hts := cx.2.2.2.2.1
  have hm : h'.2.2.1 ≤ hs.2.2.1 + mc ∧ h'.2.2.2.1 ≤ hs.2.2.2.1 + ms := ⟨Nat.le_of_eq e1, Nat.le_of_eq e2⟩
  intro x1 x2 h H locs cells slots ls hf hS hl
  unfold fX7_skinNamed_36 at hf
  refine lv_iload_n (pc := 36) hx hb dX7_skinNamed_36 rfl (lv_at hl 2 rfl) ?_
  refine lv_iconst (pc := 37) (v := 3) hx hb dX7_skinNamed_37 rfl ?_
  refine lv_iload_n (pc := 38) hx hb dX7_skinNamed_38 rfl (lv_at hl 1 rfl) ?_
  refine lv_imul (pc := 39) hx hb dX7_skinNamed_39 ?_
  refine lv_isub (pc := 40) hx hb dX7_skinNamed_40 ?_
  exact j_iret (pc := 41) cx hS hf e1 e2 dX7_skinNamed_41
theorem wX7_skinNamed_4 {N : Nat} {r : Int32} (cx : jCx p s m args meth c cX7_skinNamed "WornSkinModel" 3 (Option.some Jvm.ClassFile.FieldType.int) D dA H0 hs.2.2.2.2) (e1 : h'.2.2.1 = hs.2.2.1 + mc) (e2 : h'.2.2.2.1 = hs.2.2.2.1 + ms) (a0 : Nat) (hth : jTh hs a0 7) : ∀ (n : Nat) (x1 : Int32) (x2 : Int32), ∀ (h : jH) (H : Heap) (locs : List Loc) (cells slots : Nat) (ls : Array Slot), (fX7_skinNamed_4 N a0 n x1 x2).1 h = some (r, h') → jS D dA H0 hs h H locs cells slots → lv_has ls 3 [(0, .ref a0), (1, .int x1), (2, .int x2)] → W p l e { frames := 0, cells := mc, slots := ms, locals := 0 } s m args below meth c H locs cells slots (jQ D dA H0 below s (.returned (some (.int r))) h' mc ms) (F0 m 4 ls []) := by
  have hx := cx.1
  have hb := cx.2.1
  have hown := cx.2.2.2.1
  have hts := cx.2.2.2.2.1
  have hm : h'.2.2.1 ≤ hs.2.2.1 + mc ∧ h'.2.2.2.1 ≤ hs.2.2.2.1 + ms := ⟨Nat.le_of_eq e1, Nat.le_of_eq e2⟩
  intro n
  induction n with
  | zero =>
    intro x1 x2 h H locs cells slots ls hf hS hl
    exact jE_f hf
  | succ n ih =>
    intro x1 x2 h H locs cells slots ls hf hS hl
    unfold fX7_skinNamed_4 at hf
    refine lv_iload_n (pc := 4) hx hb dX7_skinNamed_4 rfl (lv_at hl 2 rfl) ?_
    refine lv_iconst (pc := 5) (v := 3) hx hb dX7_skinNamed_5 rfl ?_
    refine lv_iload_n (pc := 6) hx hb dX7_skinNamed_6 rfl (lv_at hl 1 rfl) ?_
    refine lv_imul (pc := 7) hx hb dX7_skinNamed_7 ?_
    refine lv_aload_n (pc := 8) hx hb dX7_skinNamed_8 rfl (lv_at hl 0 rfl) ?_
    refine j_gR (pc := 9) cx hS hf fd_WornSkinModel_library q1694 dX7_skinNamed_9 (fun y1 hf => ?_)
    refine lv_iconst (pc := 12) (v := 3) hx hb dX7_skinNamed_12 rfl ?_
    refine lv_iload_n (pc := 13) hx hb dX7_skinNamed_13 rfl (lv_at hl 1 rfl) ?_
    refine lv_imul (pc := 14) hx hb dX7_skinNamed_14 ?_
    refine lv_iconst (pc := 15) (v := 0) hx hb dX7_skinNamed_15 rfl ?_
    refine lv_iadd (pc := 16) hx hb dX7_skinNamed_16 ?_
    refine j_aI (pc := 17) cx hS hf rfl dX7_skinNamed_17 (fun y2 hf => ?_)
    refine lv_iadd (pc := 18) hx hb dX7_skinNamed_18 ?_
    refine lv_icmp_ge (pc := 19) (tgt := 48) hx hb dX7_skinNamed_19 (by decide) (fun hc => ?_) (fun hc => ?_)
    · have hf := jI_t hf hc
      exact wX7_skinNamed_48 cx e1 e2 a0 hth _ _ _ _ _ _ hf hS (lv_sub hl [0] rfl)
    · have hf := jI_f hf hc
      refine lv_aload_n (pc := 22) hx hb dX7_skinNamed_22 rfl (lv_at hl 0 rfl) ?_
      refine j_gR (pc := 23) cx hS hf fd_WornSkinModel_skinName q1695 dX7_skinNamed_23 (fun y3 hf => ?_)
      refine lv_iload_n (pc := 26) hx hb dX7_skinNamed_26 rfl (lv_at hl 2 rfl) ?_
      refine j_aL (pc := 27) cx hS hf rfl dX7_skinNamed_27 (fun y4 hf => ?_)
      refine lv_aload_n (pc := 28) hx hb dX7_skinNamed_28 rfl (lv_at hl 0 rfl) ?_
      refine j_gL (pc := 29) cx hS hf fd_WornSkinModel_word q1691 dX7_skinNamed_29 (fun y5 hf => ?_)
      refine W.lcmp (pc := 32) hx hb dX7_skinNamed_32 ?_
      refine lv_if_ne (pc := 33) (tgt := 42) hx hb dX7_skinNamed_33 (by decide) (fun hc => ?_) (fun hc => ?_)
      · have hf := jI_f hf hc
        refine lv_iinc (pc := 42) (v := (x2 + 1)) (lv' := [(2, .int (x2 + 1)), (0, .ref a0), (1, .int x1)]) hx hb dX7_skinNamed_42 hl (k := 2) rfl rfl (Nat.le_of_ble_eq_true rfl) rfl (fun ls hl => ?_)
        refine lv_goto (pc := 45) (tgt := 4) hx hb dX7_skinNamed_45 (by decide) ?_
        exact ih _ _ _ _ _ _ _ _ hf hS (lv_sub hl [1, 2, 0] rfl)
      · have hf := jI_t hf hc
        exact wX7_skinNamed_36 cx e1 e2 a0 hth _ _ _ _ _ _ _ _ hf hS hl
theorem wX7_skinNamed_0 {N : Nat} {r : Int32} (cx : jCx p s m args meth c cX7_skinNamed "WornSkinModel" 3 (Option.some Jvm.ClassFile.FieldType.int) D dA H0 hs.2.2.2.2) (e1 : h'.2.2.1 = hs.2.2.1 + mc) (e2 : h'.2.2.2.1 = hs.2.2.2.1 + ms) (a0 : Nat) (hth : jTh hs a0 7) : ∀ (x1 : Int32), ∀ (h : jH) (H : Heap) (locs : List Loc) (cells slots : Nat) (ls : Array Slot), (fX7_skinNamed N a0 x1).1 h = some (r, h') → jS D dA H0 hs h H locs cells slots → lv_has ls 3 [(0, .ref a0), (1, .int x1)] → W p l e { frames := 0, cells := mc, slots := ms, locals := 0 } s m args below meth c H locs cells slots (jQ D dA H0 below s (.returned (some (.int r))) h' mc ms) (F0 m 0 ls []) := by
  have hx := cx.1
  have hb := cx.2.1
  have hown := cx.2.2.2.1
  have hts := cx.2.2.2.2.1
  have hm : h'.2.2.1 ≤ hs.2.2.1 + mc ∧ h'.2.2.2.1 ≤ hs.2.2.2.1 + ms := ⟨Nat.le_of_eq e1, Nat.le_of_eq e2⟩
  intro x1 h H locs cells slots ls hf hS hl
  unfold fX7_skinNamed at hf
  refine lv_iconst (pc := 0) (v := 3) hx hb dX7_skinNamed_0 rfl ?_
  refine lv_iload_n (pc := 1) hx hb dX7_skinNamed_1 rfl (lv_at hl 1 rfl) ?_
  refine lv_imul (pc := 2) hx hb dX7_skinNamed_2 ?_
  refine lv_istore_n (pc := 3) (i := 2) (lv' := [(2, .int (3 * x1)), (0, .ref a0), (1, .int x1)]) hx hb dX7_skinNamed_3 rfl hl (Nat.le_of_ble_eq_true rfl) rfl (fun ls hl => ?_)
  exact wX7_skinNamed_4 cx e1 e2 a0 hth N _ _ _ _ _ _ _ _ hf hS (lv_sub hl [1, 2, 0] rfl)
theorem metX7_skinNamed (l : Launch) (N : Nat) (a0 : Nat) (x1 : Int32) (h h' : jH) (r : Int32) (hth : jcd h a0 = some 7) (hf : (fX7_skinNamed N a0 x1).1 h = some (r, h')) : jMet l yX7_skinNamed (ws_ yX7_skinNamed cX7_skinNamed 3 (Option.some Jvm.ClassFile.FieldType.int)) (0) (0) [.ref a0, .int x1] h h' (.returned (some (.int r))) := by
  refine jStart rfl (jle hf) (Nat.le_of_ble_eq_true rfl) ?_
  intro p e s m below meth c D dA H0 mc ms ls cx hnm e1 e2 hS hl
  have hth := jTh.mk hS hth
  exact wX7_skinNamed_0 cx e1 e2 a0 hth _ _ _ _ _ _ _ hf hS hl
def fX7_textNamed_51 (N : Nat) (a0 : Nat) : jM Int32 := jR (-1)
def fX7_textNamed_38 (N : Nat) (a0 : Nat) (x1 : Int32) (x2 : Int32) : jM Int32 := jR (x2 - (6 * x1))
def fX7_textNamed_5 (N : Nat) (a0 : Nat) : Nat → Int32 → Int32 → jM Int32
  | 0, _, _ => jE
  | n + 1, x1, x2 => jB (jgR [7] 10 (some a0)) fun y1 => jB (jaI 0 y1 ((3 * x1) + 1)) fun y2 => if ((6 * x1) + y2) ≤ x2 then (fX7_textNamed_51 N a0) else (jB (jgR [7] 12 (some a0)) fun y3 => jB (jaL 1 y3 x2) fun y4 => jB (jgL [7] 7 (some a0)) fun y5 => if (lg_cmp y4 y5) = 0 then (fX7_textNamed_38 N a0 x1 x2) else (fX7_textNamed_5 N a0 n x1 (x2 + 1)))
def fX7_textNamed (N : Nat) (a0 : Nat) (x1 : Int32) : jM Int32 := fX7_textNamed_5 N a0 N x1 (6 * x1)
theorem wX7_textNamed_51 {N : Nat} {r : Int32} (cx : jCx p s m args meth c cX7_textNamed "WornSkinModel" 3 (Option.some Jvm.ClassFile.FieldType.int) D dA H0 hs.2.2.2.2) (e1 : h'.2.2.1 = hs.2.2.1 + mc) (e2 : h'.2.2.2.1 = hs.2.2.2.1 + ms) (a0 : Nat) (hth : jTh hs a0 7) : ∀ (h : jH) (H : Heap) (locs : List Loc) (cells slots : Nat) (ls : Array Slot), (fX7_textNamed_51 N a0).1 h = some (r, h') → jS D dA H0 hs h H locs cells slots → lv_has ls 3 [(0, .ref a0)] → W p l e { frames := 0, cells := mc, slots := ms, locals := 0 } s m args below meth c H locs cells slots (jQ D dA H0 below s (.returned (some (.int r))) h' mc ms) (F0 m 51 ls []) := by
  have hx := cx.1
  have hb := cx.2.1
  have hown := cx.2.2.2.1
  have hts := cx.2.2.2.2.1
  have hm : h'.2.2.1 ≤ hs.2.2.1 + mc ∧ h'.2.2.2.1 ≤ hs.2.2.2.1 + ms := ⟨Nat.le_of_eq e1, Nat.le_of_eq e2⟩
  intro h H locs cells slots ls hf hS hl
  unfold fX7_textNamed_51 at hf
  refine lv_iconst (pc := 51) (v := (-1)) hx hb dX7_textNamed_51 rfl ?_
  exact j_iret (pc := 52) cx hS hf e1 e2 dX7_textNamed_52
theorem wX7_textNamed_38 {N : Nat} {r : Int32} (cx : jCx p s m args meth c cX7_textNamed "WornSkinModel" 3 (Option.some Jvm.ClassFile.FieldType.int) D dA H0 hs.2.2.2.2) (e1 : h'.2.2.1 = hs.2.2.1 + mc) (e2 : h'.2.2.2.1 = hs.2.2.2.1 + ms) (a0 : Nat) (hth : jTh hs a0 7) : ∀ (x1 : Int32) (x2 : Int32), ∀ (h : jH) (H : Heap) (locs : List Loc) (cells slots : Nat) (ls : Array Slot), (fX7_textNamed_38 N a0 x1 x2).1 h = some (r, h') → jS D dA H0 hs h H locs cells slots → lv_has ls 3 [(0, .ref a0), (1, .int x1), (2, .int x2)] → W p l e { frames := 0, cells := mc, slots := ms, locals := 0 } s m args below meth c H locs cells slots (jQ D dA H0 below s (.returned (some (.int r))) h' mc ms) (F0 m 38 ls []) := by
  have hx := cx.1
  have hb := cx.2.1
  have hown := cx.2.2.2.1
  have hts := cx.2.2.2.2.1
  have hm : h'.2.2.1 ≤ hs.2.2.1 + mc ∧ h'.2.2.2.1 ≤ hs.2.2.2.1 + ms := ⟨Nat.le_of_eq e1, Nat.le_of_eq e2⟩
  intro x1 x2 h H locs cells slots ls hf hS hl
  unfold fX7_textNamed_38 at hf
  refine lv_iload_n (pc := 38) hx hb dX7_textNamed_38 rfl (lv_at hl 2 rfl) ?_
  refine lv_bipush (pc := 39) (v := 6) hx hb dX7_textNamed_39 rfl ?_
  refine lv_iload_n (pc := 41) hx hb dX7_textNamed_41 rfl (lv_at hl 1 rfl) ?_
  refine lv_imul (pc := 42) hx hb dX7_textNamed_42 ?_
  refine lv_isub (pc := 43) hx hb dX7_textNamed_43 ?_
  exact j_iret (pc := 44) cx hS hf e1 e2 dX7_textNamed_44
theorem wX7_textNamed_5 {N : Nat} {r : Int32} (cx : jCx p s m args meth c cX7_textNamed "WornSkinModel" 3 (Option.some Jvm.ClassFile.FieldType.int) D dA H0 hs.2.2.2.2) (e1 : h'.2.2.1 = hs.2.2.1 + mc) (e2 : h'.2.2.2.1 = hs.2.2.2.1 + ms) (a0 : Nat) (hth : jTh hs a0 7) : ∀ (n : Nat) (x1 : Int32) (x2 : Int32), ∀ (h : jH) (H : Heap) (locs : List Loc) (cells slots : Nat) (ls : Array Slot), (fX7_textNamed_5 N a0 n x1 x2).1 h = some (r, h') → jS D dA H0 hs h H locs cells slots → lv_has ls 3 [(0, .ref a0), (1, .int x1), (2, .int x2)] → W p l e { frames := 0, cells := mc, slots := ms, locals := 0 } s m args below meth c H locs cells slots (jQ D dA H0 below s (.returned (some (.int r))) h' mc ms) (F0 m 5 ls []) := by
  have hx := cx.1
  have hb := cx.2.1
  have hown := cx.2.2.2.1
  have hts := cx.2.2.2.2.1
  have hm : h'.2.2.1 ≤ hs.2.2.1 + mc ∧ h'.2.2.2.1 ≤ hs.2.2.2.1 + ms := ⟨Nat.le_of_eq e1, Nat.le_of_eq e2⟩
  intro n
  induction n with
  | zero =>
    intro x1 x2 h H locs cells slots ls hf hS hl
    exact jE_f hf
  | succ n ih =>
    intro x1 x2 h H locs cells slots ls hf hS hl
    unfold fX7_textNamed_5 at hf
    refine lv_iload_n (pc := 5) hx hb dX7_textNamed_5 rfl (lv_at hl 2 rfl) ?_
    refine lv_bipush (pc := 6) (v := 6) hx hb dX7_textNamed_6 rfl ?_
    refine lv_iload_n (pc := 8) hx hb dX7_textNamed_8 rfl (lv_at hl 1 rfl) ?_
    refine lv_imul (pc := 9) hx hb dX7_textNamed_9 ?_
    refine lv_aload_n (pc := 10) hx hb dX7_textNamed_10 rfl (lv_at hl 0 rfl) ?_
    refine j_gR (pc := 11) cx hS hf fd_WornSkinModel_library q1694 dX7_textNamed_11 (fun y1 hf => ?_)
    refine lv_iconst (pc := 14) (v := 3) hx hb dX7_textNamed_14 rfl ?_
    refine lv_iload_n (pc := 15) hx hb dX7_textNamed_15 rfl (lv_at hl 1 rfl) ?_
    refine lv_imul (pc := 16) hx hb dX7_textNamed_16 ?_
    refine lv_iconst (pc := 17) (v := 1) hx hb dX7_textNamed_17 rfl ?_
    refine lv_iadd (pc := 18) hx hb dX7_textNamed_18 ?_
    refine j_aI (pc := 19) cx hS hf rfl dX7_textNamed_19 (fun y2 hf => ?_)
    refine lv_iadd (pc := 20) hx hb dX7_textNamed_20 ?_
    refine lv_icmp_ge (pc := 21) (tgt := 51) hx hb dX7_textNamed_21 (by decide) (fun hc => ?_) (fun hc => ?_)
    · have hf := jI_t hf hc
      exact wX7_textNamed_51 cx e1 e2 a0 hth _ _ _ _ _ _ hf hS (lv_sub hl [0] rfl)
    · have hf := jI_f hf hc
      refine lv_aload_n (pc := 24) hx hb dX7_textNamed_24 rfl (lv_at hl 0 rfl) ?_
      refine j_gR (pc := 25) cx hS hf fd_WornSkinModel_textName q1696 dX7_textNamed_25 (fun y3 hf => ?_)
      refine lv_iload_n (pc := 28) hx hb dX7_textNamed_28 rfl (lv_at hl 2 rfl) ?_
      refine j_aL (pc := 29) cx hS hf rfl dX7_textNamed_29 (fun y4 hf => ?_)
      refine lv_aload_n (pc := 30) hx hb dX7_textNamed_30 rfl (lv_at hl 0 rfl) ?_
      refine j_gL (pc := 31) cx hS hf fd_WornSkinModel_word q1691 dX7_textNamed_31 (fun y5 hf => ?_)
      refine W.lcmp (pc := 34) hx hb dX7_textNamed_34 ?_
      refine lv_if_ne (pc := 35) (tgt := 45) hx hb dX7_textNamed_35 (by decide) (fun hc => ?_) (fun hc => ?_)
      · have hf := jI_f hf hc
        refine lv_iinc (pc := 45) (v := (x2 + 1)) (lv' := [(2, .int (x2 + 1)), (0, .ref a0), (1, .int x1)]) hx hb dX7_textNamed_45 hl (k := 2) rfl rfl (Nat.le_of_ble_eq_true rfl) rfl (fun ls hl => ?_)
        refine lv_goto (pc := 48) (tgt := 5) hx hb dX7_textNamed_48 (by decide) ?_
        exact ih _ _ _ _ _ _ _ _ hf hS (lv_sub hl [1, 2, 0] rfl)
      · have hf := jI_t hf hc
        exact wX7_textNamed_38 cx e1 e2 a0 hth _ _ _ _ _ _ _ _ hf hS hl
theorem wX7_textNamed_0 {N : Nat} {r : Int32} (cx : jCx p s m args meth c cX7_textNamed "WornSkinModel" 3 (Option.some Jvm.ClassFile.FieldType.int) D dA H0 hs.2.2.2.2) (e1 : h'.2.2.1 = hs.2.2.1 + mc) (e2 : h'.2.2.2.1 = hs.2.2.2.1 + ms) (a0 : Nat) (hth : jTh hs a0 7) : ∀ (x1 : Int32), ∀ (h : jH) (H : Heap) (locs : List Loc) (cells slots : Nat) (ls : Array Slot), (fX7_textNamed N a0 x1).1 h = some (r, h') → jS D dA H0 hs h H locs cells slots → lv_has ls 3 [(0, .ref a0), (1, .int x1)] → W p l e { frames := 0, cells := mc, slots := ms, locals := 0 } s m args below meth c H locs cells slots (jQ D dA H0 below s (.returned (some (.int r))) h' mc ms) (F0 m 0 ls []) := by
  have hx := cx.1
  have hb := cx.2.1
  have hown := cx.2.2.2.1
  have hts := cx.2.2.2.2.1
  have hm : h'.2.2.1 ≤ hs.2.2.1 + mc ∧ h'.2.2.2.1 ≤ hs.2.2.2.1 + ms := ⟨Nat.le_of_eq e1, Nat.le_of_eq e2⟩
  intro x1 h H locs cells slots ls hf hS hl
  unfold fX7_textNamed at hf
  refine lv_bipush (pc := 0) (v := 6) hx hb dX7_textNamed_0 rfl ?_
  refine lv_iload_n (pc := 2) hx hb dX7_textNamed_2 rfl (lv_at hl 1 rfl) ?_
  refine lv_imul (pc := 3) hx hb dX7_textNamed_3 ?_
  refine lv_istore_n (pc := 4) (i := 2) (lv' := [(2, .int (6 * x1)), (0, .ref a0), (1, .int x1)]) hx hb dX7_textNamed_4 rfl hl (Nat.le_of_ble_eq_true rfl) rfl (fun ls hl => ?_)
  exact wX7_textNamed_5 cx e1 e2 a0 hth N _ _ _ _ _ _ _ _ hf hS (lv_sub hl [1, 2, 0] rfl)
theorem metX7_textNamed (l : Launch) (N : Nat) (a0 : Nat) (x1 : Int32) (h h' : jH) (r : Int32) (hth : jcd h a0 = some 7) (hf : (fX7_textNamed N a0 x1).1 h = some (r, h')) : jMet l yX7_textNamed (ws_ yX7_textNamed cX7_textNamed 3 (Option.some Jvm.ClassFile.FieldType.int)) (0) (0) [.ref a0, .int x1] h h' (.returned (some (.int r))) := by
  refine jStart rfl (jle hf) (Nat.le_of_ble_eq_true rfl) ?_
  intro p e s m below meth c D dA H0 mc ms ls cx hnm e1 e2 hS hl
  have hth := jTh.mk hS hth
  exact wX7_textNamed_0 cx e1 e2 a0 hth _ _ _ _ _ _ _ hf hS hl
def fX7_needsNew_29 (N : Nat) (a0 : Nat) : jM Int32 := jB (fX7_fails a0 3) fun y1 => jRn .boolean y1
def fX7_needsNew (N : Nat) (a0 : Nat) : jM Int32 := jB (fX7_isKept a0) fun y1 => if y1 = 0 then (jB (fX7_skinNamed N a0 1) fun y2 => if 0 ≤ y2 then (fX7_needsNew_29 N a0) else (jB (fX7_textNamed N a0 1) fun y3 => if y3 < 0 then (jB (jgL [7] 7 (some a0)) fun y4 => jB (jpL [7] 37 (some a0) y4) fun _ => jB (fX7_nextToken N a0) fun _ => jRn .boolean 1) else (fX7_needsNew_29 N a0))) else (jB (fX7_fails a0 1) fun y6 => jRn .boolean y6)
theorem wX7_needsNew_29 {N : Nat} {r : Int32} (cx : jCx p s m args meth c cX7_needsNew "WornSkinModel" 1 (Option.some Jvm.ClassFile.FieldType.boolean) D dA H0 hs.2.2.2.2) (e1 : h'.2.2.1 = hs.2.2.1 + mc) (e2 : h'.2.2.2.1 = hs.2.2.2.1 + ms) (a0 : Nat) (hth : jTh hs a0 7) : ∀ (h : jH) (H : Heap) (locs : List Loc) (cells slots : Nat) (ls : Array Slot), (fX7_needsNew_29 N a0).1 h = some (r, h') → jS D dA H0 hs h H locs cells slots → lv_has ls 1 [(0, .ref a0)] → W p l e { frames := 2, cells := mc, slots := ms, locals := 42 } s m args below meth c H locs cells slots (jQ D dA H0 below s (.returned (some (.int r))) h' mc ms) (F0 m 29 ls []) := by
  have hx := cx.1
  have hb := cx.2.1
  have hown := cx.2.2.2.1
  have hts := cx.2.2.2.2.1
  have hm : h'.2.2.1 ≤ hs.2.2.1 + mc ∧ h'.2.2.2.1 ≤ hs.2.2.2.1 + ms := ⟨Nat.le_of_eq e1, Nat.le_of_eq e2⟩
  intro h H locs cells slots ls hf hS hl
  unfold fX7_needsNew_29 at hf
  refine lv_aload_n (pc := 29) hx hb dX7_needsNew_29 rfl (lv_at hl 0 rfl) ?_
  refine lv_iconst (pc := 30) (v := 3) hx hb dX7_needsNew_30 rfl ?_
  obtain ⟨y1, h1, e9, hf⟩ := jB_some hf
  refine j_callV (pc := 31) (st1 := [.int y1]) (As := [.int 3]) (rest := []) cx hS rfl hl.1 hm (metX7_fails l _ _ _ _ _ (hth.at hS) e9) (jle hf) (hth.at hS) rfl (lw_V q1903 q1905 qs58 q123 q1906) pdX7_fails rfl rfl (Nat.le_of_ble_eq_true rfl) ⟨Nat.le_of_ble_eq_true rfl, Nat.le_of_ble_eq_true rfl⟩ dX7_needsNew_31 rfl (fun H locs cells slots hS => ?_)
  exact j_zret (pc := 34) cx (Or.inl rfl) hS hf e1 e2 dX7_needsNew_34
theorem wX7_needsNew_0 {N : Nat} {r : Int32} (cx : jCx p s m args meth c cX7_needsNew "WornSkinModel" 1 (Option.some Jvm.ClassFile.FieldType.boolean) D dA H0 hs.2.2.2.2) (e1 : h'.2.2.1 = hs.2.2.1 + mc) (e2 : h'.2.2.2.1 = hs.2.2.2.1 + ms) (a0 : Nat) (hth : jTh hs a0 7) : ∀ (h : jH) (H : Heap) (locs : List Loc) (cells slots : Nat) (ls : Array Slot), (fX7_needsNew N a0).1 h = some (r, h') → jS D dA H0 hs h H locs cells slots → lv_has ls 1 [(0, .ref a0)] → W p l e { frames := 2, cells := mc, slots := ms, locals := 42 } s m args below meth c H locs cells slots (jQ D dA H0 below s (.returned (some (.int r))) h' mc ms) (F0 m 0 ls []) := by
  have hx := cx.1
  have hb := cx.2.1
  have hown := cx.2.2.2.1
  have hts := cx.2.2.2.2.1
  have hm : h'.2.2.1 ≤ hs.2.2.1 + mc ∧ h'.2.2.2.1 ≤ hs.2.2.2.1 + ms := ⟨Nat.le_of_eq e1, Nat.le_of_eq e2⟩
  intro h H locs cells slots ls hf hS hl
  unfold fX7_needsNew at hf
  refine lv_aload_n (pc := 0) hx hb dX7_needsNew_0 rfl (lv_at hl 0 rfl) ?_
  obtain ⟨y1, h1, e9, hf⟩ := jB_some hf
  refine j_callV (pc := 1) (st1 := [.int y1]) (As := []) (rest := []) cx hS rfl hl.1 hm (metX7_isKept l _ _ _ _ (hth.at hS) e9) (jle hf) (hth.at hS) rfl (lw_V q1911 q1913 qs60 q123 q1914) pdX7_isKept rfl rfl (Nat.le_of_ble_eq_true rfl) ⟨Nat.le_of_ble_eq_true rfl, Nat.le_of_ble_eq_true rfl⟩ dX7_needsNew_1 rfl (fun H locs cells slots hS => ?_)
  refine lv_if_eq (pc := 4) (tgt := 13) hx hb dX7_needsNew_4 (by decide) (fun hc => ?_) (fun hc => ?_)
  · have hf := jI_t hf hc
    refine lv_aload_n (pc := 13) hx hb dX7_needsNew_13 rfl (lv_at hl 0 rfl) ?_
    refine lv_iconst (pc := 14) (v := 1) hx hb dX7_needsNew_14 rfl ?_
    obtain ⟨y2, h1, e9, hf⟩ := jB_some hf
    refine j_callV (pc := 15) (st1 := [.int y2]) (As := [.int 1]) (rest := []) cx hS rfl hl.1 hm (metX7_skinNamed l _ _ _ _ _ _ (hth.at hS) e9) (jle hf) (hth.at hS) rfl (lw_V q1934 q1936 qs61 q123 q1937) pdX7_skinNamed rfl rfl (Nat.le_of_ble_eq_true rfl) ⟨Nat.le_of_ble_eq_true rfl, Nat.le_of_ble_eq_true rfl⟩ dX7_needsNew_15 rfl (fun H locs cells slots hS => ?_)
    refine lv_if_ge (pc := 18) (tgt := 29) hx hb dX7_needsNew_18 (by decide) (fun hc => ?_) (fun hc => ?_)
    · have hf := jI_t hf hc
      exact wX7_needsNew_29 cx e1 e2 a0 hth _ _ _ _ _ _ hf hS hl
    · have hf := jI_f hf hc
      refine lv_aload_n (pc := 21) hx hb dX7_needsNew_21 rfl (lv_at hl 0 rfl) ?_
      refine lv_iconst (pc := 22) (v := 1) hx hb dX7_needsNew_22 rfl ?_
      obtain ⟨y3, h1, e9, hf⟩ := jB_some hf
      refine j_callV (pc := 23) (st1 := [.int y3]) (As := [.int 1]) (rest := []) cx hS rfl hl.1 hm (metX7_textNamed l _ _ _ _ _ _ (hth.at hS) e9) (jle hf) (hth.at hS) rfl (lw_V q1938 q1940 qs62 q123 q1941) pdX7_textNamed rfl rfl (Nat.le_of_ble_eq_true rfl) ⟨Nat.le_of_ble_eq_true rfl, Nat.le_of_ble_eq_true rfl⟩ dX7_needsNew_23 rfl (fun H locs cells slots hS => ?_)
      refine lv_if_lt (pc := 26) (tgt := 35) hx hb dX7_needsNew_26 (by decide) (fun hc => ?_) (fun hc => ?_)
      · have hf := jI_t hf hc
        refine lv_aload_n (pc := 35) hx hb dX7_needsNew_35 rfl (lv_at hl 0 rfl) ?_
        refine lv_aload_n (pc := 36) hx hb dX7_needsNew_36 rfl (lv_at hl 0 rfl) ?_
        refine j_gL (pc := 37) cx hS hf fd_WornSkinModel_word q1691 dX7_needsNew_37 (fun y4 hf => ?_)
        refine j_pL (pc := 40) cx hS hf fp_WornSkinModel_fresh (Or.inl rfl) q1721 dX7_needsNew_40 (fun h H locs hf hS => ?_)
        refine lv_aload_n (pc := 43) hx hb dX7_needsNew_43 rfl (lv_at hl 0 rfl) ?_
        obtain ⟨_, h1, e9, hf⟩ := jB_some hf
        refine j_callV (pc := 44) (st1 := []) (As := []) (rest := []) cx hS rfl hl.1 hm (metX7_nextToken l _ _ _ _ _ (hth.at hS) e9) (jle hf) (hth.at hS) rfl (lw_V q1884 q1886 qs54 q123 q1887) pdX7_nextToken rfl rfl (Nat.le_of_ble_eq_true rfl) ⟨Nat.le_of_ble_eq_true rfl, Nat.le_of_ble_eq_true rfl⟩ dX7_needsNew_44 rfl (fun H locs cells slots hS => ?_)
        refine lv_iconst (pc := 47) (v := 1) hx hb dX7_needsNew_47 rfl ?_
        exact j_zret (pc := 48) cx (Or.inl rfl) hS hf e1 e2 dX7_needsNew_48
      · have hf := jI_f hf hc
        exact wX7_needsNew_29 cx e1 e2 a0 hth _ _ _ _ _ _ hf hS hl
  · have hf := jI_f hf hc
    refine lv_aload_n (pc := 7) hx hb dX7_needsNew_7 rfl (lv_at hl 0 rfl) ?_
    refine lv_iconst (pc := 8) (v := 1) hx hb dX7_needsNew_8 rfl ?_
    obtain ⟨y6, h1, e9, hf⟩ := jB_some hf
    refine j_callV (pc := 9) (st1 := [.int y6]) (As := [.int 1]) (rest := []) cx hS rfl hl.1 hm (metX7_fails l _ _ _ _ _ (hth.at hS) e9) (jle hf) (hth.at hS) rfl (lw_V q1903 q1905 qs58 q123 q1906) pdX7_fails rfl rfl (Nat.le_of_ble_eq_true rfl) ⟨Nat.le_of_ble_eq_true rfl, Nat.le_of_ble_eq_true rfl⟩ dX7_needsNew_9 rfl (fun H locs cells slots hS => ?_)
    exact j_zret (pc := 12) cx (Or.inl rfl) hS hf e1 e2 dX7_needsNew_12
theorem metX7_needsNew (l : Launch) (N : Nat) (a0 : Nat) (h h' : jH) (r : Int32) (hth : jcd h a0 = some 7) (hf : (fX7_needsNew N a0).1 h = some (r, h')) : jMet l yX7_needsNew (ws_ yX7_needsNew cX7_needsNew 1 (Option.some Jvm.ClassFile.FieldType.boolean)) (2) (42) [.ref a0] h h' (.returned (some (.int r))) := by
  refine jStart rfl (jle hf) (Nat.le_of_ble_eq_true rfl) ?_
  intro p e s m below meth c D dA H0 mc ms ls cx hnm e1 e2 hS hl
  have hth := jTh.mk hS hth
  exact wX7_needsNew_0 cx e1 e2 a0 hth  _ _ _ _ _ _ hf hS hl
def fX7_within_15 (v0 : Int32) : jM Int32 := jRn .boolean v0
def fX7_within_14 : jM Int32 := fX7_within_15 0
def fX7_within (x0 : Int32) (x1 : Int32) (x2 : Int32) : jM Int32 := if x0 < x1 then (fX7_within_14) else (if x2 < x0 then (fX7_within_14) else (fX7_within_15 1))
theorem wX7_within_15 {r : Int32} (cx : jCx p s m args meth c cX7_within "WornSkinModel" 3 (Option.some Jvm.ClassFile.FieldType.boolean) D dA H0 hs.2.2.2.2) (e1 : h'.2.2.1 = hs.2.2.1 + mc) (e2 : h'.2.2.2.1 = hs.2.2.2.1 + ms) : ∀ (v0 : Int32), ∀ (h : jH) (H : Heap) (locs : List Loc) (cells slots : Nat) (ls : Array Slot), (fX7_within_15 v0).1 h = some (r, h') → jS D dA H0 hs h H locs cells slots → lv_has ls 3 [] → W p l e { frames := 0, cells := mc, slots := ms, locals := 0 } s m args below meth c H locs cells slots (jQ D dA H0 below s (.returned (some (.int r))) h' mc ms) (F0 m 15 ls [.int v0]) := by
  have hx := cx.1
  have hb := cx.2.1
  have hown := cx.2.2.2.1
  have hts := cx.2.2.2.2.1
  have hm : h'.2.2.1 ≤ hs.2.2.1 + mc ∧ h'.2.2.2.1 ≤ hs.2.2.2.1 + ms := ⟨Nat.le_of_eq e1, Nat.le_of_eq e2⟩
  intro v0 h H locs cells slots ls hf hS hl
  unfold fX7_within_15 at hf
  exact j_zret (pc := 15) cx (Or.inl rfl) hS hf e1 e2 dX7_within_15
theorem wX7_within_14 {r : Int32} (cx : jCx p s m args meth c cX7_within "WornSkinModel" 3 (Option.some Jvm.ClassFile.FieldType.boolean) D dA H0 hs.2.2.2.2) (e1 : h'.2.2.1 = hs.2.2.1 + mc) (e2 : h'.2.2.2.1 = hs.2.2.2.1 + ms) : ∀ (h : jH) (H : Heap) (locs : List Loc) (cells slots : Nat) (ls : Array Slot), (fX7_within_14).1 h = some (r, h') → jS D dA H0 hs h H locs cells slots → lv_has ls 3 [] → W p l e { frames := 0, cells := mc, slots := ms, locals := 0 } s m args below meth c H locs cells slots (jQ D dA H0 below s (.returned (some (.int r))) h' mc ms) (F0 m 14 ls []) := by
  have hx := cx.1
  have hb := cx.2.1
  have hown := cx.2.2.2.1
  have hts := cx.2.2.2.2.1
  have hm : h'.2.2.1 ≤ hs.2.2.1 + mc ∧ h'.2.2.2.1 ≤ hs.2.2.2.1 + ms := ⟨Nat.le_of_eq e1, Nat.le_of_eq e2⟩
  intro h H locs cells slots ls hf hS hl
  unfold fX7_within_14 at hf
  refine lv_iconst (pc := 14) (v := 0) hx hb dX7_within_14 rfl ?_
  exact wX7_within_15 cx e1 e2 _ _ _ _ _ _ _ hf hS hl
theorem wX7_within_0 {r : Int32} (cx : jCx p s m args meth c cX7_within "WornSkinModel" 3 (Option.some Jvm.ClassFile.FieldType.boolean) D dA H0 hs.2.2.2.2) (e1 : h'.2.2.1 = hs.2.2.1 + mc) (e2 : h'.2.2.2.1 = hs.2.2.2.1 + ms) : ∀ (x0 : Int32) (x1 : Int32) (x2 : Int32), ∀ (h : jH) (H : Heap) (locs : List Loc) (cells slots : Nat) (ls : Array Slot), (fX7_within x0 x1 x2).1 h = some (r, h') → jS D dA H0 hs h H locs cells slots → lv_has ls 3 [(0, .int x0), (1, .int x1), (2, .int x2)] → W p l e { frames := 0, cells := mc, slots := ms, locals := 0 } s m args below meth c H locs cells slots (jQ D dA H0 below s (.returned (some (.int r))) h' mc ms) (F0 m 0 ls []) := by
  have hx := cx.1
  have hb := cx.2.1
  have hown := cx.2.2.2.1
  have hts := cx.2.2.2.2.1
  have hm : h'.2.2.1 ≤ hs.2.2.1 + mc ∧ h'.2.2.2.1 ≤ hs.2.2.2.1 + ms := ⟨Nat.le_of_eq e1, Nat.le_of_eq e2⟩
  intro x0 x1 x2 h H locs cells slots ls hf hS hl
  unfold fX7_within at hf
  refine lv_iload_n (pc := 0) hx hb dX7_within_0 rfl (lv_at hl 0 rfl) ?_
  refine lv_iload_n (pc := 1) hx hb dX7_within_1 rfl (lv_at hl 1 rfl) ?_
  refine lv_icmp_lt (pc := 2) (tgt := 14) hx hb dX7_within_2 (by decide) (fun hc => ?_) (fun hc => ?_)
  · have hf := jI_t hf hc
    exact wX7_within_14 cx e1 e2 _ _ _ _ _ _ hf hS (lv_sub hl [] rfl)
  · have hf := jI_f hf hc
    refine lv_iload_n (pc := 5) hx hb dX7_within_5 rfl (lv_at hl 0 rfl) ?_
    refine lv_iload_n (pc := 6) hx hb dX7_within_6 rfl (lv_at hl 2 rfl) ?_
    refine lv_icmp_gt (pc := 7) (tgt := 14) hx hb dX7_within_7 (by decide) (fun hc => ?_) (fun hc => ?_)
    · have hf := jI_t hf hc
      exact wX7_within_14 cx e1 e2 _ _ _ _ _ _ hf hS (lv_sub hl [] rfl)
    · have hf := jI_f hf hc
      refine lv_iconst (pc := 10) (v := 1) hx hb dX7_within_10 rfl ?_
      refine lv_goto (pc := 11) (tgt := 15) hx hb dX7_within_11 (by decide) ?_
      exact wX7_within_15 cx e1 e2 _ _ _ _ _ _ _ hf hS (lv_sub hl [] rfl)
theorem metX7_within (l : Launch) (x0 : Int32) (x1 : Int32) (x2 : Int32) (h h' : jH) (r : Int32) (hf : (fX7_within x0 x1 x2).1 h = some (r, h')) : jMet l yX7_within (ws_ yX7_within cX7_within 3 (Option.some Jvm.ClassFile.FieldType.boolean)) (0) (0) [.int x0, .int x1, .int x2] h h' (.returned (some (.int r))) := by
  refine jStart rfl (jle hf) (Nat.le_of_ble_eq_true rfl) ?_
  intro p e s m below meth c D dA H0 mc ms ls cx hnm e1 e2 hS hl
  exact wX7_within_0 cx e1 e2 _ _ _ _ _ _ _ _ _ hf hS hl
def fX7_needsNumber (N : Nat) (a0 : Nat) (x1 : Int32) (x2 : Int32) : jM Int32 := jB (jgI [7] 6 (some a0)) fun y1 => if y1 = 2 then (jB (jgI [7] 8 (some a0)) fun y2 => jB (fX7_within y2 x1 x2) fun y3 => if y3 = 0 then (jB (fX7_fails a0 4) fun y6 => jRn .boolean y6) else (jB (jgI [7] 8 (some a0)) fun y4 => jB (jpI [7] 36 (some a0) y4) fun _ => jB (fX7_nextToken N a0) fun _ => jRn .boolean 1)) else (jB (fX7_fails a0 1) fun y7 => jRn .boolean y7)
theorem wX7_needsNumber_0 {N : Nat} {r : Int32} (cx : jCx p s m args meth c cX7_needsNumber "WornSkinModel" 3 (Option.some Jvm.ClassFile.FieldType.boolean) D dA H0 hs.2.2.2.2) (e1 : h'.2.2.1 = hs.2.2.1 + mc) (e2 : h'.2.2.2.1 = hs.2.2.2.1 + ms) (a0 : Nat) (hth : jTh hs a0 7) : ∀ (x1 : Int32) (x2 : Int32), ∀ (h : jH) (H : Heap) (locs : List Loc) (cells slots : Nat) (ls : Array Slot), (fX7_needsNumber N a0 x1 x2).1 h = some (r, h') → jS D dA H0 hs h H locs cells slots → lv_has ls 3 [(0, .ref a0), (1, .int x1), (2, .int x2)] → W p l e { frames := 2, cells := mc, slots := ms, locals := 42 } s m args below meth c H locs cells slots (jQ D dA H0 below s (.returned (some (.int r))) h' mc ms) (F0 m 0 ls []) := by
  have hx := cx.1
  have hb := cx.2.1
  have hown := cx.2.2.2.1
  have hts := cx.2.2.2.2.1
  have hm : h'.2.2.1 ≤ hs.2.2.1 + mc ∧ h'.2.2.2.1 ≤ hs.2.2.2.1 + ms := ⟨Nat.le_of_eq e1, Nat.le_of_eq e2⟩
  intro x1 x2 h H locs cells slots ls hf hS hl
  unfold fX7_needsNumber at hf
  refine lv_aload_n (pc := 0) hx hb dX7_needsNumber_0 rfl (lv_at hl 0 rfl) ?_
  refine j_gI (pc := 1) cx hS hf fd_WornSkinModel_token q1690 dX7_needsNumber_1 (fun y1 hf => ?_)
  refine lv_iconst (pc := 4) (v := 2) hx hb dX7_needsNumber_4 rfl ?_
  refine lv_icmp_eq (pc := 5) (tgt := 14) hx hb dX7_needsNumber_5 (by decide) (fun hc => ?_) (fun hc => ?_)
  · have hf := jI_t hf hc
    refine lv_aload_n (pc := 14) hx hb dX7_needsNumber_14 rfl (lv_at hl 0 rfl) ?_
    refine j_gI (pc := 15) cx hS hf fd_WornSkinModel_told q1692 dX7_needsNumber_15 (fun y2 hf => ?_)
    refine lv_iload_n (pc := 18) hx hb dX7_needsNumber_18 rfl (lv_at hl 1 rfl) ?_
    refine lv_iload_n (pc := 19) hx hb dX7_needsNumber_19 rfl (lv_at hl 2 rfl) ?_
    obtain ⟨y3, h1, e9, hf⟩ := jB_some hf
    refine j_callS (pc := 20) (st1 := [.int y3]) (As := [.int y2, .int x1, .int x2]) (rest := []) cx hS rfl hl.1 hm (metX7_within l _ _ _ _ _ _ e9) (jle hf) (lw_S q1950 q1951 q123 q1952) pdX7_within rfl rfl (Nat.le_of_ble_eq_true rfl) ⟨Nat.le_of_ble_eq_true rfl, Nat.le_of_ble_eq_true rfl⟩ dX7_needsNumber_20 rfl (fun H locs cells slots hS => ?_)
    refine lv_if_ne (pc := 23) (tgt := 32) hx hb dX7_needsNumber_23 (by decide) (fun hc => ?_) (fun hc => ?_)
    · have hf := jI_f hf hc
      refine lv_aload_n (pc := 32) hx hb dX7_needsNumber_32 rfl (lv_at hl 0 rfl) ?_
      refine lv_aload_n (pc := 33) hx hb dX7_needsNumber_33 rfl (lv_at hl 0 rfl) ?_
      refine j_gI (pc := 34) cx hS hf fd_WornSkinModel_told q1692 dX7_needsNumber_34 (fun y4 hf => ?_)
      refine j_pI (pc := 37) cx hS hf fp_WornSkinModel_given (Or.inl rfl) q1720 dX7_needsNumber_37 (fun h H locs hf hS => ?_)
      refine lv_aload_n (pc := 40) hx hb dX7_needsNumber_40 rfl (lv_at hl 0 rfl) ?_
      obtain ⟨_, h1, e9, hf⟩ := jB_some hf
      refine j_callV (pc := 41) (st1 := []) (As := []) (rest := []) cx hS rfl hl.1 hm (metX7_nextToken l _ _ _ _ _ (hth.at hS) e9) (jle hf) (hth.at hS) rfl (lw_V q1884 q1886 qs54 q123 q1887) pdX7_nextToken rfl rfl (Nat.le_of_ble_eq_true rfl) ⟨Nat.le_of_ble_eq_true rfl, Nat.le_of_ble_eq_true rfl⟩ dX7_needsNumber_41 rfl (fun H locs cells slots hS => ?_)
      refine lv_iconst (pc := 44) (v := 1) hx hb dX7_needsNumber_44 rfl ?_
      exact j_zret (pc := 45) cx (Or.inl rfl) hS hf e1 e2 dX7_needsNumber_45
    · have hf := jI_t hf hc
      refine lv_aload_n (pc := 26) hx hb dX7_needsNumber_26 rfl (lv_at hl 0 rfl) ?_
      refine lv_iconst (pc := 27) (v := 4) hx hb dX7_needsNumber_27 rfl ?_
      obtain ⟨y6, h1, e9, hf⟩ := jB_some hf
      refine j_callV (pc := 28) (st1 := [.int y6]) (As := [.int 4]) (rest := []) cx hS rfl hl.1 hm (metX7_fails l _ _ _ _ _ (hth.at hS) e9) (jle hf) (hth.at hS) rfl (lw_V q1903 q1905 qs58 q123 q1906) pdX7_fails rfl rfl (Nat.le_of_ble_eq_true rfl) ⟨Nat.le_of_ble_eq_true rfl, Nat.le_of_ble_eq_true rfl⟩ dX7_needsNumber_28 rfl (fun H locs cells slots hS => ?_)
      exact j_zret (pc := 31) cx (Or.inl rfl) hS hf e1 e2 dX7_needsNumber_31
  · have hf := jI_f hf hc
    refine lv_aload_n (pc := 8) hx hb dX7_needsNumber_8 rfl (lv_at hl 0 rfl) ?_
    refine lv_iconst (pc := 9) (v := 1) hx hb dX7_needsNumber_9 rfl ?_
    obtain ⟨y7, h1, e9, hf⟩ := jB_some hf
    refine j_callV (pc := 10) (st1 := [.int y7]) (As := [.int 1]) (rest := []) cx hS rfl hl.1 hm (metX7_fails l _ _ _ _ _ (hth.at hS) e9) (jle hf) (hth.at hS) rfl (lw_V q1903 q1905 qs58 q123 q1906) pdX7_fails rfl rfl (Nat.le_of_ble_eq_true rfl) ⟨Nat.le_of_ble_eq_true rfl, Nat.le_of_ble_eq_true rfl⟩ dX7_needsNumber_10 rfl (fun H locs cells slots hS => ?_)
    exact j_zret (pc := 13) cx (Or.inl rfl) hS hf e1 e2 dX7_needsNumber_13
theorem metX7_needsNumber (l : Launch) (N : Nat) (a0 : Nat) (x1 : Int32) (x2 : Int32) (h h' : jH) (r : Int32) (hth : jcd h a0 = some 7) (hf : (fX7_needsNumber N a0 x1 x2).1 h = some (r, h')) : jMet l yX7_needsNumber (ws_ yX7_needsNumber cX7_needsNumber 3 (Option.some Jvm.ClassFile.FieldType.boolean)) (2) (42) [.ref a0, .int x1, .int x2] h h' (.returned (some (.int r))) := by
  refine jStart rfl (jle hf) (Nat.le_of_ble_eq_true rfl) ?_
  intro p e s m below meth c D dA H0 mc ms ls cx hnm e1 e2 hS hl
  have hth := jTh.mk hS hth
  exact wX7_needsNumber_0 cx e1 e2 a0 hth _ _ _ _ _ _ _ _ hf hS hl
def fX7_needsBoth (N : Nat) (a0 : Nat) (x1 : Int64) (x3 : Int32) (x4 : Int32) : jM Int32 := jB (fX7_isWord a0 x1) fun y1 => if y1 = 0 then (jB (fX7_fails a0 1) fun y4 => jRn .boolean y4) else (jB (fX7_nextToken N a0) fun _ => jB (fX7_needsNumber N a0 x3 x4) fun y3 => jRn .boolean y3)
theorem wX7_needsBoth_0 {N : Nat} {r : Int32} (cx : jCx p s m args meth c cX7_needsBoth "WornSkinModel" 5 (Option.some Jvm.ClassFile.FieldType.boolean) D dA H0 hs.2.2.2.2) (e1 : h'.2.2.1 = hs.2.2.1 + mc) (e2 : h'.2.2.2.1 = hs.2.2.2.1 + ms) (a0 : Nat) (hth : jTh hs a0 7) : ∀ (x1 : Int64) (x3 : Int32) (x4 : Int32), ∀ (h : jH) (H : Heap) (locs : List Loc) (cells slots : Nat) (ls : Array Slot), (fX7_needsBoth N a0 x1 x3 x4).1 h = some (r, h') → jS D dA H0 hs h H locs cells slots → lv_has ls 5 [(0, .ref a0), (1, .long x1), (3, .int x3), (4, .int x4)] → W p l e { frames := 3, cells := mc, slots := ms, locals := 64 } s m args below meth c H locs cells slots (jQ D dA H0 below s (.returned (some (.int r))) h' mc ms) (F0 m 0 ls []) := by
  have hx := cx.1
  have hb := cx.2.1
  have hown := cx.2.2.2.1
  have hts := cx.2.2.2.2.1
  have hm : h'.2.2.1 ≤ hs.2.2.1 + mc ∧ h'.2.2.2.1 ≤ hs.2.2.2.1 + ms := ⟨Nat.le_of_eq e1, Nat.le_of_eq e2⟩
  intro x1 x3 x4 h H locs cells slots ls hf hS hl
  unfold fX7_needsBoth at hf
  refine lv_aload_n (pc := 0) hx hb dX7_needsBoth_0 rfl (lv_at hl 0 rfl) ?_
  refine lv_lload_n (pc := 1) hx hb dX7_needsBoth_1 rfl (lv_at hl 1 rfl) ?_
  obtain ⟨y1, h1, e9, hf⟩ := jB_some hf
  refine j_callV (pc := 2) (st1 := [.int y1]) (As := [.long x1]) (rest := []) cx hS rfl hl.1 hm (metX7_isWord l _ _ _ _ _ (hth.at hS) e9) (jle hf) (hth.at hS) rfl (lw_V q1895 q1897 qs56 q123 q1898) pdX7_isWord rfl rfl (Nat.le_of_ble_eq_true rfl) ⟨Nat.le_of_ble_eq_true rfl, Nat.le_of_ble_eq_true rfl⟩ dX7_needsBoth_2 rfl (fun H locs cells slots hS => ?_)
  refine lv_if_ne (pc := 5) (tgt := 14) hx hb dX7_needsBoth_5 (by decide) (fun hc => ?_) (fun hc => ?_)
  · have hf := jI_f hf hc
    refine lv_aload_n (pc := 14) hx hb dX7_needsBoth_14 rfl (lv_at hl 0 rfl) ?_
    obtain ⟨_, h1, e9, hf⟩ := jB_some hf
    refine j_callV (pc := 15) (st1 := []) (As := []) (rest := []) cx hS rfl hl.1 hm (metX7_nextToken l _ _ _ _ _ (hth.at hS) e9) (jle hf) (hth.at hS) rfl (lw_V q1884 q1886 qs54 q123 q1887) pdX7_nextToken rfl rfl (Nat.le_of_ble_eq_true rfl) ⟨Nat.le_of_ble_eq_true rfl, Nat.le_of_ble_eq_true rfl⟩ dX7_needsBoth_15 rfl (fun H locs cells slots hS => ?_)
    refine lv_aload_n (pc := 18) hx hb dX7_needsBoth_18 rfl (lv_at hl 0 rfl) ?_
    refine lv_iload_n (pc := 19) hx hb dX7_needsBoth_19 rfl (lv_at hl 2 rfl) ?_
    refine lv_iload (pc := 20) hx hb dX7_needsBoth_20 (lv_at hl 3 rfl) ?_
    obtain ⟨y3, h1, e9, hf⟩ := jB_some hf
    refine j_callV (pc := 22) (st1 := [.int y3]) (As := [.int x3, .int x4]) (rest := []) cx hS rfl hl.1 hm (metX7_needsNumber l _ _ _ _ _ _ _ (hth.at hS) e9) (jle hf) (hth.at hS) rfl (lw_V q1946 q1948 qs64 q123 q1949) pdX7_needsNumber rfl rfl (Nat.le_of_ble_eq_true rfl) ⟨Nat.le_of_ble_eq_true rfl, Nat.le_of_ble_eq_true rfl⟩ dX7_needsBoth_22 rfl (fun H locs cells slots hS => ?_)
    exact j_zret (pc := 25) cx (Or.inl rfl) hS hf e1 e2 dX7_needsBoth_25
  · have hf := jI_t hf hc
    refine lv_aload_n (pc := 8) hx hb dX7_needsBoth_8 rfl (lv_at hl 0 rfl) ?_
    refine lv_iconst (pc := 9) (v := 1) hx hb dX7_needsBoth_9 rfl ?_
    obtain ⟨y4, h1, e9, hf⟩ := jB_some hf
    refine j_callV (pc := 10) (st1 := [.int y4]) (As := [.int 1]) (rest := []) cx hS rfl hl.1 hm (metX7_fails l _ _ _ _ _ (hth.at hS) e9) (jle hf) (hth.at hS) rfl (lw_V q1903 q1905 qs58 q123 q1906) pdX7_fails rfl rfl (Nat.le_of_ble_eq_true rfl) ⟨Nat.le_of_ble_eq_true rfl, Nat.le_of_ble_eq_true rfl⟩ dX7_needsBoth_10 rfl (fun H locs cells slots hS => ?_)
    exact j_zret (pc := 13) cx (Or.inl rfl) hS hf e1 e2 dX7_needsBoth_13
theorem metX7_needsBoth (l : Launch) (N : Nat) (a0 : Nat) (x1 : Int64) (x3 : Int32) (x4 : Int32) (h h' : jH) (r : Int32) (hth : jcd h a0 = some 7) (hf : (fX7_needsBoth N a0 x1 x3 x4).1 h = some (r, h')) : jMet l yX7_needsBoth (ws_ yX7_needsBoth cX7_needsBoth 5 (Option.some Jvm.ClassFile.FieldType.boolean)) (3) (64) [.ref a0, .long x1, .int x3, .int x4] h h' (.returned (some (.int r))) := by
  refine jStart rfl (jle hf) (Nat.le_of_ble_eq_true rfl) ?_
  intro p e s m below meth c D dA H0 mc ms ls cx hnm e1 e2 hS hl
  have hth := jTh.mk hS hth
  exact wX7_needsBoth_0 cx e1 e2 a0 hth _ _ _ _ _ _ _ _ _ hf hS hl
def fX7_isSign_26 (a0 : Nat) (v0 : Int32) : jM Int32 := jRn .boolean v0
def fX7_isSign_25 (a0 : Nat) : jM Int32 := fX7_isSign_26 a0 0
def fX7_isSign (a0 : Nat) (x1 : Int32) : jM Int32 := jB (jgI [7] 6 (some a0)) fun y1 => if y1 = 3 then (jB (jgR [7] 2 (some a0)) fun y2 => jB (jgI [7] 5 (some a0)) fun y3 => jB (jaI 0 y2 y3) fun y4 => if y4 = x1 then (fX7_isSign_26 a0 1) else (fX7_isSign_25 a0)) else (fX7_isSign_25 a0)
theorem wX7_isSign_26 {r : Int32} (cx : jCx p s m args meth c cX7_isSign "WornSkinModel" 2 (Option.some Jvm.ClassFile.FieldType.boolean) D dA H0 hs.2.2.2.2) (e1 : h'.2.2.1 = hs.2.2.1 + mc) (e2 : h'.2.2.2.1 = hs.2.2.2.1 + ms) (a0 : Nat) (hth : jTh hs a0 7) : ∀ (v0 : Int32), ∀ (h : jH) (H : Heap) (locs : List Loc) (cells slots : Nat) (ls : Array Slot), (fX7_isSign_26 a0 v0).1 h = some (r, h') → jS D dA H0 hs h H locs cells slots → lv_has ls 2 [(0, .ref a0)] → W p l e { frames := 0, cells := mc, slots := ms, locals := 0 } s m args below meth c H locs cells slots (jQ D dA H0 below s (.returned (some (.int r))) h' mc ms) (F0 m 26 ls [.int v0]) := by
  have hx := cx.1
  have hb := cx.2.1
  have hown := cx.2.2.2.1
  have hts := cx.2.2.2.2.1
  have hm : h'.2.2.1 ≤ hs.2.2.1 + mc ∧ h'.2.2.2.1 ≤ hs.2.2.2.1 + ms := ⟨Nat.le_of_eq e1, Nat.le_of_eq e2⟩
  intro v0 h H locs cells slots ls hf hS hl
  unfold fX7_isSign_26 at hf
  exact j_zret (pc := 26) cx (Or.inl rfl) hS hf e1 e2 dX7_isSign_26
theorem wX7_isSign_25 {r : Int32} (cx : jCx p s m args meth c cX7_isSign "WornSkinModel" 2 (Option.some Jvm.ClassFile.FieldType.boolean) D dA H0 hs.2.2.2.2) (e1 : h'.2.2.1 = hs.2.2.1 + mc) (e2 : h'.2.2.2.1 = hs.2.2.2.1 + ms) (a0 : Nat) (hth : jTh hs a0 7) : ∀ (h : jH) (H : Heap) (locs : List Loc) (cells slots : Nat) (ls : Array Slot), (fX7_isSign_25 a0).1 h = some (r, h') → jS D dA H0 hs h H locs cells slots → lv_has ls 2 [(0, .ref a0)] → W p l e { frames := 0, cells := mc, slots := ms, locals := 0 } s m args below meth c H locs cells slots (jQ D dA H0 below s (.returned (some (.int r))) h' mc ms) (F0 m 25 ls []) := by
  have hx := cx.1
  have hb := cx.2.1
  have hown := cx.2.2.2.1
  have hts := cx.2.2.2.2.1
  have hm : h'.2.2.1 ≤ hs.2.2.1 + mc ∧ h'.2.2.2.1 ≤ hs.2.2.2.1 + ms := ⟨Nat.le_of_eq e1, Nat.le_of_eq e2⟩
  intro h H locs cells slots ls hf hS hl
  unfold fX7_isSign_25 at hf
  refine lv_iconst (pc := 25) (v := 0) hx hb dX7_isSign_25 rfl ?_
  exact wX7_isSign_26 cx e1 e2 a0 hth _ _ _ _ _ _ _ hf hS hl
theorem wX7_isSign_0 {r : Int32} (cx : jCx p s m args meth c cX7_isSign "WornSkinModel" 2 (Option.some Jvm.ClassFile.FieldType.boolean) D dA H0 hs.2.2.2.2) (e1 : h'.2.2.1 = hs.2.2.1 + mc) (e2 : h'.2.2.2.1 = hs.2.2.2.1 + ms) (a0 : Nat) (hth : jTh hs a0 7) : ∀ (x1 : Int32), ∀ (h : jH) (H : Heap) (locs : List Loc) (cells slots : Nat) (ls : Array Slot), (fX7_isSign a0 x1).1 h = some (r, h') → jS D dA H0 hs h H locs cells slots → lv_has ls 2 [(0, .ref a0), (1, .int x1)] → W p l e { frames := 0, cells := mc, slots := ms, locals := 0 } s m args below meth c H locs cells slots (jQ D dA H0 below s (.returned (some (.int r))) h' mc ms) (F0 m 0 ls []) := by
  have hx := cx.1
  have hb := cx.2.1
  have hown := cx.2.2.2.1
  have hts := cx.2.2.2.2.1
  have hm : h'.2.2.1 ≤ hs.2.2.1 + mc ∧ h'.2.2.2.1 ≤ hs.2.2.2.1 + ms := ⟨Nat.le_of_eq e1, Nat.le_of_eq e2⟩
  intro x1 h H locs cells slots ls hf hS hl
  unfold fX7_isSign at hf
  refine lv_aload_n (pc := 0) hx hb dX7_isSign_0 rfl (lv_at hl 0 rfl) ?_
  refine j_gI (pc := 1) cx hS hf fd_WornSkinModel_token q1690 dX7_isSign_1 (fun y1 hf => ?_)
  refine lv_iconst (pc := 4) (v := 3) hx hb dX7_isSign_4 rfl ?_
  refine lv_icmp_ne (pc := 5) (tgt := 25) hx hb dX7_isSign_5 (by decide) (fun hc => ?_) (fun hc => ?_)
  · have hf := jI_f hf hc
    exact wX7_isSign_25 cx e1 e2 a0 hth _ _ _ _ _ _ hf hS (lv_sub hl [0] rfl)
  · have hf := jI_t hf hc
    refine lv_aload_n (pc := 8) hx hb dX7_isSign_8 rfl (lv_at hl 0 rfl) ?_
    refine j_gR (pc := 9) cx hS hf fd_WornSkinModel_tape q1686 dX7_isSign_9 (fun y2 hf => ?_)
    refine lv_aload_n (pc := 12) hx hb dX7_isSign_12 rfl (lv_at hl 0 rfl) ?_
    refine j_gI (pc := 13) cx hS hf fd_WornSkinModel_begin q1689 dX7_isSign_13 (fun y3 hf => ?_)
    refine j_aI (pc := 16) cx hS hf rfl dX7_isSign_16 (fun y4 hf => ?_)
    refine lv_iload_n (pc := 17) hx hb dX7_isSign_17 rfl (lv_at hl 1 rfl) ?_
    refine lv_icmp_ne (pc := 18) (tgt := 25) hx hb dX7_isSign_18 (by decide) (fun hc => ?_) (fun hc => ?_)
    · have hf := jI_f hf hc
      exact wX7_isSign_25 cx e1 e2 a0 hth _ _ _ _ _ _ hf hS (lv_sub hl [0] rfl)
    · have hf := jI_t hf hc
      refine lv_iconst (pc := 21) (v := 1) hx hb dX7_isSign_21 rfl ?_
      refine lv_goto (pc := 22) (tgt := 26) hx hb dX7_isSign_22 (by decide) ?_
      exact wX7_isSign_26 cx e1 e2 a0 hth _ _ _ _ _ _ _ hf hS (lv_sub hl [0] rfl)
theorem metX7_isSign (l : Launch) (a0 : Nat) (x1 : Int32) (h h' : jH) (r : Int32) (hth : jcd h a0 = some 7) (hf : (fX7_isSign a0 x1).1 h = some (r, h')) : jMet l yX7_isSign (ws_ yX7_isSign cX7_isSign 2 (Option.some Jvm.ClassFile.FieldType.boolean)) (0) (0) [.ref a0, .int x1] h h' (.returned (some (.int r))) := by
  refine jStart rfl (jle hf) (Nat.le_of_ble_eq_true rfl) ?_
  intro p e s m below meth c D dA H0 mc ms ls cx hnm e1 e2 hS hl
  have hth := jTh.mk hS hth
  exact wX7_isSign_0 cx e1 e2 a0 hth _ _ _ _ _ _ _ hf hS hl
def fX7_closes (N : Nat) (a0 : Nat) : jM Int32 := jB (fX7_isSign a0 59) fun y1 => if y1 = 0 then (jB (fX7_fails a0 1) fun y3 => jRn .boolean y3) else (jB (fX7_nextToken N a0) fun _ => jRn .boolean 1)
theorem wX7_closes_0 {N : Nat} {r : Int32} (cx : jCx p s m args meth c cX7_closes "WornSkinModel" 1 (Option.some Jvm.ClassFile.FieldType.boolean) D dA H0 hs.2.2.2.2) (e1 : h'.2.2.1 = hs.2.2.1 + mc) (e2 : h'.2.2.2.1 = hs.2.2.2.1 + ms) (a0 : Nat) (hth : jTh hs a0 7) : ∀ (h : jH) (H : Heap) (locs : List Loc) (cells slots : Nat) (ls : Array Slot), (fX7_closes N a0).1 h = some (r, h') → jS D dA H0 hs h H locs cells slots → lv_has ls 1 [(0, .ref a0)] → W p l e { frames := 2, cells := mc, slots := ms, locals := 42 } s m args below meth c H locs cells slots (jQ D dA H0 below s (.returned (some (.int r))) h' mc ms) (F0 m 0 ls []) := by
  have hx := cx.1
  have hb := cx.2.1
  have hown := cx.2.2.2.1
  have hts := cx.2.2.2.2.1
  have hm : h'.2.2.1 ≤ hs.2.2.1 + mc ∧ h'.2.2.2.1 ≤ hs.2.2.2.1 + ms := ⟨Nat.le_of_eq e1, Nat.le_of_eq e2⟩
  intro h H locs cells slots ls hf hS hl
  unfold fX7_closes at hf
  refine lv_aload_n (pc := 0) hx hb dX7_closes_0 rfl (lv_at hl 0 rfl) ?_
  refine lv_bipush (pc := 1) (v := 59) hx hb dX7_closes_1 rfl ?_
  obtain ⟨y1, h1, e9, hf⟩ := jB_some hf
  refine j_callV (pc := 3) (st1 := [.int y1]) (As := [.int 59]) (rest := []) cx hS rfl hl.1 hm (metX7_isSign l _ _ _ _ _ (hth.at hS) e9) (jle hf) (hth.at hS) rfl (lw_V q1957 q1959 qs66 q123 q1960) pdX7_isSign rfl rfl (Nat.le_of_ble_eq_true rfl) ⟨Nat.le_of_ble_eq_true rfl, Nat.le_of_ble_eq_true rfl⟩ dX7_closes_3 rfl (fun H locs cells slots hS => ?_)
  refine lv_if_ne (pc := 6) (tgt := 15) hx hb dX7_closes_6 (by decide) (fun hc => ?_) (fun hc => ?_)
  · have hf := jI_f hf hc
    refine lv_aload_n (pc := 15) hx hb dX7_closes_15 rfl (lv_at hl 0 rfl) ?_
    obtain ⟨_, h1, e9, hf⟩ := jB_some hf
    refine j_callV (pc := 16) (st1 := []) (As := []) (rest := []) cx hS rfl hl.1 hm (metX7_nextToken l _ _ _ _ _ (hth.at hS) e9) (jle hf) (hth.at hS) rfl (lw_V q1884 q1886 qs54 q123 q1887) pdX7_nextToken rfl rfl (Nat.le_of_ble_eq_true rfl) ⟨Nat.le_of_ble_eq_true rfl, Nat.le_of_ble_eq_true rfl⟩ dX7_closes_16 rfl (fun H locs cells slots hS => ?_)
    refine lv_iconst (pc := 19) (v := 1) hx hb dX7_closes_19 rfl ?_
    exact j_zret (pc := 20) cx (Or.inl rfl) hS hf e1 e2 dX7_closes_20
  · have hf := jI_t hf hc
    refine lv_aload_n (pc := 9) hx hb dX7_closes_9 rfl (lv_at hl 0 rfl) ?_
    refine lv_iconst (pc := 10) (v := 1) hx hb dX7_closes_10 rfl ?_
    obtain ⟨y3, h1, e9, hf⟩ := jB_some hf
    refine j_callV (pc := 11) (st1 := [.int y3]) (As := [.int 1]) (rest := []) cx hS rfl hl.1 hm (metX7_fails l _ _ _ _ _ (hth.at hS) e9) (jle hf) (hth.at hS) rfl (lw_V q1903 q1905 qs58 q123 q1906) pdX7_fails rfl rfl (Nat.le_of_ble_eq_true rfl) ⟨Nat.le_of_ble_eq_true rfl, Nat.le_of_ble_eq_true rfl⟩ dX7_closes_11 rfl (fun H locs cells slots hS => ?_)
    exact j_zret (pc := 14) cx (Or.inl rfl) hS hf e1 e2 dX7_closes_14
theorem metX7_closes (l : Launch) (N : Nat) (a0 : Nat) (h h' : jH) (r : Int32) (hth : jcd h a0 = some 7) (hf : (fX7_closes N a0).1 h = some (r, h')) : jMet l yX7_closes (ws_ yX7_closes cX7_closes 1 (Option.some Jvm.ClassFile.FieldType.boolean)) (2) (42) [.ref a0] h h' (.returned (some (.int r))) := by
  refine jStart rfl (jle hf) (Nat.le_of_ble_eq_true rfl) ?_
  intro p e s m below meth c D dA H0 mc ms ls cx hnm e1 e2 hS hl
  have hth := jTh.mk hS hth
  exact wX7_closes_0 cx e1 e2 a0 hth  _ _ _ _ _ _ hf hS hl
def fX7_readsSkin_45 (N : Nat) (a0 : Nat) : jM Int32 := jRn .boolean 0
def fX7_readsSkin (N : Nat) (a0 : Nat) : jM Int32 := jB (jgR [7] 10 (some a0)) fun y1 => jB (jaI 0 y1 3) fun y2 => if (3 + y2) = 6 then (jB (fX7_fails a0 5) fun y17 => jRn .boolean y17) else (jB (fX7_nextToken N a0) fun _ => jB (fX7_needsNew N a0) fun y4 => if y4 = 0 then (fX7_readsSkin_45 N a0) else (jB (fX7_needsBoth N a0 6564799 1 6) fun y5 => if y5 = 0 then (fX7_readsSkin_45 N a0) else (jB (jgR [7] 13 (some a0)) fun y6 => jB (jgI [7] 36 (some a0)) fun y7 => jB (jsI 0 y6 (3 + y2) y7) fun _ => jB (fX7_needsBoth N a0 10792937 1 30) fun y8 => if y8 = 0 then (jRn .boolean 0) else (jB (jgR [7] 14 (some a0)) fun y9 => jB (jgI [7] 36 (some a0)) fun y10 => jB (jsI 0 y9 (3 + y2) y10) fun _ => jB (jgR [7] 15 (some a0)) fun y11 => jB (jsI 0 y11 (3 + y2) 0) fun _ => jB (jgR [7] 11 (some a0)) fun y12 => jB (jgL [7] 37 (some a0)) fun y13 => jB (jsL 1 y12 (3 + y2) y13) fun _ => jB (jgR [7] 10 (some a0)) fun y14 => jB (jaI 0 y14 3) fun y15 => jB (jsI 0 y14 3 (y15 + 1)) fun _ => jB (fX7_closes N a0) fun y16 => jRn .boolean y16))))
theorem wX7_readsSkin_45 {N : Nat} {r : Int32} (cx : jCx p s m args meth c cX7_readsSkin "WornSkinModel" 2 (Option.some Jvm.ClassFile.FieldType.boolean) D dA H0 hs.2.2.2.2) (e1 : h'.2.2.1 = hs.2.2.1 + mc) (e2 : h'.2.2.2.1 = hs.2.2.2.1 + ms) (a0 : Nat) (hth : jTh hs a0 7) : ∀ (h : jH) (H : Heap) (locs : List Loc) (cells slots : Nat) (ls : Array Slot), (fX7_readsSkin_45 N a0).1 h = some (r, h') → jS D dA H0 hs h H locs cells slots → lv_has ls 2 [(0, .ref a0)] → W p l e { frames := 4, cells := mc, slots := ms, locals := 88 } s m args below meth c H locs cells slots (jQ D dA H0 below s (.returned (some (.int r))) h' mc ms) (F0 m 45 ls []) := by
  have hx := cx.1
  have hb := cx.2.1
  have hown := cx.2.2.2.1
  have hts := cx.2.2.2.2.1
  have hm : h'.2.2.1 ≤ hs.2.2.1 + mc ∧ h'.2.2.2.1 ≤ hs.2.2.2.1 + ms := ⟨Nat.le_of_eq e1, Nat.le_of_eq e2⟩
  intro h H locs cells slots ls hf hS hl
  unfold fX7_readsSkin_45 at hf
  refine lv_iconst (pc := 45) (v := 0) hx hb dX7_readsSkin_45 rfl ?_
  exact j_zret (pc := 46) cx (Or.inl rfl) hS hf e1 e2 dX7_readsSkin_46
theorem wX7_readsSkin_0 {N : Nat} {r : Int32} (cx : jCx p s m args meth c cX7_readsSkin "WornSkinModel" 2 (Option.some Jvm.ClassFile.FieldType.boolean) D dA H0 hs.2.2.2.2) (e1 : h'.2.2.1 = hs.2.2.1 + mc) (e2 : h'.2.2.2.1 = hs.2.2.2.1 + ms) (a0 : Nat) (hth : jTh hs a0 7) : ∀ (h : jH) (H : Heap) (locs : List Loc) (cells slots : Nat) (ls : Array Slot), (fX7_readsSkin N a0).1 h = some (r, h') → jS D dA H0 hs h H locs cells slots → lv_has ls 2 [(0, .ref a0)] → W p l e { frames := 4, cells := mc, slots := ms, locals := 88 } s m args below meth c H locs cells slots (jQ D dA H0 below s (.returned (some (.int r))) h' mc ms) (F0 m 0 ls []) := by
  have hx := cx.1
  have hb := cx.2.1
  have hown := cx.2.2.2.1
  have hts := cx.2.2.2.2.1
  have hm : h'.2.2.1 ≤ hs.2.2.1 + mc ∧ h'.2.2.2.1 ≤ hs.2.2.2.1 + ms := ⟨Nat.le_of_eq e1, Nat.le_of_eq e2⟩
  intro h H locs cells slots ls hf hS hl
  unfold fX7_readsSkin at hf
  refine lv_iconst (pc := 0) (v := 3) hx hb dX7_readsSkin_0 rfl ?_
  refine lv_aload_n (pc := 1) hx hb dX7_readsSkin_1 rfl (lv_at hl 0 rfl) ?_
  refine j_gR (pc := 2) cx hS hf fd_WornSkinModel_library q1694 dX7_readsSkin_2 (fun y1 hf => ?_)
  refine lv_iconst (pc := 5) (v := 3) hx hb dX7_readsSkin_5 rfl ?_
  refine j_aI (pc := 6) cx hS hf rfl dX7_readsSkin_6 (fun y2 hf => ?_)
  refine lv_iadd (pc := 7) hx hb dX7_readsSkin_7 ?_
  refine lv_istore_n (pc := 8) (i := 1) (lv' := [(1, .int (3 + y2)), (0, .ref a0)]) hx hb dX7_readsSkin_8 rfl hl (Nat.le_of_ble_eq_true rfl) rfl (fun ls hl => ?_)
  refine lv_iload_n (pc := 9) hx hb dX7_readsSkin_9 rfl (lv_at hl 0 rfl) ?_
  refine lv_bipush (pc := 10) (v := 6) hx hb dX7_readsSkin_10 rfl ?_
  refine lv_icmp_ne (pc := 12) (tgt := 21) hx hb dX7_readsSkin_12 (by decide) (fun hc => ?_) (fun hc => ?_)
  · have hf := jI_f hf hc
    refine lv_aload_n (pc := 21) hx hb dX7_readsSkin_21 rfl (lv_at hl 1 rfl) ?_
    obtain ⟨_, h1, e9, hf⟩ := jB_some hf
    refine j_callV (pc := 22) (st1 := []) (As := []) (rest := []) cx hS rfl hl.1 hm (metX7_nextToken l _ _ _ _ _ (hth.at hS) e9) (jle hf) (hth.at hS) rfl (lw_V q1884 q1886 qs54 q123 q1887) pdX7_nextToken rfl rfl (Nat.le_of_ble_eq_true rfl) ⟨Nat.le_of_ble_eq_true rfl, Nat.le_of_ble_eq_true rfl⟩ dX7_readsSkin_22 rfl (fun H locs cells slots hS => ?_)
    refine lv_aload_n (pc := 25) hx hb dX7_readsSkin_25 rfl (lv_at hl 1 rfl) ?_
    obtain ⟨y4, h1, e9, hf⟩ := jB_some hf
    refine j_callV (pc := 26) (st1 := [.int y4]) (As := []) (rest := []) cx hS rfl hl.1 hm (metX7_needsNew l _ _ _ _ _ (hth.at hS) e9) (jle hf) (hth.at hS) rfl (lw_V q1907 q1909 qs59 q123 q1910) pdX7_needsNew rfl rfl (Nat.le_of_ble_eq_true rfl) ⟨Nat.le_of_ble_eq_true rfl, Nat.le_of_ble_eq_true rfl⟩ dX7_readsSkin_26 rfl (fun H locs cells slots hS => ?_)
    refine lv_if_eq (pc := 29) (tgt := 45) hx hb dX7_readsSkin_29 (by decide) (fun hc => ?_) (fun hc => ?_)
    · have hf := jI_t hf hc
      exact wX7_readsSkin_45 cx e1 e2 a0 hth _ _ _ _ _ _ hf hS (lv_sub hl [1] rfl)
    · have hf := jI_f hf hc
      refine lv_aload_n (pc := 32) hx hb dX7_readsSkin_32 rfl (lv_at hl 1 rfl) ?_
      refine lv_ldc2 (pc := 33) (v := 6564799) hx hb hown (hts _ q1915) dX7_readsSkin_33 ?_
      refine lv_iconst (pc := 36) (v := 1) hx hb dX7_readsSkin_36 rfl ?_
      refine lv_bipush (pc := 37) (v := 6) hx hb dX7_readsSkin_37 rfl ?_
      obtain ⟨y5, h1, e9, hf⟩ := jB_some hf
      refine j_callV (pc := 39) (st1 := [.int y5]) (As := [.long 6564799, .int 1, .int 6]) (rest := []) cx hS rfl hl.1 hm (metX7_needsBoth l _ _ _ _ _ _ _ _ (hth.at hS) e9) (jle hf) (hth.at hS) rfl (lw_V q1942 q1944 qs63 q123 q1945) pdX7_needsBoth rfl rfl (Nat.le_of_ble_eq_true rfl) ⟨Nat.le_of_ble_eq_true rfl, Nat.le_of_ble_eq_true rfl⟩ dX7_readsSkin_39 rfl (fun H locs cells slots hS => ?_)
      refine lv_if_ne (pc := 42) (tgt := 47) hx hb dX7_readsSkin_42 (by decide) (fun hc => ?_) (fun hc => ?_)
      · have hf := jI_f hf hc
        refine lv_aload_n (pc := 47) hx hb dX7_readsSkin_47 rfl (lv_at hl 1 rfl) ?_
        refine j_gR (pc := 48) cx hS hf fd_WornSkinModel_linesOf q1697 dX7_readsSkin_48 (fun y6 hf => ?_)
        refine lv_iload_n (pc := 51) hx hb dX7_readsSkin_51 rfl (lv_at hl 0 rfl) ?_
        refine lv_aload_n (pc := 52) hx hb dX7_readsSkin_52 rfl (lv_at hl 1 rfl) ?_
        refine j_gI (pc := 53) cx hS hf fd_WornSkinModel_given q1720 dX7_readsSkin_53 (fun y7 hf => ?_)
        refine j_sI (pc := 56) cx hS hf rfl dX7_readsSkin_56 (fun h H locs hf hS => ?_)
        refine lv_aload_n (pc := 57) hx hb dX7_readsSkin_57 rfl (lv_at hl 1 rfl) ?_
        refine lv_ldc2 (pc := 58) (v := 10792937) hx hb hown (hts _ q1916) dX7_readsSkin_58 ?_
        refine lv_iconst (pc := 61) (v := 1) hx hb dX7_readsSkin_61 rfl ?_
        refine lv_bipush (pc := 62) (v := 30) hx hb dX7_readsSkin_62 rfl ?_
        obtain ⟨y8, h1, e9, hf⟩ := jB_some hf
        refine j_callV (pc := 64) (st1 := [.int y8]) (As := [.long 10792937, .int 1, .int 30]) (rest := []) cx hS rfl hl.1 hm (metX7_needsBoth l _ _ _ _ _ _ _ _ (hth.at hS) e9) (jle hf) (hth.at hS) rfl (lw_V q1942 q1944 qs63 q123 q1945) pdX7_needsBoth rfl rfl (Nat.le_of_ble_eq_true rfl) ⟨Nat.le_of_ble_eq_true rfl, Nat.le_of_ble_eq_true rfl⟩ dX7_readsSkin_64 rfl (fun H locs cells slots hS => ?_)
        refine lv_if_ne (pc := 67) (tgt := 72) hx hb dX7_readsSkin_67 (by decide) (fun hc => ?_) (fun hc => ?_)
        · have hf := jI_f hf hc
          refine lv_aload_n (pc := 72) hx hb dX7_readsSkin_72 rfl (lv_at hl 1 rfl) ?_
          refine j_gR (pc := 73) cx hS hf fd_WornSkinModel_thickTold q1698 dX7_readsSkin_73 (fun y9 hf => ?_)
          refine lv_iload_n (pc := 76) hx hb dX7_readsSkin_76 rfl (lv_at hl 0 rfl) ?_
          refine lv_aload_n (pc := 77) hx hb dX7_readsSkin_77 rfl (lv_at hl 1 rfl) ?_
          refine j_gI (pc := 78) cx hS hf fd_WornSkinModel_given q1720 dX7_readsSkin_78 (fun y10 hf => ?_)
          refine j_sI (pc := 81) cx hS hf rfl dX7_readsSkin_81 (fun h H locs hf hS => ?_)
          refine lv_aload_n (pc := 82) hx hb dX7_readsSkin_82 rfl (lv_at hl 1 rfl) ?_
          refine j_gR (pc := 83) cx hS hf fd_WornSkinModel_holes q1699 dX7_readsSkin_83 (fun y11 hf => ?_)
          refine lv_iload_n (pc := 86) hx hb dX7_readsSkin_86 rfl (lv_at hl 0 rfl) ?_
          refine lv_iconst (pc := 87) (v := 0) hx hb dX7_readsSkin_87 rfl ?_
          refine j_sI (pc := 88) cx hS hf rfl dX7_readsSkin_88 (fun h H locs hf hS => ?_)
          refine lv_aload_n (pc := 89) hx hb dX7_readsSkin_89 rfl (lv_at hl 1 rfl) ?_
          refine j_gR (pc := 90) cx hS hf fd_WornSkinModel_skinName q1695 dX7_readsSkin_90 (fun y12 hf => ?_)
          refine lv_iload_n (pc := 93) hx hb dX7_readsSkin_93 rfl (lv_at hl 0 rfl) ?_
          refine lv_aload_n (pc := 94) hx hb dX7_readsSkin_94 rfl (lv_at hl 1 rfl) ?_
          refine j_gL (pc := 95) cx hS hf fd_WornSkinModel_fresh q1721 dX7_readsSkin_95 (fun y13 hf => ?_)
          refine j_sL (pc := 98) cx hS hf rfl dX7_readsSkin_98 (fun h H locs hf hS => ?_)
          refine lv_aload_n (pc := 99) hx hb dX7_readsSkin_99 rfl (lv_at hl 1 rfl) ?_
          refine j_gR (pc := 100) cx hS hf fd_WornSkinModel_library q1694 dX7_readsSkin_100 (fun y14 hf => ?_)
          refine lv_iconst (pc := 103) (v := 3) hx hb dX7_readsSkin_103 rfl ?_
          refine lv_dup2_11 (pc := 104) hx hb dX7_readsSkin_104 rfl (jrfc _) ?_
          refine j_aI (pc := 105) cx hS hf rfl dX7_readsSkin_105 (fun y15 hf => ?_)
          refine lv_iconst (pc := 106) (v := 1) hx hb dX7_readsSkin_106 rfl ?_
          refine lv_iadd (pc := 107) hx hb dX7_readsSkin_107 ?_
          refine j_sI (pc := 108) cx hS hf rfl dX7_readsSkin_108 (fun h H locs hf hS => ?_)
          refine lv_aload_n (pc := 109) hx hb dX7_readsSkin_109 rfl (lv_at hl 1 rfl) ?_
          obtain ⟨y16, h1, e9, hf⟩ := jB_some hf
          refine j_callV (pc := 110) (st1 := [.int y16]) (As := []) (rest := []) cx hS rfl hl.1 hm (metX7_closes l _ _ _ _ _ (hth.at hS) e9) (jle hf) (hth.at hS) rfl (lw_V q1953 q1955 qs65 q123 q1956) pdX7_closes rfl rfl (Nat.le_of_ble_eq_true rfl) ⟨Nat.le_of_ble_eq_true rfl, Nat.le_of_ble_eq_true rfl⟩ dX7_readsSkin_110 rfl (fun H locs cells slots hS => ?_)
          exact j_zret (pc := 113) cx (Or.inl rfl) hS hf e1 e2 dX7_readsSkin_113
        · have hf := jI_t hf hc
          refine lv_iconst (pc := 70) (v := 0) hx hb dX7_readsSkin_70 rfl ?_
          exact j_zret (pc := 71) cx (Or.inl rfl) hS hf e1 e2 dX7_readsSkin_71
      · have hf := jI_t hf hc
        exact wX7_readsSkin_45 cx e1 e2 a0 hth _ _ _ _ _ _ hf hS (lv_sub hl [1] rfl)
  · have hf := jI_t hf hc
    refine lv_aload_n (pc := 15) hx hb dX7_readsSkin_15 rfl (lv_at hl 1 rfl) ?_
    refine lv_iconst (pc := 16) (v := 5) hx hb dX7_readsSkin_16 rfl ?_
    obtain ⟨y17, h1, e9, hf⟩ := jB_some hf
    refine j_callV (pc := 17) (st1 := [.int y17]) (As := [.int 5]) (rest := []) cx hS rfl hl.1 hm (metX7_fails l _ _ _ _ _ (hth.at hS) e9) (jle hf) (hth.at hS) rfl (lw_V q1903 q1905 qs58 q123 q1906) pdX7_fails rfl rfl (Nat.le_of_ble_eq_true rfl) ⟨Nat.le_of_ble_eq_true rfl, Nat.le_of_ble_eq_true rfl⟩ dX7_readsSkin_17 rfl (fun H locs cells slots hS => ?_)
    exact j_zret (pc := 20) cx (Or.inl rfl) hS hf e1 e2 dX7_readsSkin_20
theorem metX7_readsSkin (l : Launch) (N : Nat) (a0 : Nat) (h h' : jH) (r : Int32) (hth : jcd h a0 = some 7) (hf : (fX7_readsSkin N a0).1 h = some (r, h')) : jMet l yX7_readsSkin (ws_ yX7_readsSkin cX7_readsSkin 2 (Option.some Jvm.ClassFile.FieldType.boolean)) (4) (88) [.ref a0] h h' (.returned (some (.int r))) := by
  refine jStart rfl (jle hf) (Nat.le_of_ble_eq_true rfl) ?_
  intro p e s m below meth c D dA H0 mc ms ls cx hnm e1 e2 hS hl
  have hth := jTh.mk hS hth
  exact wX7_readsSkin_0 cx e1 e2 a0 hth  _ _ _ _ _ _ hf hS hl
def fX7_needsSkin (N : Nat) (a0 : Nat) (x1 : Int32) : jM Int32 := jB (fX7_isKept a0) fun y1 => if y1 = 0 then (jB (fX7_skinNamed N a0 x1) fun y2 => jB (jpI [7] 36 (some a0) y2) fun _ => jB (jgI [7] 36 (some a0)) fun y3 => if 0 ≤ y3 then (jB (fX7_nextToken N a0) fun _ => jRn .boolean 1) else (jB (fX7_fails a0 2) fun y5 => jRn .boolean y5)) else (jB (fX7_fails a0 1) fun y6 => jRn .boolean y6)
theorem wX7_needsSkin_0 {N : Nat} {r : Int32} (cx : jCx p s m args meth c cX7_needsSkin "WornSkinModel" 2 (Option.some Jvm.ClassFile.FieldType.boolean) D dA H0 hs.2.2.2.2) (e1 : h'.2.2.1 = hs.2.2.1 + mc) (e2 : h'.2.2.2.1 = hs.2.2.2.1 + ms) (a0 : Nat) (hth : jTh hs a0 7) : ∀ (x1 : Int32), ∀ (h : jH) (H : Heap) (locs : List Loc) (cells slots : Nat) (ls : Array Slot), (fX7_needsSkin N a0 x1).1 h = some (r, h') → jS D dA H0 hs h H locs cells slots → lv_has ls 2 [(0, .ref a0), (1, .int x1)] → W p l e { frames := 2, cells := mc, slots := ms, locals := 42 } s m args below meth c H locs cells slots (jQ D dA H0 below s (.returned (some (.int r))) h' mc ms) (F0 m 0 ls []) := by
  have hx := cx.1
  have hb := cx.2.1
  have hown := cx.2.2.2.1
  have hts := cx.2.2.2.2.1
  have hm : h'.2.2.1 ≤ hs.2.2.1 + mc ∧ h'.2.2.2.1 ≤ hs.2.2.2.1 + ms := ⟨Nat.le_of_eq e1, Nat.le_of_eq e2⟩
  intro x1 h H locs cells slots ls hf hS hl
  unfold fX7_needsSkin at hf
  refine lv_aload_n (pc := 0) hx hb dX7_needsSkin_0 rfl (lv_at hl 0 rfl) ?_
  obtain ⟨y1, h1, e9, hf⟩ := jB_some hf
  refine j_callV (pc := 1) (st1 := [.int y1]) (As := []) (rest := []) cx hS rfl hl.1 hm (metX7_isKept l _ _ _ _ (hth.at hS) e9) (jle hf) (hth.at hS) rfl (lw_V q1911 q1913 qs60 q123 q1914) pdX7_isKept rfl rfl (Nat.le_of_ble_eq_true rfl) ⟨Nat.le_of_ble_eq_true rfl, Nat.le_of_ble_eq_true rfl⟩ dX7_needsSkin_1 rfl (fun H locs cells slots hS => ?_)
  refine lv_if_eq (pc := 4) (tgt := 13) hx hb dX7_needsSkin_4 (by decide) (fun hc => ?_) (fun hc => ?_)
  · have hf := jI_t hf hc
    refine lv_aload_n (pc := 13) hx hb dX7_needsSkin_13 rfl (lv_at hl 0 rfl) ?_
    refine lv_aload_n (pc := 14) hx hb dX7_needsSkin_14 rfl (lv_at hl 0 rfl) ?_
    refine lv_iload_n (pc := 15) hx hb dX7_needsSkin_15 rfl (lv_at hl 1 rfl) ?_
    obtain ⟨y2, h1, e9, hf⟩ := jB_some hf
    refine j_callV (pc := 16) (st1 := [.int y2, .ref a0]) (As := [.int x1]) (rest := [.ref a0]) cx hS rfl hl.1 hm (metX7_skinNamed l _ _ _ _ _ _ (hth.at hS) e9) (jle hf) (hth.at hS) rfl (lw_V q1934 q1936 qs61 q123 q1937) pdX7_skinNamed rfl rfl (Nat.le_of_ble_eq_true rfl) ⟨Nat.le_of_ble_eq_true rfl, Nat.le_of_ble_eq_true rfl⟩ dX7_needsSkin_16 rfl (fun H locs cells slots hS => ?_)
    refine j_pI (pc := 19) cx hS hf fp_WornSkinModel_given (Or.inl rfl) q1720 dX7_needsSkin_19 (fun h H locs hf hS => ?_)
    refine lv_aload_n (pc := 22) hx hb dX7_needsSkin_22 rfl (lv_at hl 0 rfl) ?_
    refine j_gI (pc := 23) cx hS hf fd_WornSkinModel_given q1720 dX7_needsSkin_23 (fun y3 hf => ?_)
    refine lv_if_ge (pc := 26) (tgt := 35) hx hb dX7_needsSkin_26 (by decide) (fun hc => ?_) (fun hc => ?_)
    · have hf := jI_t hf hc
      refine lv_aload_n (pc := 35) hx hb dX7_needsSkin_35 rfl (lv_at hl 0 rfl) ?_
      obtain ⟨_, h1, e9, hf⟩ := jB_some hf
      refine j_callV (pc := 36) (st1 := []) (As := []) (rest := []) cx hS rfl hl.1 hm (metX7_nextToken l _ _ _ _ _ (hth.at hS) e9) (jle hf) (hth.at hS) rfl (lw_V q1884 q1886 qs54 q123 q1887) pdX7_nextToken rfl rfl (Nat.le_of_ble_eq_true rfl) ⟨Nat.le_of_ble_eq_true rfl, Nat.le_of_ble_eq_true rfl⟩ dX7_needsSkin_36 rfl (fun H locs cells slots hS => ?_)
      refine lv_iconst (pc := 39) (v := 1) hx hb dX7_needsSkin_39 rfl ?_
      exact j_zret (pc := 40) cx (Or.inl rfl) hS hf e1 e2 dX7_needsSkin_40
    · have hf := jI_f hf hc
      refine lv_aload_n (pc := 29) hx hb dX7_needsSkin_29 rfl (lv_at hl 0 rfl) ?_
      refine lv_iconst (pc := 30) (v := 2) hx hb dX7_needsSkin_30 rfl ?_
      obtain ⟨y5, h1, e9, hf⟩ := jB_some hf
      refine j_callV (pc := 31) (st1 := [.int y5]) (As := [.int 2]) (rest := []) cx hS rfl hl.1 hm (metX7_fails l _ _ _ _ _ (hth.at hS) e9) (jle hf) (hth.at hS) rfl (lw_V q1903 q1905 qs58 q123 q1906) pdX7_fails rfl rfl (Nat.le_of_ble_eq_true rfl) ⟨Nat.le_of_ble_eq_true rfl, Nat.le_of_ble_eq_true rfl⟩ dX7_needsSkin_31 rfl (fun H locs cells slots hS => ?_)
      exact j_zret (pc := 34) cx (Or.inl rfl) hS hf e1 e2 dX7_needsSkin_34
  · have hf := jI_f hf hc
    refine lv_aload_n (pc := 7) hx hb dX7_needsSkin_7 rfl (lv_at hl 0 rfl) ?_
    refine lv_iconst (pc := 8) (v := 1) hx hb dX7_needsSkin_8 rfl ?_
    obtain ⟨y6, h1, e9, hf⟩ := jB_some hf
    refine j_callV (pc := 9) (st1 := [.int y6]) (As := [.int 1]) (rest := []) cx hS rfl hl.1 hm (metX7_fails l _ _ _ _ _ (hth.at hS) e9) (jle hf) (hth.at hS) rfl (lw_V q1903 q1905 qs58 q123 q1906) pdX7_fails rfl rfl (Nat.le_of_ble_eq_true rfl) ⟨Nat.le_of_ble_eq_true rfl, Nat.le_of_ble_eq_true rfl⟩ dX7_needsSkin_9 rfl (fun H locs cells slots hS => ?_)
    exact j_zret (pc := 12) cx (Or.inl rfl) hS hf e1 e2 dX7_needsSkin_12
theorem metX7_needsSkin (l : Launch) (N : Nat) (a0 : Nat) (x1 : Int32) (h h' : jH) (r : Int32) (hth : jcd h a0 = some 7) (hf : (fX7_needsSkin N a0 x1).1 h = some (r, h')) : jMet l yX7_needsSkin (ws_ yX7_needsSkin cX7_needsSkin 2 (Option.some Jvm.ClassFile.FieldType.boolean)) (2) (42) [.ref a0, .int x1] h h' (.returned (some (.int r))) := by
  refine jStart rfl (jle hf) (Nat.le_of_ble_eq_true rfl) ?_
  intro p e s m below meth c D dA H0 mc ms ls cx hnm e1 e2 hS hl
  have hth := jTh.mk hS hth
  exact wX7_needsSkin_0 cx e1 e2 a0 hth _ _ _ _ _ _ _ hf hS hl
def fX7_readsHole (N : Nat) (a0 : Nat) : jM Int32 := jB (fX7_nextToken N a0) fun _ => jB (fX7_needsSkin N a0 1) fun y2 => if y2 = 0 then (jRn .boolean 0) else (jB (jgI [7] 36 (some a0)) fun y3 => jB (jgI [7] 6 (some a0)) fun y4 => if y4 = 2 then (jB (jgI [7] 8 (some a0)) fun y5 => jB (jgR [7] 13 (some a0)) fun y6 => jB (jaI 0 y6 (3 + y3)) fun y7 => if y5 < y7 then (jB (jgR [7] 15 (some a0)) fun y8 => jB (jaI 0 y8 (3 + y3)) fun y9 => jB (jgI [7] 8 (some a0)) fun y10 => if ((y9 >>> (y10 &&& 31)) &&& 1) = 1 then (jB (fX7_fails a0 3) fun y16 => jRn .boolean y16) else (jB (jgR [7] 15 (some a0)) fun y11 => jB (jaI 0 y11 (3 + y3)) fun y12 => jB (jgI [7] 8 (some a0)) fun y13 => jB (jsI 0 y11 (3 + y3) (y12 ||| (1 <<< (y13 &&& 31)))) fun _ => jB (fX7_nextToken N a0) fun _ => jB (fX7_closes N a0) fun y15 => jRn .boolean y15)) else (jB (fX7_fails a0 4) fun y17 => jRn .boolean y17)) else (jB (fX7_fails a0 1) fun y18 => jRn .boolean y18))
theorem wX7_readsHole_0 {N : Nat} {r : Int32} (cx : jCx p s m args meth c cX7_readsHole "WornSkinModel" 2 (Option.some Jvm.ClassFile.FieldType.boolean) D dA H0 hs.2.2.2.2) (e1 : h'.2.2.1 = hs.2.2.1 + mc) (e2 : h'.2.2.2.1 = hs.2.2.2.1 + ms) (a0 : Nat) (hth : jTh hs a0 7) : ∀ (h : jH) (H : Heap) (locs : List Loc) (cells slots : Nat) (ls : Array Slot), (fX7_readsHole N a0).1 h = some (r, h') → jS D dA H0 hs h H locs cells slots → lv_has ls 2 [(0, .ref a0)] → W p l e { frames := 3, cells := mc, slots := ms, locals := 63 } s m args below meth c H locs cells slots (jQ D dA H0 below s (.returned (some (.int r))) h' mc ms) (F0 m 0 ls []) := by
  have hx := cx.1
  have hb := cx.2.1
  have hown := cx.2.2.2.1
  have hts := cx.2.2.2.2.1
  have hm : h'.2.2.1 ≤ hs.2.2.1 + mc ∧ h'.2.2.2.1 ≤ hs.2.2.2.1 + ms := ⟨Nat.le_of_eq e1, Nat.le_of_eq e2⟩
  intro h H locs cells slots ls hf hS hl
  unfold fX7_readsHole at hf
  refine lv_aload_n (pc := 0) hx hb dX7_readsHole_0 rfl (lv_at hl 0 rfl) ?_
  obtain ⟨_, h1, e9, hf⟩ := jB_some hf
  refine j_callV (pc := 1) (st1 := []) (As := []) (rest := []) cx hS rfl hl.1 hm (metX7_nextToken l _ _ _ _ _ (hth.at hS) e9) (jle hf) (hth.at hS) rfl (lw_V q1884 q1886 qs54 q123 q1887) pdX7_nextToken rfl rfl (Nat.le_of_ble_eq_true rfl) ⟨Nat.le_of_ble_eq_true rfl, Nat.le_of_ble_eq_true rfl⟩ dX7_readsHole_1 rfl (fun H locs cells slots hS => ?_)
  refine lv_aload_n (pc := 4) hx hb dX7_readsHole_4 rfl (lv_at hl 0 rfl) ?_
  refine lv_iconst (pc := 5) (v := 1) hx hb dX7_readsHole_5 rfl ?_
  obtain ⟨y2, h1, e9, hf⟩ := jB_some hf
  refine j_callV (pc := 6) (st1 := [.int y2]) (As := [.int 1]) (rest := []) cx hS rfl hl.1 hm (metX7_needsSkin l _ _ _ _ _ _ (hth.at hS) e9) (jle hf) (hth.at hS) rfl (lw_V q1965 q1967 qs68 q123 q1968) pdX7_needsSkin rfl rfl (Nat.le_of_ble_eq_true rfl) ⟨Nat.le_of_ble_eq_true rfl, Nat.le_of_ble_eq_true rfl⟩ dX7_readsHole_6 rfl (fun H locs cells slots hS => ?_)
  refine lv_if_ne (pc := 9) (tgt := 14) hx hb dX7_readsHole_9 (by decide) (fun hc => ?_) (fun hc => ?_)
  · have hf := jI_f hf hc
    refine lv_iconst (pc := 14) (v := 3) hx hb dX7_readsHole_14 rfl ?_
    refine lv_aload_n (pc := 15) hx hb dX7_readsHole_15 rfl (lv_at hl 0 rfl) ?_
    refine j_gI (pc := 16) cx hS hf fd_WornSkinModel_given q1720 dX7_readsHole_16 (fun y3 hf => ?_)
    refine lv_iadd (pc := 19) hx hb dX7_readsHole_19 ?_
    refine lv_istore_n (pc := 20) (i := 1) (lv' := [(1, .int (3 + y3)), (0, .ref a0)]) hx hb dX7_readsHole_20 rfl hl (Nat.le_of_ble_eq_true rfl) rfl (fun ls hl => ?_)
    refine lv_aload_n (pc := 21) hx hb dX7_readsHole_21 rfl (lv_at hl 1 rfl) ?_
    refine j_gI (pc := 22) cx hS hf fd_WornSkinModel_token q1690 dX7_readsHole_22 (fun y4 hf => ?_)
    refine lv_iconst (pc := 25) (v := 2) hx hb dX7_readsHole_25 rfl ?_
    refine lv_icmp_eq (pc := 26) (tgt := 35) hx hb dX7_readsHole_26 (by decide) (fun hc => ?_) (fun hc => ?_)
    · have hf := jI_t hf hc
      refine lv_aload_n (pc := 35) hx hb dX7_readsHole_35 rfl (lv_at hl 1 rfl) ?_
      refine j_gI (pc := 36) cx hS hf fd_WornSkinModel_told q1692 dX7_readsHole_36 (fun y5 hf => ?_)
      refine lv_aload_n (pc := 39) hx hb dX7_readsHole_39 rfl (lv_at hl 1 rfl) ?_
      refine j_gR (pc := 40) cx hS hf fd_WornSkinModel_linesOf q1697 dX7_readsHole_40 (fun y6 hf => ?_)
      refine lv_iload_n (pc := 43) hx hb dX7_readsHole_43 rfl (lv_at hl 0 rfl) ?_
      refine j_aI (pc := 44) cx hS hf rfl dX7_readsHole_44 (fun y7 hf => ?_)
      refine lv_icmp_lt (pc := 45) (tgt := 54) hx hb dX7_readsHole_45 (by decide) (fun hc => ?_) (fun hc => ?_)
      · have hf := jI_t hf hc
        refine lv_aload_n (pc := 54) hx hb dX7_readsHole_54 rfl (lv_at hl 1 rfl) ?_
        refine j_gR (pc := 55) cx hS hf fd_WornSkinModel_holes q1699 dX7_readsHole_55 (fun y8 hf => ?_)
        refine lv_iload_n (pc := 58) hx hb dX7_readsHole_58 rfl (lv_at hl 0 rfl) ?_
        refine j_aI (pc := 59) cx hS hf rfl dX7_readsHole_59 (fun y9 hf => ?_)
        refine lv_aload_n (pc := 60) hx hb dX7_readsHole_60 rfl (lv_at hl 1 rfl) ?_
        refine j_gI (pc := 61) cx hS hf fd_WornSkinModel_told q1692 dX7_readsHole_61 (fun y10 hf => ?_)
        refine lv_ishr (pc := 64) hx hb dX7_readsHole_64 ?_
        refine lv_iconst (pc := 65) (v := 1) hx hb dX7_readsHole_65 rfl ?_
        refine lv_iand (pc := 66) hx hb dX7_readsHole_66 ?_
        refine lv_iconst (pc := 67) (v := 1) hx hb dX7_readsHole_67 rfl ?_
        refine lv_icmp_ne (pc := 68) (tgt := 77) hx hb dX7_readsHole_68 (by decide) (fun hc => ?_) (fun hc => ?_)
        · have hf := jI_f hf hc
          refine lv_aload_n (pc := 77) hx hb dX7_readsHole_77 rfl (lv_at hl 1 rfl) ?_
          refine j_gR (pc := 78) cx hS hf fd_WornSkinModel_holes q1699 dX7_readsHole_78 (fun y11 hf => ?_)
          refine lv_iload_n (pc := 81) hx hb dX7_readsHole_81 rfl (lv_at hl 0 rfl) ?_
          refine lv_dup2_11 (pc := 82) hx hb dX7_readsHole_82 rfl (jrfc _) ?_
          refine j_aI (pc := 83) cx hS hf rfl dX7_readsHole_83 (fun y12 hf => ?_)
          refine lv_iconst (pc := 84) (v := 1) hx hb dX7_readsHole_84 rfl ?_
          refine lv_aload_n (pc := 85) hx hb dX7_readsHole_85 rfl (lv_at hl 1 rfl) ?_
          refine j_gI (pc := 86) cx hS hf fd_WornSkinModel_told q1692 dX7_readsHole_86 (fun y13 hf => ?_)
          refine lv_ishl (pc := 89) hx hb dX7_readsHole_89 ?_
          refine lv_ior (pc := 90) hx hb dX7_readsHole_90 ?_
          refine j_sI (pc := 91) cx hS hf rfl dX7_readsHole_91 (fun h H locs hf hS => ?_)
          refine lv_aload_n (pc := 92) hx hb dX7_readsHole_92 rfl (lv_at hl 1 rfl) ?_
          obtain ⟨_, h1, e9, hf⟩ := jB_some hf
          refine j_callV (pc := 93) (st1 := []) (As := []) (rest := []) cx hS rfl hl.1 hm (metX7_nextToken l _ _ _ _ _ (hth.at hS) e9) (jle hf) (hth.at hS) rfl (lw_V q1884 q1886 qs54 q123 q1887) pdX7_nextToken rfl rfl (Nat.le_of_ble_eq_true rfl) ⟨Nat.le_of_ble_eq_true rfl, Nat.le_of_ble_eq_true rfl⟩ dX7_readsHole_93 rfl (fun H locs cells slots hS => ?_)
          refine lv_aload_n (pc := 96) hx hb dX7_readsHole_96 rfl (lv_at hl 1 rfl) ?_
          obtain ⟨y15, h1, e9, hf⟩ := jB_some hf
          refine j_callV (pc := 97) (st1 := [.int y15]) (As := []) (rest := []) cx hS rfl hl.1 hm (metX7_closes l _ _ _ _ _ (hth.at hS) e9) (jle hf) (hth.at hS) rfl (lw_V q1953 q1955 qs65 q123 q1956) pdX7_closes rfl rfl (Nat.le_of_ble_eq_true rfl) ⟨Nat.le_of_ble_eq_true rfl, Nat.le_of_ble_eq_true rfl⟩ dX7_readsHole_97 rfl (fun H locs cells slots hS => ?_)
          exact j_zret (pc := 100) cx (Or.inl rfl) hS hf e1 e2 dX7_readsHole_100
        · have hf := jI_t hf hc
          refine lv_aload_n (pc := 71) hx hb dX7_readsHole_71 rfl (lv_at hl 1 rfl) ?_
          refine lv_iconst (pc := 72) (v := 3) hx hb dX7_readsHole_72 rfl ?_
          obtain ⟨y16, h1, e9, hf⟩ := jB_some hf
          refine j_callV (pc := 73) (st1 := [.int y16]) (As := [.int 3]) (rest := []) cx hS rfl hl.1 hm (metX7_fails l _ _ _ _ _ (hth.at hS) e9) (jle hf) (hth.at hS) rfl (lw_V q1903 q1905 qs58 q123 q1906) pdX7_fails rfl rfl (Nat.le_of_ble_eq_true rfl) ⟨Nat.le_of_ble_eq_true rfl, Nat.le_of_ble_eq_true rfl⟩ dX7_readsHole_73 rfl (fun H locs cells slots hS => ?_)
          exact j_zret (pc := 76) cx (Or.inl rfl) hS hf e1 e2 dX7_readsHole_76
      · have hf := jI_f hf hc
        refine lv_aload_n (pc := 48) hx hb dX7_readsHole_48 rfl (lv_at hl 1 rfl) ?_
        refine lv_iconst (pc := 49) (v := 4) hx hb dX7_readsHole_49 rfl ?_
        obtain ⟨y17, h1, e9, hf⟩ := jB_some hf
        refine j_callV (pc := 50) (st1 := [.int y17]) (As := [.int 4]) (rest := []) cx hS rfl hl.1 hm (metX7_fails l _ _ _ _ _ (hth.at hS) e9) (jle hf) (hth.at hS) rfl (lw_V q1903 q1905 qs58 q123 q1906) pdX7_fails rfl rfl (Nat.le_of_ble_eq_true rfl) ⟨Nat.le_of_ble_eq_true rfl, Nat.le_of_ble_eq_true rfl⟩ dX7_readsHole_50 rfl (fun H locs cells slots hS => ?_)
        exact j_zret (pc := 53) cx (Or.inl rfl) hS hf e1 e2 dX7_readsHole_53
    · have hf := jI_f hf hc
      refine lv_aload_n (pc := 29) hx hb dX7_readsHole_29 rfl (lv_at hl 1 rfl) ?_
      refine lv_iconst (pc := 30) (v := 1) hx hb dX7_readsHole_30 rfl ?_
      obtain ⟨y18, h1, e9, hf⟩ := jB_some hf
      refine j_callV (pc := 31) (st1 := [.int y18]) (As := [.int 1]) (rest := []) cx hS rfl hl.1 hm (metX7_fails l _ _ _ _ _ (hth.at hS) e9) (jle hf) (hth.at hS) rfl (lw_V q1903 q1905 qs58 q123 q1906) pdX7_fails rfl rfl (Nat.le_of_ble_eq_true rfl) ⟨Nat.le_of_ble_eq_true rfl, Nat.le_of_ble_eq_true rfl⟩ dX7_readsHole_31 rfl (fun H locs cells slots hS => ?_)
      exact j_zret (pc := 34) cx (Or.inl rfl) hS hf e1 e2 dX7_readsHole_34
  · have hf := jI_t hf hc
    refine lv_iconst (pc := 12) (v := 0) hx hb dX7_readsHole_12 rfl ?_
    exact j_zret (pc := 13) cx (Or.inl rfl) hS hf e1 e2 dX7_readsHole_13
theorem metX7_readsHole (l : Launch) (N : Nat) (a0 : Nat) (h h' : jH) (r : Int32) (hth : jcd h a0 = some 7) (hf : (fX7_readsHole N a0).1 h = some (r, h')) : jMet l yX7_readsHole (ws_ yX7_readsHole cX7_readsHole 2 (Option.some Jvm.ClassFile.FieldType.boolean)) (3) (63) [.ref a0] h h' (.returned (some (.int r))) := by
  refine jStart rfl (jle hf) (Nat.le_of_ble_eq_true rfl) ?_
  intro p e s m below meth c D dA H0 mc ms ls cx hnm e1 e2 hS hl
  have hth := jTh.mk hS hth
  exact wX7_readsHole_0 cx e1 e2 a0 hth  _ _ _ _ _ _ hf hS hl
end
