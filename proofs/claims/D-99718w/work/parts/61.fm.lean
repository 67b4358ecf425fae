set_option maxRecDepth 100000
section
variable {p : Program} {l : Launch} {e : Env} {s : State} {m : MethodId} {args : Array Value} {below : List Frame} {meth : Method} {c : Code} {D : va_G} {dA : Nat → ClassId → Prop} {H0 : Heap} {hs h' : jH} {mc ms : Nat}
def fX7_readsText_151 (N : Nat) (a0 : Nat) (x1 : Int32) (v0 : Option Nat) (v1 : Int32) (v2 : Int32) : jM Int32 := jB (jsI 0 v0 v1 v2) fun _ => jB (jgR [7] 17 (some a0)) fun y1 => jB (jaI 0 y1 x1) fun y2 => if 0 ≤ y2 then (jB (fX7_nextToken N a0) fun _ => jB (fX7_needsBoth N a0 6564799 1 6) fun y4 => if y4 = 0 then (jRn .boolean 0) else (jB (jgR [7] 18 (some a0)) fun y5 => jB (jgI [7] 36 (some a0)) fun y6 => jB (jsI 0 y5 x1 y6) fun _ => jB (jgR [7] 12 (some a0)) fun y7 => jB (jgL [7] 37 (some a0)) fun y8 => jB (jsL 1 y7 x1 y8) fun _ => jB (jgR [7] 10 (some a0)) fun y9 => jB (jaI 0 y9 4) fun y10 => jB (jsI 0 y9 4 (y10 + 1)) fun _ => jB (fX7_closes N a0) fun y11 => jRn .boolean y11)) else (jB (fX7_fails a0 1) fun y12 => jRn .boolean y12)
def fX7_readsText_97 (N : Nat) (a0 : Nat) (x1 : Int32) (v0 : Option Nat) (v1 : Int32) (v2 : Int32) : jM Int32 := jB (jsI 0 v0 v1 v2) fun _ => jB (jgR [7] 16 (some a0)) fun y1 => jB (jaI 0 y1 x1) fun y2 => if 0 ≤ y2 then (jB (fX7_nextToken N a0) fun _ => jB (jgR [7] 17 (some a0)) fun y4 => jB (fX7_isWord a0 138846) fun y5 => if y5 = 0 then (jB (fX7_isWord a0 385337) fun y6 => if y6 = 0 then (fX7_readsText_151 N a0 x1 y4 x1 (-1)) else (fX7_readsText_151 N a0 x1 y4 x1 0)) else (fX7_readsText_151 N a0 x1 y4 x1 1)) else (jB (fX7_fails a0 1) fun y7 => jRn .boolean y7)
def fX7_readsText (N : Nat) (a0 : Nat) : jM Int32 := jB (jgR [7] 10 (some a0)) fun y1 => jB (jaI 0 y1 4) fun y2 => if (6 + y2) = 12 then (jB (fX7_fails a0 5) fun y10 => jRn .boolean y10) else (jB (fX7_nextToken N a0) fun _ => jB (fX7_needsNew N a0) fun y4 => if y4 = 0 then (jRn .boolean 0) else (jB (jgR [7] 16 (some a0)) fun y5 => jB (fX7_isWord a0 1277953191) fun y6 => if y6 = 0 then (jB (fX7_isWord a0 8878099) fun y7 => if y7 = 0 then (jB (fX7_isWord a0 261003578) fun y8 => if y8 = 0 then (jB (fX7_isWord a0 296522) fun y9 => if y9 = 0 then (fX7_readsText_97 N a0 (6 + y2) y5 (6 + y2) (-1)) else (fX7_readsText_97 N a0 (6 + y2) y5 (6 + y2) 3)) else (fX7_readsText_97 N a0 (6 + y2) y5 (6 + y2) 2)) else (fX7_readsText_97 N a0 (6 + y2) y5 (6 + y2) 1)) else (fX7_readsText_97 N a0 (6 + y2) y5 (6 + y2) 0)))
theorem wX7_readsText_151 {N : Nat} {r : Int32} (cx : jCx p s m args meth c cX7_readsText "WornSkinModel" 2 (Option.some Jvm.ClassFile.FieldType.boolean) D dA H0 hs.2.2.2.2) (e1 : h'.2.2.1 = hs.2.2.1 + mc) (e2 : h'.2.2.2.1 = hs.2.2.2.1 + ms) (a0 : Nat) (hth : jTh hs a0 7) : ∀ (x1 : Int32) (v0 : Option Nat) (v1 : Int32) (v2 : Int32), ∀ (h : jH) (H : Heap) (locs : List Loc) (cells slots : Nat) (ls : Array Slot), (fX7_readsText_151 N a0 x1 v0 v1 v2).1 h = some (r, h') → jS D dA H0 hs h H locs cells slots → lv_has ls 2 [(0, .ref a0), (1, .int x1)] → W p l e { frames := 4, cells := mc, slots := ms, locals := 88 } s m args below meth c H locs cells slots (jQ D dA H0 below s (.returned (some (.int r))) h' mc ms) (F0 m 151 ls [.int v2, .int v1, va_rf v0]) := by
  have hx := cx.1
  have hb := cx.2.1
  have hown := cx.2.2.2.1
  have hts := cx.2.2.2.2.1
  have hm : h'.2.2.1 ≤ hs.2.2.1 + mc ∧ h'.2.2.2.1 ≤ hs.2.2.2.1 + ms := ⟨Nat.le_of_eq e1, Nat.le_of_eq e2⟩
  intro x1 v0 v1 v2 h H locs cells slots ls hf hS hl
  unfold fX7_readsText_151 at hf
  refine j_sI (pc := 151) cx hS hf rfl dX7_readsText_151 (fun h H locs hf hS => ?_)
  refine lv_aload_n (pc := 152) hx hb dX7_readsText_152 rfl (lv_at hl 0 rfl) ?_
  refine j_gR (pc := 153) cx hS hf fd_WornSkinModel_gall q1701 dX7_readsText_153 (fun y1 hf => ?_)
  refine lv_iload_n (pc := 156) hx hb dX7_readsText_156 rfl (lv_at hl 1 rfl) ?_
  refine j_aI (pc := 157) cx hS hf rfl dX7_readsText_157 (fun y2 hf => ?_)
  refine lv_if_ge (pc := 158) (tgt := 167) hx hb dX7_readsText_158 (by decide) (fun hc => ?_) (fun hc => ?_)
  · have hf := jI_t hf hc
    refine lv_aload_n (pc := 167) hx hb dX7_readsText_167 rfl (lv_at hl 0 rfl) ?_
    obtain ⟨_, h1, e9, hf⟩ := jB_some hf
    refine j_callV (pc := 168) (st1 := []) (As := []) (rest := []) cx hS rfl hl.1 hm (metX7_nextToken l _ _ _ _ _ (hth.at hS) e9) (jle hf) (hth.at hS) rfl (lw_V q1884 q1886 qs54 q123 q1887) pdX7_nextToken rfl rfl (Nat.le_of_ble_eq_true rfl) ⟨Nat.le_of_ble_eq_true rfl, Nat.le_of_ble_eq_true rfl⟩ dX7_readsText_168 rfl (fun H locs cells slots hS => ?_)
    refine lv_aload_n (pc := 171) hx hb dX7_readsText_171 rfl (lv_at hl 0 rfl) ?_
    refine lv_ldc2 (pc := 172) (v := 6564799) hx hb hown (hts _ q1915) dX7_readsText_172 ?_
    refine lv_iconst (pc := 175) (v := 1) hx hb dX7_readsText_175 rfl ?_
    refine lv_bipush (pc := 176) (v := 6) hx hb dX7_readsText_176 rfl ?_
    obtain ⟨y4, h1, e9, hf⟩ := jB_some hf
    refine j_callV (pc := 178) (st1 := [.int y4]) (As := [.long 6564799, .int 1, .int 6]) (rest := []) cx hS rfl hl.1 hm (metX7_needsBoth l _ _ _ _ _ _ _ _ (hth.at hS) e9) (jle hf) (hth.at hS) rfl (lw_V q1942 q1944 qs63 q123 q1945) pdX7_needsBoth rfl rfl (Nat.le_of_ble_eq_true rfl) ⟨Nat.le_of_ble_eq_true rfl, Nat.le_of_ble_eq_true rfl⟩ dX7_readsText_178 rfl (fun H locs cells slots hS => ?_)
    refine lv_if_ne (pc := 181) (tgt := 186) hx hb dX7_readsText_181 (by decide) (fun hc => ?_) (fun hc => ?_)
    · have hf := jI_f hf hc
      refine lv_aload_n (pc := 186) hx hb dX7_readsText_186 rfl (lv_at hl 0 rfl) ?_
      refine j_gR (pc := 187) cx hS hf fd_WornSkinModel_long0 q1702 dX7_readsText_187 (fun y5 hf => ?_)
      refine lv_iload_n (pc := 190) hx hb dX7_readsText_190 rfl (lv_at hl 1 rfl) ?_
      refine lv_aload_n (pc := 191) hx hb dX7_readsText_191 rfl (lv_at hl 0 rfl) ?_
      refine j_gI (pc := 192) cx hS hf fd_WornSkinModel_given q1720 dX7_readsText_192 (fun y6 hf => ?_)
      refine j_sI (pc := 195) cx hS hf rfl dX7_readsText_195 (fun h H locs hf hS => ?_)
      refine lv_aload_n (pc := 196) hx hb dX7_readsText_196 rfl (lv_at hl 0 rfl) ?_
      refine j_gR (pc := 197) cx hS hf fd_WornSkinModel_textName q1696 dX7_readsText_197 (fun y7 hf => ?_)
      refine lv_iload_n (pc := 200) hx hb dX7_readsText_200 rfl (lv_at hl 1 rfl) ?_
      refine lv_aload_n (pc := 201) hx hb dX7_readsText_201 rfl (lv_at hl 0 rfl) ?_
      refine j_gL (pc := 202) cx hS hf fd_WornSkinModel_fresh q1721 dX7_readsText_202 (fun y8 hf => ?_)
      refine j_sL (pc := 205) cx hS hf rfl dX7_readsText_205 (fun h H locs hf hS => ?_)
      refine lv_aload_n (pc := 206) hx hb dX7_readsText_206 rfl (lv_at hl 0 rfl) ?_
      refine j_gR (pc := 207) cx hS hf fd_WornSkinModel_library q1694 dX7_readsText_207 (fun y9 hf => ?_)
      refine lv_iconst (pc := 210) (v := 4) hx hb dX7_readsText_210 rfl ?_
      refine lv_dup2_11 (pc := 211) hx hb dX7_readsText_211 rfl (jrfc _) ?_
      refine j_aI (pc := 212) cx hS hf rfl dX7_readsText_212 (fun y10 hf => ?_)
      refine lv_iconst (pc := 213) (v := 1) hx hb dX7_readsText_213 rfl ?_
      refine lv_iadd (pc := 214) hx hb dX7_readsText_214 ?_
      refine j_sI (pc := 215) cx hS hf rfl dX7_readsText_215 (fun h H locs hf hS => ?_)
      refine lv_aload_n (pc := 216) hx hb dX7_readsText_216 rfl (lv_at hl 0 rfl) ?_
      obtain ⟨y11, h1, e9, hf⟩ := jB_some hf
      refine j_callV (pc := 217) (st1 := [.int y11]) (As := []) (rest := []) cx hS rfl hl.1 hm (metX7_closes l _ _ _ _ _ (hth.at hS) e9) (jle hf) (hth.at hS) rfl (lw_V q1953 q1955 qs65 q123 q1956) pdX7_closes rfl rfl (Nat.le_of_ble_eq_true rfl) ⟨Nat.le_of_ble_eq_true rfl, Nat.le_of_ble_eq_true rfl⟩ dX7_readsText_217 rfl (fun H locs cells slots hS => ?_)
      exact j_zret (pc := 220) cx (Or.inl rfl) hS hf e1 e2 dX7_readsText_220
    · have hf := jI_t hf hc
      refine lv_iconst (pc := 184) (v := 0) hx hb dX7_readsText_184 rfl ?_
      exact j_zret (pc := 185) cx (Or.inl rfl) hS hf e1 e2 dX7_readsText_185
  · have hf := jI_f hf hc
    refine lv_aload_n (pc := 161) hx hb dX7_readsText_161 rfl (lv_at hl 0 rfl) ?_
    refine lv_iconst (pc := 162) (v := 1) hx hb dX7_readsText_162 rfl ?_
    obtain ⟨y12, h1, e9, hf⟩ := jB_some hf
    refine j_callV (pc := 163) (st1 := [.int y12]) (As := [.int 1]) (rest := []) cx hS rfl hl.1 hm (metX7_fails l _ _ _ _ _ (hth.at hS) e9) (jle hf) (hth.at hS) rfl (lw_V q1903 q1905 qs58 q123 q1906) pdX7_fails rfl rfl (Nat.le_of_ble_eq_true rfl) ⟨Nat.le_of_ble_eq_true rfl, Nat.le_of_ble_eq_true rfl⟩ dX7_readsText_163 rfl (fun H locs cells slots hS => ?_)
    exact j_zret (pc := 166) cx (Or.inl rfl) hS hf e1 e2 dX7_readsText_166
theorem wX7_readsText_97 {N : Nat} {r : Int32} (cx : jCx p s m args meth c cX7_readsText "WornSkinModel" 2 (Option.some Jvm.ClassFile.FieldType.boolean) D dA H0 hs.2.2.2.2) (e1 : h'.2.2.1 = hs.2.2.1 + mc) (e2 : h'.2.2.2.1 = hs.2.2.2.1 + ms) (a0 : Nat) (hth : jTh hs a0 7) : ∀ (x1 : Int32) (v0 : Option Nat) (v1 : Int32) (v2 : Int32), ∀ (h : jH) (H : Heap) (locs : List Loc) (cells slots : Nat) (ls : Array Slot), (fX7_readsText_97 N a0 x1 v0 v1 v2).1 h = some (r, h') → jS D dA H0 hs h H locs cells slots → lv_has ls 2 [(0, .ref a0), (1, .int x1)] → W p l e { frames := 4, cells := mc, slots := ms, locals := 88 } s m args below meth c H locs cells slots (jQ D dA H0 below s (.returned (some (.int r))) h' mc ms) (F0 m 97 ls [.int v2, .int v1, va_rf v0]) := by
  have hx := cx.1
  have hb := cx.2.1
  have hown := cx.2.2.2.1
  have hts := cx.2.2.2.2.1
  have hm : h'.2.2.1 ≤ hs.2.2.1 + mc ∧ h'.2.2.2.1 ≤ hs.2.2.2.1 + ms := ⟨Nat.le_of_eq e1, Nat.le_of_eq e2⟩
  intro x1 v0 v1 v2 h H locs cells slots ls hf hS hl
  unfold fX7_readsText_97 at hf
  refine j_sI (pc := 97) cx hS hf rfl dX7_readsText_97 (fun h H locs hf hS => ?_)
  refine lv_aload_n (pc := 98) hx hb dX7_readsText_98 rfl (lv_at hl 0 rfl) ?_
  refine j_gR (pc := 99) cx hS hf fd_WornSkinModel_kind q1700 dX7_readsText_99 (fun y1 hf => ?_)
  refine lv_iload_n (pc := 102) hx hb dX7_readsText_102 rfl (lv_at hl 1 rfl) ?_
  refine j_aI (pc := 103) cx hS hf rfl dX7_readsText_103 (fun y2 hf => ?_)
  refine lv_if_ge (pc := 104) (tgt := 113) hx hb dX7_readsText_104 (by decide) (fun hc => ?_) (fun hc => ?_)
  · have hf := jI_t hf hc
    refine lv_aload_n (pc := 113) hx hb dX7_readsText_113 rfl (lv_at hl 0 rfl) ?_
    obtain ⟨_, h1, e9, hf⟩ := jB_some hf
    refine j_callV (pc := 114) (st1 := []) (As := []) (rest := []) cx hS rfl hl.1 hm (metX7_nextToken l _ _ _ _ _ (hth.at hS) e9) (jle hf) (hth.at hS) rfl (lw_V q1884 q1886 qs54 q123 q1887) pdX7_nextToken rfl rfl (Nat.le_of_ble_eq_true rfl) ⟨Nat.le_of_ble_eq_true rfl, Nat.le_of_ble_eq_true rfl⟩ dX7_readsText_114 rfl (fun H locs cells slots hS => ?_)
    refine lv_aload_n (pc := 117) hx hb dX7_readsText_117 rfl (lv_at hl 0 rfl) ?_
    refine j_gR (pc := 118) cx hS hf fd_WornSkinModel_gall q1701 dX7_readsText_118 (fun y4 hf => ?_)
    refine lv_iload_n (pc := 121) hx hb dX7_readsText_121 rfl (lv_at hl 1 rfl) ?_
    refine lv_aload_n (pc := 122) hx hb dX7_readsText_122 rfl (lv_at hl 0 rfl) ?_
    refine lv_ldc2 (pc := 123) (v := 138846) hx hb hown (hts _ q1925) dX7_readsText_123 ?_
    obtain ⟨y5, h1, e9, hf⟩ := jB_some hf
    refine j_callV (pc := 126) (st1 := [.int y5, .int x1, va_rf y4]) (As := [.long 138846]) (rest := [.int x1, va_rf y4]) cx hS rfl hl.1 hm (metX7_isWord l _ _ _ _ _ (hth.at hS) e9) (jle hf) (hth.at hS) rfl (lw_V q1895 q1897 qs56 q123 q1898) pdX7_isWord rfl rfl (by simp only [List.map_cons, List.map_nil, List.sum_cons, List.sum_nil, jrfc]; exact Nat.le_of_ble_eq_true rfl) ⟨Nat.le_of_ble_eq_true rfl, Nat.le_of_ble_eq_true rfl⟩ dX7_readsText_126 rfl (fun H locs cells slots hS => ?_)
    refine lv_if_eq (pc := 129) (tgt := 136) hx hb dX7_readsText_129 (by decide) (fun hc => ?_) (fun hc => ?_)
    · have hf := jI_t hf hc
      refine lv_aload_n (pc := 136) hx hb dX7_readsText_136 rfl (lv_at hl 0 rfl) ?_
      refine lv_ldc2 (pc := 137) (v := 385337) hx hb hown (hts _ q1926) dX7_readsText_137 ?_
      obtain ⟨y6, h1, e9, hf⟩ := jB_some hf
      refine j_callV (pc := 140) (st1 := [.int y6, .int x1, va_rf y4]) (As := [.long 385337]) (rest := [.int x1, va_rf y4]) cx hS rfl hl.1 hm (metX7_isWord l _ _ _ _ _ (hth.at hS) e9) (jle hf) (hth.at hS) rfl (lw_V q1895 q1897 qs56 q123 q1898) pdX7_isWord rfl rfl (by simp only [List.map_cons, List.map_nil, List.sum_cons, List.sum_nil, jrfc]; exact Nat.le_of_ble_eq_true rfl) ⟨Nat.le_of_ble_eq_true rfl, Nat.le_of_ble_eq_true rfl⟩ dX7_readsText_140 rfl (fun H locs cells slots hS => ?_)
      refine lv_if_eq (pc := 143) (tgt := 150) hx hb dX7_readsText_143 (by decide) (fun hc => ?_) (fun hc => ?_)
      · have hf := jI_t hf hc
        refine lv_iconst (pc := 150) (v := (-1)) hx hb dX7_readsText_150 rfl ?_
        exact wX7_readsText_151 cx e1 e2 a0 hth _ _ _ _ _ _ _ _ _ _ hf hS hl
      · have hf := jI_f hf hc
        refine lv_iconst (pc := 146) (v := 0) hx hb dX7_readsText_146 rfl ?_
        refine lv_goto (pc := 147) (tgt := 151) hx hb dX7_readsText_147 (by decide) ?_
        exact wX7_readsText_151 cx e1 e2 a0 hth _ _ _ _ _ _ _ _ _ _ hf hS hl
    · have hf := jI_f hf hc
      refine lv_iconst (pc := 132) (v := 1) hx hb dX7_readsText_132 rfl ?_
      refine lv_goto (pc := 133) (tgt := 151) hx hb dX7_readsText_133 (by decide) ?_
      exact wX7_readsText_151 cx e1 e2 a0 hth _ _ _ _ _ _ _ _ _ _ hf hS hl
  · have hf := jI_f hf hc
    refine lv_aload_n (pc := 107) hx hb dX7_readsText_107 rfl (lv_at hl 0 rfl) ?_
    refine lv_iconst (pc := 108) (v := 1) hx hb dX7_readsText_108 rfl ?_
    obtain ⟨y7, h1, e9, hf⟩ := jB_some hf
    refine j_callV (pc := 109) (st1 := [.int y7]) (As := [.int 1]) (rest := []) cx hS rfl hl.1 hm (metX7_fails l _ _ _ _ _ (hth.at hS) e9) (jle hf) (hth.at hS) rfl (lw_V q1903 q1905 qs58 q123 q1906) pdX7_fails rfl rfl (Nat.le_of_ble_eq_true rfl) ⟨Nat.le_of_ble_eq_true rfl, Nat.le_of_ble_eq_true rfl⟩ dX7_readsText_109 rfl (fun H locs cells slots hS => ?_)
    exact j_zret (pc := 112) cx (Or.inl rfl) hS hf e1 e2 dX7_readsText_112
theorem wX7_readsText_0 {N : Nat} {r : Int32} (cx : jCx p s m args meth c cX7_readsText "WornSkinModel" 2 (Option.some Jvm.ClassFile.FieldType.boolean) D dA H0 hs.2.2.2.2) (e1 : h'.2.2.1 = hs.2.2.1 + mc) (e2 : h'.2.2.2.1 = hs.2.2.2.1 + ms) (a0 : Nat) (hth : jTh hs a0 7) : ∀ (h : jH) (H : Heap) (locs : List Loc) (cells slots : Nat) (ls : Array Slot), (fX7_readsText N a0).1 h = some (r, h') → jS D dA H0 hs h H locs cells slots → lv_has ls 2 [(0, .ref a0)] → W p l e { frames := 4, cells := mc, slots := ms, locals := 88 } s m args below meth c H locs cells slots (jQ D dA H0 below s (.returned (some (.int r))) h' mc ms) (F0 m 0 ls []) := by
  have hx := cx.1
  have hb := cx.2.1
  have hown := cx.2.2.2.1
  have hts := cx.2.2.2.2.1
  have hm : h'.2.2.1 ≤ hs.2.2.1 + mc ∧ h'.2.2.2.1 ≤ hs.2.2.2.1 + ms := ⟨Nat.le_of_eq e1, Nat.le_of_eq e2⟩
  intro h H locs cells slots ls hf hS hl
  unfold fX7_readsText at hf
  refine lv_bipush (pc := 0) (v := 6) hx hb dX7_readsText_0 rfl ?_
  refine lv_aload_n (pc := 2) hx hb dX7_readsText_2 rfl (lv_at hl 0 rfl) ?_
  refine j_gR (pc := 3) cx hS hf fd_WornSkinModel_library q1694 dX7_readsText_3 (fun y1 hf => ?_)
  refine lv_iconst (pc := 6) (v := 4) hx hb dX7_readsText_6 rfl ?_
  refine j_aI (pc := 7) cx hS hf rfl dX7_readsText_7 (fun y2 hf => ?_)
  refine lv_iadd (pc := 8) hx hb dX7_readsText_8 ?_
  refine lv_istore_n (pc := 9) (i := 1) (lv' := [(1, .int (6 + y2)), (0, .ref a0)]) hx hb dX7_readsText_9 rfl hl (Nat.le_of_ble_eq_true rfl) rfl (fun ls hl => ?_)
  refine lv_iload_n (pc := 10) hx hb dX7_readsText_10 rfl (lv_at hl 0 rfl) ?_
  refine lv_bipush (pc := 11) (v := 12) hx hb dX7_readsText_11 rfl ?_
  refine lv_icmp_ne (pc := 13) (tgt := 22) hx hb dX7_readsText_13 (by decide) (fun hc => ?_) (fun hc => ?_)
  · have hf := jI_f hf hc
    refine lv_aload_n (pc := 22) hx hb dX7_readsText_22 rfl (lv_at hl 1 rfl) ?_
    obtain ⟨_, h1, e9, hf⟩ := jB_some hf
    refine j_callV (pc := 23) (st1 := []) (As := []) (rest := []) cx hS rfl hl.1 hm (metX7_nextToken l _ _ _ _ _ (hth.at hS) e9) (jle hf) (hth.at hS) rfl (lw_V q1884 q1886 qs54 q123 q1887) pdX7_nextToken rfl rfl (Nat.le_of_ble_eq_true rfl) ⟨Nat.le_of_ble_eq_true rfl, Nat.le_of_ble_eq_true rfl⟩ dX7_readsText_23 rfl (fun H locs cells slots hS => ?_)
    refine lv_aload_n (pc := 26) hx hb dX7_readsText_26 rfl (lv_at hl 1 rfl) ?_
    obtain ⟨y4, h1, e9, hf⟩ := jB_some hf
    refine j_callV (pc := 27) (st1 := [.int y4]) (As := []) (rest := []) cx hS rfl hl.1 hm (metX7_needsNew l _ _ _ _ _ (hth.at hS) e9) (jle hf) (hth.at hS) rfl (lw_V q1907 q1909 qs59 q123 q1910) pdX7_needsNew rfl rfl (Nat.le_of_ble_eq_true rfl) ⟨Nat.le_of_ble_eq_true rfl, Nat.le_of_ble_eq_true rfl⟩ dX7_readsText_27 rfl (fun H locs cells slots hS => ?_)
    refine lv_if_ne (pc := 30) (tgt := 35) hx hb dX7_readsText_30 (by decide) (fun hc => ?_) (fun hc => ?_)
    · have hf := jI_f hf hc
      refine lv_aload_n (pc := 35) hx hb dX7_readsText_35 rfl (lv_at hl 1 rfl) ?_
      refine j_gR (pc := 36) cx hS hf fd_WornSkinModel_kind q1700 dX7_readsText_36 (fun y5 hf => ?_)
      refine lv_iload_n (pc := 39) hx hb dX7_readsText_39 rfl (lv_at hl 0 rfl) ?_
      refine lv_aload_n (pc := 40) hx hb dX7_readsText_40 rfl (lv_at hl 1 rfl) ?_
      refine lv_ldc2 (pc := 41) (v := 1277953191) hx hb hown (hts _ q1927) dX7_readsText_41 ?_
      obtain ⟨y6, h1, e9, hf⟩ := jB_some hf
      refine j_callV (pc := 44) (st1 := [.int y6, .int (6 + y2), va_rf y5]) (As := [.long 1277953191]) (rest := [.int (6 + y2), va_rf y5]) cx hS rfl hl.1 hm (metX7_isWord l _ _ _ _ _ (hth.at hS) e9) (jle hf) (hth.at hS) rfl (lw_V q1895 q1897 qs56 q123 q1898) pdX7_isWord rfl rfl (by simp only [List.map_cons, List.map_nil, List.sum_cons, List.sum_nil, jrfc]; exact Nat.le_of_ble_eq_true rfl) ⟨Nat.le_of_ble_eq_true rfl, Nat.le_of_ble_eq_true rfl⟩ dX7_readsText_44 rfl (fun H locs cells slots hS => ?_)
      refine lv_if_eq (pc := 47) (tgt := 54) hx hb dX7_readsText_47 (by decide) (fun hc => ?_) (fun hc => ?_)
      · have hf := jI_t hf hc
        refine lv_aload_n (pc := 54) hx hb dX7_readsText_54 rfl (lv_at hl 1 rfl) ?_
        refine lv_ldc2 (pc := 55) (v := 8878099) hx hb hown (hts _ q1928) dX7_readsText_55 ?_
        obtain ⟨y7, h1, e9, hf⟩ := jB_some hf
        refine j_callV (pc := 58) (st1 := [.int y7, .int (6 + y2), va_rf y5]) (As := [.long 8878099]) (rest := [.int (6 + y2), va_rf y5]) cx hS rfl hl.1 hm (metX7_isWord l _ _ _ _ _ (hth.at hS) e9) (jle hf) (hth.at hS) rfl (lw_V q1895 q1897 qs56 q123 q1898) pdX7_isWord rfl rfl (by simp only [List.map_cons, List.map_nil, List.sum_cons, List.sum_nil, jrfc]; exact Nat.le_of_ble_eq_true rfl) ⟨Nat.le_of_ble_eq_true rfl, Nat.le_of_ble_eq_true rfl⟩ dX7_readsText_58 rfl (fun H locs cells slots hS => ?_)
        refine lv_if_eq (pc := 61) (tgt := 68) hx hb dX7_readsText_61 (by decide) (fun hc => ?_) (fun hc => ?_)
        · have hf := jI_t hf hc
          refine lv_aload_n (pc := 68) hx hb dX7_readsText_68 rfl (lv_at hl 1 rfl) ?_
          refine lv_ldc2 (pc := 69) (v := 261003578) hx hb hown (hts _ q1929) dX7_readsText_69 ?_
          obtain ⟨y8, h1, e9, hf⟩ := jB_some hf
          refine j_callV (pc := 72) (st1 := [.int y8, .int (6 + y2), va_rf y5]) (As := [.long 261003578]) (rest := [.int (6 + y2), va_rf y5]) cx hS rfl hl.1 hm (metX7_isWord l _ _ _ _ _ (hth.at hS) e9) (jle hf) (hth.at hS) rfl (lw_V q1895 q1897 qs56 q123 q1898) pdX7_isWord rfl rfl (by simp only [List.map_cons, List.map_nil, List.sum_cons, List.sum_nil, jrfc]; exact Nat.le_of_ble_eq_true rfl) ⟨Nat.le_of_ble_eq_true rfl, Nat.le_of_ble_eq_true rfl⟩ dX7_readsText_72 rfl (fun H locs cells slots hS => ?_)
          refine lv_if_eq (pc := 75) (tgt := 82) hx hb dX7_readsText_75 (by decide) (fun hc => ?_) (fun hc => ?_)
          · have hf := jI_t hf hc
            refine lv_aload_n (pc := 82) hx hb dX7_readsText_82 rfl (lv_at hl 1 rfl) ?_
            refine lv_ldc2 (pc := 83) (v := 296522) hx hb hown (hts _ q1930) dX7_readsText_83 ?_
            obtain ⟨y9, h1, e9, hf⟩ := jB_some hf
            refine j_callV (pc := 86) (st1 := [.int y9, .int (6 + y2), va_rf y5]) (As := [.long 296522]) (rest := [.int (6 + y2), va_rf y5]) cx hS rfl hl.1 hm (metX7_isWord l _ _ _ _ _ (hth.at hS) e9) (jle hf) (hth.at hS) rfl (lw_V q1895 q1897 qs56 q123 q1898) pdX7_isWord rfl rfl (by simp only [List.map_cons, List.map_nil, List.sum_cons, List.sum_nil, jrfc]; exact Nat.le_of_ble_eq_true rfl) ⟨Nat.le_of_ble_eq_true rfl, Nat.le_of_ble_eq_true rfl⟩ dX7_readsText_86 rfl (fun H locs cells slots hS => ?_)
            refine lv_if_eq (pc := 89) (tgt := 96) hx hb dX7_readsText_89 (by decide) (fun hc => ?_) (fun hc => ?_)
            · have hf := jI_t hf hc
              refine lv_iconst (pc := 96) (v := (-1)) hx hb dX7_readsText_96 rfl ?_
              exact wX7_readsText_97 cx e1 e2 a0 hth _ _ _ _ _ _ _ _ _ _ hf hS (lv_sub hl [1, 0] rfl)
            · have hf := jI_f hf hc
              refine lv_iconst (pc := 92) (v := 3) hx hb dX7_readsText_92 rfl ?_
              refine lv_goto (pc := 93) (tgt := 97) hx hb dX7_readsText_93 (by decide) ?_
              exact wX7_readsText_97 cx e1 e2 a0 hth _ _ _ _ _ _ _ _ _ _ hf hS (lv_sub hl [1, 0] rfl)
          · have hf := jI_f hf hc
            refine lv_iconst (pc := 78) (v := 2) hx hb dX7_readsText_78 rfl ?_
            refine lv_goto (pc := 79) (tgt := 97) hx hb dX7_readsText_79 (by decide) ?_
            exact wX7_readsText_97 cx e1 e2 a0 hth _ _ _ _ _ _ _ _ _ _ hf hS (lv_sub hl [1, 0] rfl)
        · have hf := jI_f hf hc
          refine lv_iconst (pc := 64) (v := 1) hx hb dX7_readsText_64 rfl ?_
          refine lv_goto (pc := 65) (tgt := 97) hx hb dX7_readsText_65 (by decide) ?_
          exact wX7_readsText_97 cx e1 e2 a0 hth _ _ _ _ _ _ _ _ _ _ hf hS (lv_sub hl [1, 0] rfl)
      · have hf := jI_f hf hc
        refine lv_iconst (pc := 50) (v := 0) hx hb dX7_readsText_50 rfl ?_
        refine lv_goto (pc := 51) (tgt := 97) hx hb dX7_readsText_51 (by decide) ?_
        exact wX7_readsText_97 cx e1 e2 a0 hth _ _ _ _ _ _ _ _ _ _ hf hS (lv_sub hl [1, 0] rfl)
    · have hf := jI_t hf hc
      refine lv_iconst (pc := 33) (v := 0) hx hb dX7_readsText_33 rfl ?_
      exact j_zret (pc := 34) cx (Or.inl rfl) hS hf e1 e2 dX7_readsText_34
  · have hf := jI_t hf hc
    refine lv_aload_n (pc := 16) hx hb dX7_readsText_16 rfl (lv_at hl 1 rfl) ?_
    refine lv_iconst (pc := 17) (v := 5) hx hb dX7_readsText_17 rfl ?_
    obtain ⟨y10, h1, e9, hf⟩ := jB_some hf
    refine j_callV (pc := 18) (st1 := [.int y10]) (As := [.int 5]) (rest := []) cx hS rfl hl.1 hm (metX7_fails l _ _ _ _ _ (hth.at hS) e9) (jle hf) (hth.at hS) rfl (lw_V q1903 q1905 qs58 q123 q1906) pdX7_fails rfl rfl (Nat.le_of_ble_eq_true rfl) ⟨Nat.le_of_ble_eq_true rfl, Nat.le_of_ble_eq_true rfl⟩ dX7_readsText_18 rfl (fun H locs cells slots hS => ?_)
    exact j_zret (pc := 21) cx (Or.inl rfl) hS hf e1 e2 dX7_readsText_21
theorem metX7_readsText (l : Launch) (N : Nat) (a0 : Nat) (h h' : jH) (r : Int32) (hth : jcd h a0 = some 7) (hf : (fX7_readsText N a0).1 h = some (r, h')) : jMet l yX7_readsText (ws_ yX7_readsText cX7_readsText 2 (Option.some Jvm.ClassFile.FieldType.boolean)) (4) (88) [.ref a0] h h' (.returned (some (.int r))) := by
  refine jStart rfl (jle hf) (Nat.le_of_ble_eq_true rfl) ?_
  intro p e s m below meth c D dA H0 mc ms ls cx hnm e1 e2 hS hl
  have hth := jTh.mk hS hth
  exact wX7_readsText_0 cx e1 e2 a0 hth  _ _ _ _ _ _ hf hS hl
def fX7_readsDamp_117 (N : Nat) (a0 : Nat) : jM Int32 := jB (fX7_closes N a0) fun y1 => jRn .boolean y1
def fX7_readsDamp_76 (N : Nat) (a0 : Nat) : jM Int32 := jB (fX7_fails a0 5) fun y1 => jRn .boolean y1
def fX7_readsDamp_59 (N : Nat) (a0 : Nat) : jM Int32 := jB (fX7_fails a0 4) fun y1 => jRn .boolean y1
def fX7_readsDamp_44 (N : Nat) (a0 : Nat) : jM Int32 := jB (fX7_fails a0 1) fun y1 => jRn .boolean y1
def fX7_readsDamp_36 (N : Nat) (k19 : jM Int32) (a0 : Nat) : jM Int32 := jB (jgI [7] 6 (some a0)) fun y1 => if y1 = 2 then (jB (jgI [7] 8 (some a0)) fun y2 => if y2 ≤ 9 then (jB (jgR [7] 10 (some a0)) fun y3 => jB (jaI 0 y3 5) fun y4 => if y4 = 12 then (fX7_readsDamp_76 N a0) else (jB (jgR [7] 19 (some a0)) fun y5 => jB (jgR [7] 10 (some a0)) fun y6 => jB (jaI 0 y6 5) fun y7 => jB (jgI [7] 8 (some a0)) fun y8 => jB (jsI 0 y5 (12 + y7) y8) fun _ => jB (jgR [7] 10 (some a0)) fun y9 => jB (jaI 0 y9 5) fun y10 => jB (jsI 0 y9 5 (y10 + 1)) fun _ => jB (fX7_nextToken N a0) fun _ => k19)) else (fX7_readsDamp_59 N a0)) else (fX7_readsDamp_44 N a0)
def fX7_readsDamp_19 (N : Nat) (a0 : Nat) : Nat → jM Int32
  | 0 => jE
  | n + 1 => jB (jgR [7] 10 (some a0)) fun y1 => jB (jaI 0 y1 5) fun y2 => if y2 = 0 then (fX7_readsDamp_36 N (fX7_readsDamp_19 N a0 n) a0) else (jB (jgI [7] 6 (some a0)) fun y3 => if y3 = 2 then (fX7_readsDamp_36 N (fX7_readsDamp_19 N a0 n) a0) else (fX7_readsDamp_117 N a0))
def fX7_readsDamp (N : Nat) (a0 : Nat) : jM Int32 := jB (jgR [7] 10 (some a0)) fun y1 => jB (jaI 0 y1 5) fun y2 => if y2 ≤ 0 then (jB (fX7_nextToken N a0) fun _ => fX7_readsDamp_19 N a0 N) else (jB (fX7_fails a0 3) fun y4 => jRn .boolean y4)
theorem wX7_readsDamp_117 {N : Nat} {r : Int32} (cx : jCx p s m args meth c cX7_readsDamp "WornSkinModel" 1 (Option.some Jvm.ClassFile.FieldType.boolean) D dA H0 hs.2.2.2.2) (e1 : h'.2.2.1 = hs.2.2.1 + mc) (e2 : h'.2.2.2.1 = hs.2.2.2.1 + ms) (a0 : Nat) (hth : jTh hs a0 7) : ∀ (h : jH) (H : Heap) (locs : List Loc) (cells slots : Nat) (ls : Array Slot), (fX7_readsDamp_117 N a0).1 h = some (r, h') → jS D dA H0 hs h H locs cells slots → lv_has ls 1 [(0, .ref a0)] → W p l e { frames := 3, cells := mc, slots := ms, locals := 62 } s m args below meth c H locs cells slots (jQ D dA H0 below s (.returned (some (.int r))) h' mc ms) (F0 m 117 ls []) := by
  have hx := cx.1
  have hb := cx.2.1
  have hown := cx.2.2.2.1
  have hts := cx.2.2.2.2.1
  have hm : h'.2.2.1 ≤ hs.2.2.1 + mc ∧ h'.2.2.2.1 ≤ hs.2.2.2.1 + ms := ⟨Nat.le_of_eq e1, Nat.le_of_eq e2⟩
  intro h H locs cells slots ls hf hS hl
  unfold fX7_readsDamp_117 at hf
  refine lv_aload_n (pc := 117) hx hb dX7_readsDamp_117 rfl (lv_at hl 0 rfl) ?_
  obtain ⟨y1, h1, e9, hf⟩ := jB_some hf
  refine j_callV (pc := 118) (st1 := [.int y1]) (As := []) (rest := []) cx hS rfl hl.1 hm (metX7_closes l _ _ _ _ _ (hth.at hS) e9) (jle hf) (hth.at hS) rfl (lw_V q1953 q1955 qs65 q123 q1956) pdX7_closes rfl rfl (Nat.le_of_ble_eq_true rfl) ⟨Nat.le_of_ble_eq_true rfl, Nat.le_of_ble_eq_true rfl⟩ dX7_readsDamp_118 rfl (fun H locs cells slots hS => ?_)
  exact j_zret (pc := 121) cx (Or.inl rfl) hS hf e1 e2 dX7_readsDamp_121
theorem wX7_readsDamp_76 {N : Nat} {r : Int32} (cx : jCx p s m args meth c cX7_readsDamp "WornSkinModel" 1 (Option.some Jvm.ClassFile.FieldType.boolean) D dA H0 hs.2.2.2.2) (e1 : h'.2.2.1 = hs.2.2.1 + mc) (e2 : h'.2.2.2.1 = hs.2.2.2.1 + ms) (a0 : Nat) (hth : jTh hs a0 7) : ∀ (h : jH) (H : Heap) (locs : List Loc) (cells slots : Nat) (ls : Array Slot), (fX7_readsDamp_76 N a0).1 h = some (r, h') → jS D dA H0 hs h H locs cells slots → lv_has ls 1 [(0, .ref a0)] → W p l e { frames := 3, cells := mc, slots := ms, locals := 62 } s m args below meth c H locs cells slots (jQ D dA H0 below s (.returned (some (.int r))) h' mc ms) (F0 m 76 ls []) := by
  have hx := cx.1
  have hb := cx.2.1
  have hown := cx.2.2.2.1
  have hts := cx.2.2.2.2.1
  have hm : h'.2.2.1 ≤ hs.2.2.1 + mc ∧ h'.2.2.2.1 ≤ hs.2.2.2.1 + ms := ⟨Nat.le_of_eq e1, Nat.le_of_eq e2⟩
  intro h H locs cells slots ls hf hS hl
  unfold fX7_readsDamp_76 at hf
  refine lv_aload_n (pc := 76) hx hb dX7_readsDamp_76 rfl (lv_at hl 0 rfl) ?_
  refine lv_iconst (pc := 77) (v := 5) hx hb dX7_readsDamp_77 rfl ?_
  obtain ⟨y1, h1, e9, hf⟩ := jB_some hf
  refine j_callV (pc := 78) (st1 := [.int y1]) (As := [.int 5]) (rest := []) cx hS rfl hl.1 hm (metX7_fails l _ _ _ _ _ (hth.at hS) e9) (jle hf) (hth.at hS) rfl (lw_V q1903 q1905 qs58 q123 q1906) pdX7_fails rfl rfl (Nat.le_of_ble_eq_true rfl) ⟨Nat.le_of_ble_eq_true rfl, Nat.le_of_ble_eq_true rfl⟩ dX7_readsDamp_78 rfl (fun H locs cells slots hS => ?_)
  exact j_zret (pc := 81) cx (Or.inl rfl) hS hf e1 e2 dX7_readsDamp_81
theorem wX7_readsDamp_59 {N : Nat} {r : Int32} (cx : jCx p s m args meth c cX7_readsDamp "WornSkinModel" 1 (Option.some Jvm.ClassFile.FieldType.boolean) D dA H0 hs.2.2.2.2) (e1 : h'.2.2.1 = hs.2.2.1 + mc) (e2 : h'.2.2.2.1 = hs.2.2.2.1 + ms) (a0 : Nat) (hth : jTh hs a0 7) : ∀ (h : jH) (H : Heap) (locs : List Loc) (cells slots : Nat) (ls : Array Slot), (fX7_readsDamp_59 N a0).1 h = some (r, h') → jS D dA H0 hs h H locs cells slots → lv_has ls 1 [(0, .ref a0)] → W p l e { frames := 3, cells := mc, slots := ms, locals := 62 } s m args below meth c H locs cells slots (jQ D dA H0 below s (.returned (some (.int r))) h' mc ms) (F0 m 59 ls []) := by
  have hx := cx.1
  have hb := cx.2.1
  have hown := cx.2.2.2.1
  have hts := cx.2.2.2.2.1
  have hm : h'.2.2.1 ≤ hs.2.2.1 + mc ∧ h'.2.2.2.1 ≤ hs.2.2.2.1 + ms := ⟨Nat.le_of_eq e1, Nat.le_of_eq e2⟩
  intro h H locs cells slots ls hf hS hl
  unfold fX7_readsDamp_59 at hf
  refine lv_aload_n (pc := 59) hx hb dX7_readsDamp_59 rfl (lv_at hl 0 rfl) ?_
  refine lv_iconst (pc := 60) (v := 4) hx hb dX7_readsDamp_60 rfl ?_
  obtain ⟨y1, h1, e9, hf⟩ := jB_some hf
  refine j_callV (pc := 61) (st1 := [.int y1]) (As := [.int 4]) (rest := []) cx hS rfl hl.1 hm (metX7_fails l _ _ _ _ _ (hth.at hS) e9) (jle hf) (hth.at hS) rfl (lw_V q1903 q1905 qs58 q123 q1906) pdX7_fails rfl rfl (Nat.le_of_ble_eq_true rfl) ⟨Nat.le_of_ble_eq_true rfl, Nat.le_of_ble_eq_true rfl⟩ dX7_readsDamp_61 rfl (fun H locs cells slots hS => ?_)
  exact j_zret (pc := 64) cx (Or.inl rfl) hS hf e1 e2 dX7_readsDamp_64
theorem wX7_readsDamp_44 {N : Nat} {r : Int32} (cx : jCx p s m args meth c cX7_readsDamp "WornSkinModel" 1 (Option.some Jvm.ClassFile.FieldType.boolean) D dA H0 hs.2.2.2.2) (e1 : h'.2.2.1 = hs.2.2.1 + mc) (e2 : h'.2.2.2.1 = hs.2.2.2.1 + ms) (a0 : Nat) (hth : jTh hs a0 7) : ∀ (h : jH) (H : Heap) (locs : List Loc) (cells slots : Nat) (ls : Array Slot), (fX7_readsDamp_44 N a0).1 h = some (r, h') → jS D dA H0 hs h H locs cells slots → lv_has ls 1 [(0, .ref a0)] → W p l e { frames := 3, cells := mc, slots := ms, locals := 62 } s m args below meth c H locs cells slots (jQ D dA H0 below s (.returned (some (.int r))) h' mc ms) (F0 m 44 ls []) := by
  have hx := cx.1
  have hb := cx.2.1
  have hown := cx.2.2.2.1
  have hts := cx.2.2.2.2.1
  have hm : h'.2.2.1 ≤ hs.2.2.1 + mc ∧ h'.2.2.2.1 ≤ hs.2.2.2.1 + ms := ⟨Nat.le_of_eq e1, Nat.le_of_eq e2⟩
  intro h H locs cells slots ls hf hS hl
  unfold fX7_readsDamp_44 at hf
  refine lv_aload_n (pc := 44) hx hb dX7_readsDamp_44 rfl (lv_at hl 0 rfl) ?_
  refine lv_iconst (pc := 45) (v := 1) hx hb dX7_readsDamp_45 rfl ?_
  obtain ⟨y1, h1, e9, hf⟩ := jB_some hf
  refine j_callV (pc := 46) (st1 := [.int y1]) (As := [.int 1]) (rest := []) cx hS rfl hl.1 hm (metX7_fails l _ _ _ _ _ (hth.at hS) e9) (jle hf) (hth.at hS) rfl (lw_V q1903 q1905 qs58 q123 q1906) pdX7_fails rfl rfl (Nat.le_of_ble_eq_true rfl) ⟨Nat.le_of_ble_eq_true rfl, Nat.le_of_ble_eq_true rfl⟩ dX7_readsDamp_46 rfl (fun H locs cells slots hS => ?_)
  exact j_zret (pc := 49) cx (Or.inl rfl) hS hf e1 e2 dX7_readsDamp_49
theorem wX7_readsDamp_36 {N : Nat} {k19 : jM Int32} {r : Int32} (cx : jCx p s m args meth c cX7_readsDamp "WornSkinModel" 1 (Option.some Jvm.ClassFile.FieldType.boolean) D dA H0 hs.2.2.2.2) (e1 : h'.2.2.1 = hs.2.2.1 + mc) (e2 : h'.2.2.2.1 = hs.2.2.2.1 + ms) (a0 : Nat) (hth : jTh hs a0 7) (hk19 : ∀ (h : jH) (H : Heap) (locs : List Loc) (cells slots : Nat) (ls : Array Slot), (k19).1 h = some (r, h') → jS D dA H0 hs h H locs cells slots → lv_has ls 1 [(0, .ref a0)] → W p l e { frames := 3, cells := mc, slots := ms, locals := 62 } s m args below meth c H locs cells slots (jQ D dA H0 below s (.returned (some (.int r))) h' mc ms) (F0 m 19 ls [])) : ∀ (h : jH) (H : Heap) (locs : List Loc) (cells slots : Nat) (ls : Array Slot), (fX7_readsDamp_36 N k19 a0).1 h = some (r, h') → jS D dA H0 hs h H locs cells slots → lv_has ls 1 [(0, .ref a0)] → W p l e { frames := 3, cells := mc, slots := ms, locals := 62 } s m args below meth c H locs cells slots (jQ D dA H0 below s (.returned (some (.int r))) h' mc ms) (F0 m 36 ls []) := by
  have hx := cx.1
  have hb := cx.2.1
  have hown := cx.2.2.2.1
  have hts := cx.2.2.2.2.1
  have hm : h'.2.2.1 ≤ hs.2.2.1 + mc ∧ h'.2.2.2.1 ≤ hs.2.2.2.1 + ms := ⟨Nat.le_of_eq e1, Nat.le_of_eq e2⟩
  intro h H locs cells slots ls hf hS hl
  unfold fX7_readsDamp_36 at hf
  refine lv_aload_n (pc := 36) hx hb dX7_readsDamp_36 rfl (lv_at hl 0 rfl) ?_
  refine j_gI (pc := 37) cx hS hf fd_WornSkinModel_token q1690 dX7_readsDamp_37 (fun y1 hf => ?_)
  refine lv_iconst (pc := 40) (v := 2) hx hb dX7_readsDamp_40 rfl ?_
  refine lv_icmp_eq (pc := 41) (tgt := 50) hx hb dX7_readsDamp_41 (by decide) (fun hc => ?_) (fun hc => ?_)
  · have hf := jI_t hf hc
    refine lv_aload_n (pc := 50) hx hb dX7_readsDamp_50 rfl (lv_at hl 0 rfl) ?_
    refine j_gI (pc := 51) cx hS hf fd_WornSkinModel_told q1692 dX7_readsDamp_51 (fun y2 hf => ?_)
    refine lv_bipush (pc := 54) (v := 9) hx hb dX7_readsDamp_54 rfl ?_
    refine lv_icmp_le (pc := 56) (tgt := 65) hx hb dX7_readsDamp_56 (by decide) (fun hc => ?_) (fun hc => ?_)
    · have hf := jI_t hf hc
      refine lv_aload_n (pc := 65) hx hb dX7_readsDamp_65 rfl (lv_at hl 0 rfl) ?_
      refine j_gR (pc := 66) cx hS hf fd_WornSkinModel_library q1694 dX7_readsDamp_66 (fun y3 hf => ?_)
      refine lv_iconst (pc := 69) (v := 5) hx hb dX7_readsDamp_69 rfl ?_
      refine j_aI (pc := 70) cx hS hf rfl dX7_readsDamp_70 (fun y4 hf => ?_)
      refine lv_bipush (pc := 71) (v := 12) hx hb dX7_readsDamp_71 rfl ?_
      refine lv_icmp_ne (pc := 73) (tgt := 82) hx hb dX7_readsDamp_73 (by decide) (fun hc => ?_) (fun hc => ?_)
      · have hf := jI_f hf hc
        refine lv_aload_n (pc := 82) hx hb dX7_readsDamp_82 rfl (lv_at hl 0 rfl) ?_
        refine j_gR (pc := 83) cx hS hf fd_WornSkinModel_damp q1703 dX7_readsDamp_83 (fun y5 hf => ?_)
        refine lv_bipush (pc := 86) (v := 12) hx hb dX7_readsDamp_86 rfl ?_
        refine lv_aload_n (pc := 88) hx hb dX7_readsDamp_88 rfl (lv_at hl 0 rfl) ?_
        refine j_gR (pc := 89) cx hS hf fd_WornSkinModel_library q1694 dX7_readsDamp_89 (fun y6 hf => ?_)
        refine lv_iconst (pc := 92) (v := 5) hx hb dX7_readsDamp_92 rfl ?_
        refine j_aI (pc := 93) cx hS hf rfl dX7_readsDamp_93 (fun y7 hf => ?_)
        refine lv_iadd (pc := 94) hx hb dX7_readsDamp_94 ?_
        refine lv_aload_n (pc := 95) hx hb dX7_readsDamp_95 rfl (lv_at hl 0 rfl) ?_
        refine j_gI (pc := 96) cx hS hf fd_WornSkinModel_told q1692 dX7_readsDamp_96 (fun y8 hf => ?_)
        refine j_sI (pc := 99) cx hS hf rfl dX7_readsDamp_99 (fun h H locs hf hS => ?_)
        refine lv_aload_n (pc := 100) hx hb dX7_readsDamp_100 rfl (lv_at hl 0 rfl) ?_
        refine j_gR (pc := 101) cx hS hf fd_WornSkinModel_library q1694 dX7_readsDamp_101 (fun y9 hf => ?_)
        refine lv_iconst (pc := 104) (v := 5) hx hb dX7_readsDamp_104 rfl ?_
        refine lv_dup2_11 (pc := 105) hx hb dX7_readsDamp_105 rfl (jrfc _) ?_
        refine j_aI (pc := 106) cx hS hf rfl dX7_readsDamp_106 (fun y10 hf => ?_)
        refine lv_iconst (pc := 107) (v := 1) hx hb dX7_readsDamp_107 rfl ?_
        refine lv_iadd (pc := 108) hx hb dX7_readsDamp_108 ?_
        refine j_sI (pc := 109) cx hS hf rfl dX7_readsDamp_109 (fun h H locs hf hS => ?_)
        refine lv_aload_n (pc := 110) hx hb dX7_readsDamp_110 rfl (lv_at hl 0 rfl) ?_
        obtain ⟨_, h1, e9, hf⟩ := jB_some hf
        refine j_callV (pc := 111) (st1 := []) (As := []) (rest := []) cx hS rfl hl.1 hm (metX7_nextToken l _ _ _ _ _ (hth.at hS) e9) (jle hf) (hth.at hS) rfl (lw_V q1884 q1886 qs54 q123 q1887) pdX7_nextToken rfl rfl (Nat.le_of_ble_eq_true rfl) ⟨Nat.le_of_ble_eq_true rfl, Nat.le_of_ble_eq_true rfl⟩ dX7_readsDamp_111 rfl (fun H locs cells slots hS => ?_)
        refine lv_goto (pc := 114) (tgt := 19) hx hb dX7_readsDamp_114 (by decide) ?_
        exact hk19 _ _ _ _ _ _ hf hS hl
      · have hf := jI_t hf hc
        exact wX7_readsDamp_76 cx e1 e2 a0 hth _ _ _ _ _ _ hf hS hl
    · have hf := jI_f hf hc
      exact wX7_readsDamp_59 cx e1 e2 a0 hth _ _ _ _ _ _ hf hS hl
  · have hf := jI_f hf hc
    exact wX7_readsDamp_44 cx e1 e2 a0 hth _ _ _ _ _ _ hf hS hl
theorem wX7_readsDamp_19 {N : Nat} {r : Int32} (cx : jCx p s m args meth c cX7_readsDamp "WornSkinModel" 1 (Option.some Jvm.ClassFile.FieldType.boolean) D dA H0 hs.2.2.2.2) (e1 : h'.2.2.1 = hs.2.2.1 + mc) (e2 : h'.2.2.2.1 = hs.2.2.2.1 + ms) (a0 : Nat) (hth : jTh hs a0 7) : ∀ (n : Nat), ∀ (h : jH) (H : Heap) (locs : List Loc) (cells slots : Nat) (ls : Array Slot), (fX7_readsDamp_19 N a0 n).1 h = some (r, h') → jS D dA H0 hs h H locs cells slots → lv_has ls 1 [(0, .ref a0)] → W p l e { frames := 3, cells := mc, slots := ms, locals := 62 } s m args below meth c H locs cells slots (jQ D dA H0 below s (.returned (some (.int r))) h' mc ms) (F0 m 19 ls []) := by
  have hx := cx.1
  have hb := cx.2.1
  have hown := cx.2.2.2.1
  have hts := cx.2.2.2.2.1
  have hm : h'.2.2.1 ≤ hs.2.2.1 + mc ∧ h'.2.2.2.1 ≤ hs.2.2.2.1 + ms := ⟨Nat.le_of_eq e1, Nat.le_of_eq e2⟩
  intro n
  induction n with
  | zero =>
    intro h H locs cells slots ls hf hS hl
    exact jE_f hf
  | succ n ih =>
    intro h H locs cells slots ls hf hS hl
    unfold fX7_readsDamp_19 at hf
    refine lv_aload_n (pc := 19) hx hb dX7_readsDamp_19 rfl (lv_at hl 0 rfl) ?_
    refine j_gR (pc := 20) cx hS hf fd_WornSkinModel_library q1694 dX7_readsDamp_20 (fun y1 hf => ?_)
    refine lv_iconst (pc := 23) (v := 5) hx hb dX7_readsDamp_23 rfl ?_
    refine j_aI (pc := 24) cx hS hf rfl dX7_readsDamp_24 (fun y2 hf => ?_)
    refine lv_if_eq (pc := 25) (tgt := 36) hx hb dX7_readsDamp_25 (by decide) (fun hc => ?_) (fun hc => ?_)
    · have hf := jI_t hf hc
      exact wX7_readsDamp_36 cx e1 e2 a0 hth ih _ _ _ _ _ _ hf hS hl
    · have hf := jI_f hf hc
      refine lv_aload_n (pc := 28) hx hb dX7_readsDamp_28 rfl (lv_at hl 0 rfl) ?_
      refine j_gI (pc := 29) cx hS hf fd_WornSkinModel_token q1690 dX7_readsDamp_29 (fun y3 hf => ?_)
      refine lv_iconst (pc := 32) (v := 2) hx hb dX7_readsDamp_32 rfl ?_
      refine lv_icmp_ne (pc := 33) (tgt := 117) hx hb dX7_readsDamp_33 (by decide) (fun hc => ?_) (fun hc => ?_)
      · have hf := jI_f hf hc
        exact wX7_readsDamp_117 cx e1 e2 a0 hth _ _ _ _ _ _ hf hS hl
      · have hf := jI_t hf hc
        exact wX7_readsDamp_36 cx e1 e2 a0 hth ih _ _ _ _ _ _ hf hS hl
theorem wX7_readsDamp_0 {N : Nat} {r : Int32} (cx : jCx p s m args meth c cX7_readsDamp "WornSkinModel" 1 (Option.some Jvm.ClassFile.FieldType.boolean) D dA H0 hs.2.2.2.2) (e1 : h'.2.2.1 = hs.2.2.1 + mc) (e2 : h'.2.2.2.1 = hs.2.2.2.1 + ms) (a0 : Nat) (hth : jTh hs a0 7) : ∀ (h : jH) (H : Heap) (locs : List Loc) (cells slots : Nat) (ls : Array Slot), (fX7_readsDamp N a0).1 h = some (r, h') → jS D dA H0 hs h H locs cells slots → lv_has ls 1 [(0, .ref a0)] → W p l e { frames := 3, cells := mc, slots := ms, locals := 62 } s m args below meth c H locs cells slots (jQ D dA H0 below s (.returned (some (.int r))) h' mc ms) (F0 m 0 ls []) := by
  have hx := cx.1
  have hb := cx.2.1
  have hown := cx.2.2.2.1
  have hts := cx.2.2.2.2.1
  have hm : h'.2.2.1 ≤ hs.2.2.1 + mc ∧ h'.2.2.2.1 ≤ hs.2.2.2.1 + ms := ⟨Nat.le_of_eq e1, Nat.le_of_eq e2⟩
  intro h H locs cells slots ls hf hS hl
  unfold fX7_readsDamp at hf
  refine lv_aload_n (pc := 0) hx hb dX7_readsDamp_0 rfl (lv_at hl 0 rfl) ?_
  refine j_gR (pc := 1) cx hS hf fd_WornSkinModel_library q1694 dX7_readsDamp_1 (fun y1 hf => ?_)
  refine lv_iconst (pc := 4) (v := 5) hx hb dX7_readsDamp_4 rfl ?_
  refine j_aI (pc := 5) cx hS hf rfl dX7_readsDamp_5 (fun y2 hf => ?_)
  refine lv_if_le (pc := 6) (tgt := 15) hx hb dX7_readsDamp_6 (by decide) (fun hc => ?_) (fun hc => ?_)
  · have hf := jI_t hf hc
    refine lv_aload_n (pc := 15) hx hb dX7_readsDamp_15 rfl (lv_at hl 0 rfl) ?_
    obtain ⟨_, h1, e9, hf⟩ := jB_some hf
    refine j_callV (pc := 16) (st1 := []) (As := []) (rest := []) cx hS rfl hl.1 hm (metX7_nextToken l _ _ _ _ _ (hth.at hS) e9) (jle hf) (hth.at hS) rfl (lw_V q1884 q1886 qs54 q123 q1887) pdX7_nextToken rfl rfl (Nat.le_of_ble_eq_true rfl) ⟨Nat.le_of_ble_eq_true rfl, Nat.le_of_ble_eq_true rfl⟩ dX7_readsDamp_16 rfl (fun H locs cells slots hS => ?_)
    exact wX7_readsDamp_19 cx e1 e2 a0 hth N _ _ _ _ _ _ hf hS hl
  · have hf := jI_f hf hc
    refine lv_aload_n (pc := 9) hx hb dX7_readsDamp_9 rfl (lv_at hl 0 rfl) ?_
    refine lv_iconst (pc := 10) (v := 3) hx hb dX7_readsDamp_10 rfl ?_
    obtain ⟨y4, h1, e9, hf⟩ := jB_some hf
    refine j_callV (pc := 11) (st1 := [.int y4]) (As := [.int 3]) (rest := []) cx hS rfl hl.1 hm (metX7_fails l _ _ _ _ _ (hth.at hS) e9) (jle hf) (hth.at hS) rfl (lw_V q1903 q1905 qs58 q123 q1906) pdX7_fails rfl rfl (Nat.le_of_ble_eq_true rfl) ⟨Nat.le_of_ble_eq_true rfl, Nat.le_of_ble_eq_true rfl⟩ dX7_readsDamp_11 rfl (fun H locs cells slots hS => ?_)
    exact j_zret (pc := 14) cx (Or.inl rfl) hS hf e1 e2 dX7_readsDamp_14
theorem metX7_readsDamp (l : Launch) (N : Nat) (a0 : Nat) (h h' : jH) (r : Int32) (hth : jcd h a0 = some 7) (hf : (fX7_readsDamp N a0).1 h = some (r, h')) : jMet l yX7_readsDamp (ws_ yX7_readsDamp cX7_readsDamp 1 (Option.some Jvm.ClassFile.FieldType.boolean)) (3) (62) [.ref a0] h h' (.returned (some (.int r))) := by
  refine jStart rfl (jle hf) (Nat.le_of_ble_eq_true rfl) ?_
  intro p e s m below meth c D dA H0 mc ms ls cx hnm e1 e2 hS hl
  have hth := jTh.mk hS hth
  exact wX7_readsDamp_0 cx e1 e2 a0 hth  _ _ _ _ _ _ hf hS hl
def fX7_fact_67 (a0 : Nat) (v0 : Int32) : jM Int32 := jR v0
def fX7_fact (a0 : Nat) : jM Int32 := jB (jgI [7] 6 (some a0)) fun y1 => if y1 = 1 then (jB (jgL [7] 7 (some a0)) fun y2 => if (lg_cmp y2 16922) = 0 then (jR 1) else (jB (jgL [7] 7 (some a0)) fun y3 => if (lg_cmp y3 82528) = 0 then (jR 2) else (jB (jgL [7] 7 (some a0)) fun y4 => if (lg_cmp y4 46472) = 0 then (fX7_fact_67 a0 3) else (jB (jgL [7] 7 (some a0)) fun y5 => if (lg_cmp y5 399749) = 0 then (fX7_fact_67 a0 4) else (fX7_fact_67 a0 0))))) else (jR 0)
theorem wX7_fact_67 {r : Int32} (cx : jCx p s m args meth c cX7_fact "WornSkinModel" 1 (Option.some Jvm.ClassFile.FieldType.int) D dA H0 hs.2.2.2.2) (e1 : h'.2.2.1 = hs.2.2.1 + mc) (e2 : h'.2.2.2.1 = hs.2.2.2.1 + ms) (a0 : Nat) (hth : jTh hs a0 7) : ∀ (v0 : Int32), ∀ (h : jH) (H : Heap) (locs : List Loc) (cells slots : Nat) (ls : Array Slot), (fX7_fact_67 a0 v0).1 h = some (r, h') → jS D dA H0 hs h H locs cells slots → lv_has ls 1 [(0, .ref a0)] → W p l e { frames := 0, cells := mc, slots := ms, locals := 0 } s m args below meth c H locs cells slots (jQ D dA H0 below s (.returned (some (.int r))) h' mc ms) (F0 m 67 ls [.int v0]) := by
  have hx := cx.1
  have hb := cx.2.1
  have hown := cx.2.2.2.1
  have hts := cx.2.2.2.2.1
  have hm : h'.2.2.1 ≤ hs.2.2.1 + mc ∧ h'.2.2.2.1 ≤ hs.2.2.2.1 + ms := ⟨Nat.le_of_eq e1, Nat.le_of_eq e2⟩
  intro v0 h H locs cells slots ls hf hS hl
  unfold fX7_fact_67 at hf
  exact j_iret (pc := 67) cx hS hf e1 e2 dX7_fact_67
theorem wX7_fact_0 {r : Int32} (cx : jCx p s m args meth c cX7_fact "WornSkinModel" 1 (Option.some Jvm.ClassFile.FieldType.int) D dA H0 hs.2.2.2.2) (e1 : h'.2.2.1 = hs.2.2.1 + mc) (e2 : h'.2.2.2.1 = hs.2.2.2.1 + ms) (a0 : Nat) (hth : jTh hs a0 7) : ∀ (h : jH) (H : Heap) (locs : List Loc) (cells slots : Nat) (ls : Array Slot), (fX7_fact a0).1 h = some (r, h') → jS D dA H0 hs h H locs cells slots → lv_has ls 1 [(0, .ref a0)] → W p l e { frames := 0, cells := mc, slots := ms, locals := 0 } s m args below meth c H locs cells slots (jQ D dA H0 below s (.returned (some (.int r))) h' mc ms) (F0 m 0 ls []) := by
  have hx := cx.1
  have hb := cx.2.1
  have hown := cx.2.2.2.1
  have hts := cx.2.2.2.2.1
  have hm : h'.2.2.1 ≤ hs.2.2.1 + mc ∧ h'.2.2.2.1 ≤ hs.2.2.2.1 + ms := ⟨Nat.le_of_eq e1, Nat.le_of_eq e2⟩
  intro h H locs cells slots ls hf hS hl
  unfold fX7_fact at hf
  refine lv_aload_n (pc := 0) hx hb dX7_fact_0 rfl (lv_at hl 0 rfl) ?_
  refine j_gI (pc := 1) cx hS hf fd_WornSkinModel_token q1690 dX7_fact_1 (fun y1 hf => ?_)
  refine lv_iconst (pc := 4) (v := 1) hx hb dX7_fact_4 rfl ?_
  refine lv_icmp_eq (pc := 5) (tgt := 10) hx hb dX7_fact_5 (by decide) (fun hc => ?_) (fun hc => ?_)
  · have hf := jI_t hf hc
    refine lv_aload_n (pc := 10) hx hb dX7_fact_10 rfl (lv_at hl 0 rfl) ?_
    refine j_gL (pc := 11) cx hS hf fd_WornSkinModel_word q1691 dX7_fact_11 (fun y2 hf => ?_)
    refine lv_ldc2 (pc := 14) (v := 16922) hx hb hown (hts _ q1989) dX7_fact_14 ?_
    refine W.lcmp (pc := 17) hx hb dX7_fact_17 ?_
    refine lv_if_ne (pc := 18) (tgt := 23) hx hb dX7_fact_18 (by decide) (fun hc => ?_) (fun hc => ?_)
    · have hf := jI_f hf hc
      refine lv_aload_n (pc := 23) hx hb dX7_fact_23 rfl (lv_at hl 0 rfl) ?_
      refine j_gL (pc := 24) cx hS hf fd_WornSkinModel_word q1691 dX7_fact_24 (fun y3 hf => ?_)
      refine lv_ldc2 (pc := 27) (v := 82528) hx hb hown (hts _ q1990) dX7_fact_27 ?_
      refine W.lcmp (pc := 30) hx hb dX7_fact_30 ?_
      refine lv_if_ne (pc := 31) (tgt := 36) hx hb dX7_fact_31 (by decide) (fun hc => ?_) (fun hc => ?_)
      · have hf := jI_f hf hc
        refine lv_aload_n (pc := 36) hx hb dX7_fact_36 rfl (lv_at hl 0 rfl) ?_
        refine j_gL (pc := 37) cx hS hf fd_WornSkinModel_word q1691 dX7_fact_37 (fun y4 hf => ?_)
        refine lv_ldc2 (pc := 40) (v := 46472) hx hb hown (hts _ q1991) dX7_fact_40 ?_
        refine W.lcmp (pc := 43) hx hb dX7_fact_43 ?_
        refine lv_if_ne (pc := 44) (tgt := 51) hx hb dX7_fact_44 (by decide) (fun hc => ?_) (fun hc => ?_)
        · have hf := jI_f hf hc
          refine lv_aload_n (pc := 51) hx hb dX7_fact_51 rfl (lv_at hl 0 rfl) ?_
          refine j_gL (pc := 52) cx hS hf fd_WornSkinModel_word q1691 dX7_fact_52 (fun y5 hf => ?_)
          refine lv_ldc2 (pc := 55) (v := 399749) hx hb hown (hts _ q1992) dX7_fact_55 ?_
          refine W.lcmp (pc := 58) hx hb dX7_fact_58 ?_
          refine lv_if_ne (pc := 59) (tgt := 66) hx hb dX7_fact_59 (by decide) (fun hc => ?_) (fun hc => ?_)
          · have hf := jI_f hf hc
            refine lv_iconst (pc := 66) (v := 0) hx hb dX7_fact_66 rfl ?_
            exact wX7_fact_67 cx e1 e2 a0 hth _ _ _ _ _ _ _ hf hS hl
          · have hf := jI_t hf hc
            refine lv_iconst (pc := 62) (v := 4) hx hb dX7_fact_62 rfl ?_
            refine lv_goto (pc := 63) (tgt := 67) hx hb dX7_fact_63 (by decide) ?_
            exact wX7_fact_67 cx e1 e2 a0 hth _ _ _ _ _ _ _ hf hS hl
        · have hf := jI_t hf hc
          refine lv_iconst (pc := 47) (v := 3) hx hb dX7_fact_47 rfl ?_
          refine lv_goto (pc := 48) (tgt := 67) hx hb dX7_fact_48 (by decide) ?_
          exact wX7_fact_67 cx e1 e2 a0 hth _ _ _ _ _ _ _ hf hS hl
      · have hf := jI_t hf hc
        refine lv_iconst (pc := 34) (v := 2) hx hb dX7_fact_34 rfl ?_
        exact j_iret (pc := 35) cx hS hf e1 e2 dX7_fact_35
    · have hf := jI_t hf hc
      refine lv_iconst (pc := 21) (v := 1) hx hb dX7_fact_21 rfl ?_
      exact j_iret (pc := 22) cx hS hf e1 e2 dX7_fact_22
  · have hf := jI_f hf hc
    refine lv_iconst (pc := 8) (v := 0) hx hb dX7_fact_8 rfl ?_
    exact j_iret (pc := 9) cx hS hf e1 e2 dX7_fact_9
theorem metX7_fact (l : Launch) (a0 : Nat) (h h' : jH) (r : Int32) (hth : jcd h a0 = some 7) (hf : (fX7_fact a0).1 h = some (r, h')) : jMet l yX7_fact (ws_ yX7_fact cX7_fact 1 (Option.some Jvm.ClassFile.FieldType.int)) (0) (0) [.ref a0] h h' (.returned (some (.int r))) := by
  refine jStart rfl (jle hf) (Nat.le_of_ble_eq_true rfl) ?_
  intro p e s m below meth c D dA H0 mc ms ls cx hnm e1 e2 hS hl
  have hth := jTh.mk hS hth
  exact wX7_fact_0 cx e1 e2 a0 hth  _ _ _ _ _ _ hf hS hl
def fX7_puts (a0 : Nat) (x1 : Int32) : jM Unit := jB (jgR [7] 22 (some a0)) fun y1 => jB (jgI [7] 23 (some a0)) fun y2 => jB (jsI 0 y1 y2 x1) fun _ => jB (jgI [7] 23 (some a0)) fun y3 => jB (jpI [7] 23 (some a0) (y3 + 1)) fun _ => jR ()
theorem wX7_puts_0 {r : Unit} (cx : jCx p s m args meth c cX7_puts "WornSkinModel" 2 (Option.none : Option Jvm.ClassFile.FieldType) D dA H0 hs.2.2.2.2) (e1 : h'.2.2.1 = hs.2.2.1 + mc) (e2 : h'.2.2.2.1 = hs.2.2.2.1 + ms) (a0 : Nat) (hth : jTh hs a0 7) : ∀ (x1 : Int32), ∀ (h : jH) (H : Heap) (locs : List Loc) (cells slots : Nat) (ls : Array Slot), (fX7_puts a0 x1).1 h = some (r, h') → jS D dA H0 hs h H locs cells slots → lv_has ls 2 [(0, .ref a0), (1, .int x1)] → W p l e { frames := 0, cells := mc, slots := ms, locals := 0 } s m args below meth c H locs cells slots (jQ D dA H0 below s (.returned none) h' mc ms) (F0 m 0 ls []) := by
  have hx := cx.1
  have hb := cx.2.1
  have hown := cx.2.2.2.1
  have hts := cx.2.2.2.2.1
  have hm : h'.2.2.1 ≤ hs.2.2.1 + mc ∧ h'.2.2.2.1 ≤ hs.2.2.2.1 + ms := ⟨Nat.le_of_eq e1, Nat.le_of_eq e2⟩
  intro x1 h H locs cells slots ls hf hS hl
  unfold fX7_puts at hf
  refine lv_aload_n (pc := 0) hx hb dX7_puts_0 rfl (lv_at hl 0 rfl) ?_
  refine j_gR (pc := 1) cx hS hf fd_WornSkinModel_codes q1706 dX7_puts_1 (fun y1 hf => ?_)
  refine lv_aload_n (pc := 4) hx hb dX7_puts_4 rfl (lv_at hl 0 rfl) ?_
  refine j_gI (pc := 5) cx hS hf fd_WornSkinModel_code q1707 dX7_puts_5 (fun y2 hf => ?_)
  refine lv_iload_n (pc := 8) hx hb dX7_puts_8 rfl (lv_at hl 1 rfl) ?_
  refine j_sI (pc := 9) cx hS hf rfl dX7_puts_9 (fun h H locs hf hS => ?_)
  refine lv_aload_n (pc := 10) hx hb dX7_puts_10 rfl (lv_at hl 0 rfl) ?_
  refine lv_dup (pc := 11) hx hb dX7_puts_11 rfl ?_
  refine j_gI (pc := 12) cx hS hf fd_WornSkinModel_code q1707 dX7_puts_12 (fun y3 hf => ?_)
  refine lv_iconst (pc := 15) (v := 1) hx hb dX7_puts_15 rfl ?_
  refine lv_iadd (pc := 16) hx hb dX7_puts_16 ?_
  refine j_pI (pc := 17) cx hS hf fp_WornSkinModel_code (Or.inl rfl) q1707 dX7_puts_17 (fun h H locs hf hS => ?_)
  exact j_vret (pc := 20) cx hS hf e1 e2 dX7_puts_20
theorem metX7_puts (l : Launch) (a0 : Nat) (x1 : Int32) (h h' : jH) (r : Unit) (hth : jcd h a0 = some 7) (hf : (fX7_puts a0 x1).1 h = some (r, h')) : jMet l yX7_puts (ws_ yX7_puts cX7_puts 2 (Option.none : Option Jvm.ClassFile.FieldType)) (0) (0) [.ref a0, .int x1] h h' (.returned none) := by
  refine jStart rfl (jle hf) (Nat.le_of_ble_eq_true rfl) ?_
  intro p e s m below meth c D dA H0 mc ms ls cx hnm e1 e2 hS hl
  have hth := jTh.mk hS hth
  exact wX7_puts_0 cx e1 e2 a0 hth _ _ _ _ _ _ _ hf hS hl
def fX7_reads_418 (N : Nat) (a0 : Nat) : jM Int32 := jB (fX7_fails a0 1) fun y1 => jRn .boolean y1
def fX7_reads_399 (N : Nat) (a0 : Nat) (x1 : Int32) : jM Int32 := if x1 = 0 then (jB (fX7_isSign a0 59) fun y1 => if y1 = 0 then (fX7_reads_418 N a0) else (jB (fX7_nextToken N a0) fun _ => jRn .boolean 1)) else (fX7_reads_418 N a0)
def fX7_reads_424 (N : Nat) (k11 : Int32 → Int32 → jM Int32) (a0 : Nat) (x1 : Int32) (x2 : Int32) : jM Int32 := jB (fX7_nextToken N a0) fun _ => k11 x1 x2
def fX7_reads_379 (N : Nat) (k11 : Int32 → Int32 → jM Int32) (a0 : Nat) : Nat → Int32 → Int32 → jM Int32
  | 0, _, _ => jE
  | n + 1, x1, x2 => if x1 ≤ 0 then (fX7_reads_424 N k11 a0 x1 x2) else (jB (jgR [7] 24 (some a0)) fun y1 => jB (jaI 0 y1 x1) fun y2 => if y2 = 1 then (fX7_reads_379 N k11 a0 n (x1 + (-1)) x2) else (fX7_reads_424 N k11 a0 x1 x2))
def fX7_reads_342 (N : Nat) (k11 : Int32 → Int32 → jM Int32) (a0 : Nat) (x1 : Int32) (v1 : Int32) : jM Int32 := jB (fX7_puts a0 v1) fun _ => jB (jgR [7] 25 (some a0)) fun y2 => jB (jsZ 2 y2 x1 0) fun _ => fX7_reads_424 N k11 a0 x1 1
def fX7_reads_324 (N : Nat) (k11 : Int32 → Int32 → jM Int32) (a0 : Nat) (x1 : Int32) : jM Int32 := jB (fX7_isWord a0 1111) fun y1 => if y1 = 0 then (fX7_reads_342 N k11 a0 x1 27) else (fX7_reads_342 N k11 a0 x1 26)
def fX7_reads_304 (N : Nat) (k11 : Int32 → Int32 → jM Int32) (a0 : Nat) (x1 : Int32) (x2 : Int32) : jM Int32 := jB (fX7_isWord a0 1111) fun y1 => if y1 = 0 then (jB (fX7_isWord a0 423) fun y2 => if y2 = 0 then (jB (fX7_isSign a0 41) fun y3 => if y3 = 0 then (fX7_reads_399 N a0 x1) else (if x1 ≤ 0 then (fX7_reads_399 N a0 x1) else (jB (fX7_puts a0 29) fun _ => fX7_reads_379 N k11 a0 N (x1 + (-1)) x2))) else (fX7_reads_324 N k11 a0 x1)) else (fX7_reads_324 N k11 a0 x1)
def fX7_reads_289 (N : Nat) (k11 : Int32 → Int32 → jM Int32) (a0 : Nat) (x1 : Int32) (v1 : Int32) : jM Int32 := jB (fX7_puts a0 v1) fun _ => jB (jgR [7] 25 (some a0)) fun y2 => jB (jsZ 2 y2 x1 1) fun _ => fX7_reads_424 N k11 a0 x1 1
def fX7_reads_263 (N : Nat) (k11 : Int32 → Int32 → jM Int32) (a0 : Nat) (x1 : Int32) (x2 : Int32) : jM Int32 := jB (jgR [7] 25 (some a0)) fun y1 => jB (jaI 2 y1 x1) fun y2 => if y2 = 0 then (jB (fX7_isSign a0 60) fun y3 => if y3 = 0 then (fX7_reads_289 N k11 a0 x1 25) else (fX7_reads_289 N k11 a0 x1 24)) else (fX7_reads_304 N k11 a0 x1 x2)
def fX7_reads_237 (N : Nat) (k11 : Int32 → Int32 → jM Int32) (a0 : Nat) (x1 : Int32) (v1 : Int32) : jM Int32 := jB (fX7_puts a0 v1) fun _ => fX7_reads_424 N k11 a0 x1 1
def fX7_reads_206 (N : Nat) (k11 : Int32 → Int32 → jM Int32) (a0 : Nat) (x1 : Int32) : jM Int32 := jB (fX7_isSign a0 43) fun y1 => if y1 = 0 then (jB (fX7_isSign a0 45) fun y2 => if y2 = 0 then (fX7_reads_237 N k11 a0 x1 22) else (fX7_reads_237 N k11 a0 x1 21)) else (fX7_reads_237 N k11 a0 x1 20)
def fX7_reads_172 (N : Nat) (k11 : Int32 → Int32 → jM Int32) (a0 : Nat) (x1 : Int32) (x2 : Int32) : jM Int32 := jB (fX7_nextToken N a0) fun _ => k11 x1 x2
def fX7_reads_152 (N : Nat) (k11 : Int32 → Int32 → jM Int32) (a0 : Nat) : Nat → Int32 → Int32 → jM Int32
  | 0, _, _ => jE
  | n + 1, x1, x2 => if x1 ≤ 0 then (fX7_reads_172 N k11 a0 x1 x2) else (jB (jgR [7] 24 (some a0)) fun y1 => jB (jaI 0 y1 x1) fun y2 => if y2 = 1 then (fX7_reads_152 N k11 a0 n (x1 + (-1)) x2) else (fX7_reads_172 N k11 a0 x1 x2))
def fX7_reads_147 (N : Nat) (k11 : Int32 → Int32 → jM Int32) (a0 : Nat) (x1 : Int32) (v1 : Int32) : jM Int32 := jB (fX7_puts a0 v1) fun _ => fX7_reads_152 N k11 a0 N x1 0
def fX7_reads_120 (N : Nat) (k11 : Int32 → Int32 → jM Int32) (a0 : Nat) (x1 : Int32) (x2 : Int32) (v0 : Option Nat) (v1 : Int32) (v2 : Int32) : jM Int32 := jB (jsI 0 v0 v1 v2) fun _ => jB (jgR [7] 25 (some a0)) fun y1 => jB (jsZ 2 y1 x1 0) fun _ => fX7_reads_172 N k11 a0 x1 x2
def fX7_reads_99 (N : Nat) (k11 : Int32 → Int32 → jM Int32) (a0 : Nat) (x1 : Int32) (x2 : Int32) (x4 : Int32) (v1 : Int32) : jM Int32 := jB (fX7_puts a0 v1) fun _ => jB (jgR [7] 24 (some a0)) fun y2 => if x4 = 0 then (fX7_reads_120 N k11 a0 (x1 + 1) x2 y2 (x1 + 1) 2) else (fX7_reads_120 N k11 a0 (x1 + 1) x2 y2 (x1 + 1) 1)
def fX7_reads_86 (N : Nat) (k11 : Int32 → Int32 → jM Int32) (a0 : Nat) (x1 : Int32) (x2 : Int32) (x4 : Int32) : jM Int32 := if x4 = 0 then (fX7_reads_99 N k11 a0 x1 x2 x4 28) else (fX7_reads_99 N k11 a0 x1 x2 x4 30)
def fX7_reads_70 (N : Nat) (a0 : Nat) : jM Int32 := jB (fX7_fails a0 5) fun y1 => jRn .boolean y1
def fX7_reads_65 (N : Nat) (k11 : Int32 → Int32 → jM Int32) (a0 : Nat) (x1 : Int32) (x2 : Int32) (x3 : Int32) (x4 : Int32) (x5 : Int32) : jM Int32 := if x1 = 5 then (fX7_reads_70 N a0) else (if x4 = 0 then (if x5 = 0 then (if x3 ≤ 0 then (jB (jgI [7] 8 (some a0)) fun y1 => fX7_reads_147 N k11 a0 x1 (100 + y1)) else (fX7_reads_147 N k11 a0 x1 x3)) else (fX7_reads_86 N k11 a0 x1 x2 x4)) else (fX7_reads_86 N k11 a0 x1 x2 x4))
def fX7_reads_59 (N : Nat) (a0 : Nat) : jM Int32 := jB (fX7_fails a0 1) fun y1 => jRn .boolean y1
def fX7_reads_11 (N : Nat) (a0 : Nat) : Nat → Int32 → Int32 → jM Int32
  | 0, _, _ => jE
  | n + 1, x1, x2 => if x2 = 0 then (jB (fX7_isSign a0 43) fun y1 => if y1 = 0 then (jB (fX7_isSign a0 45) fun y2 => if y2 = 0 then (jB (fX7_isSign a0 42) fun y3 => if y3 = 0 then (jB (fX7_isSign a0 60) fun y4 => if y4 = 0 then (jB (fX7_isSign a0 61) fun y5 => if y5 = 0 then (fX7_reads_304 N (fX7_reads_11 N a0 n) a0 x1 x2) else (fX7_reads_263 N (fX7_reads_11 N a0 n) a0 x1 x2)) else (fX7_reads_263 N (fX7_reads_11 N a0 n) a0 x1 x2)) else (fX7_reads_206 N (fX7_reads_11 N a0 n) a0 x1)) else (fX7_reads_206 N (fX7_reads_11 N a0 n) a0 x1)) else (fX7_reads_206 N (fX7_reads_11 N a0 n) a0 x1)) else (jB (fX7_fact a0) fun y6 => jB (fX7_isWord a0 10631) fun y7 => jB (fX7_isSign a0 40) fun y8 => if y6 = 0 then (if y7 = 0 then (if y8 = 0 then (jB (jgI [7] 6 (some a0)) fun y9 => if y9 = 2 then (fX7_reads_65 N (fX7_reads_11 N a0 n) a0 x1 x2 y6 y7 y8) else (fX7_reads_59 N a0)) else (fX7_reads_65 N (fX7_reads_11 N a0 n) a0 x1 x2 y6 y7 y8)) else (fX7_reads_65 N (fX7_reads_11 N a0 n) a0 x1 x2 y6 y7 y8)) else (fX7_reads_65 N (fX7_reads_11 N a0 n) a0 x1 x2 y6 y7 y8))
def fX7_reads (N : Nat) (a0 : Nat) : jM Int32 := jB (jgR [7] 25 (some a0)) fun y1 => jB (jsZ 2 y1 0 0) fun _ => fX7_reads_11 N a0 N 0 1
theorem wX7_reads_418 {N : Nat} {r : Int32} (cx : jCx p s m args meth c cX7_reads "WornSkinModel" 6 (Option.some Jvm.ClassFile.FieldType.boolean) D dA H0 hs.2.2.2.2) (e1 : h'.2.2.1 = hs.2.2.1 + mc) (e2 : h'.2.2.2.1 = hs.2.2.2.1 + ms) (a0 : Nat) (hth : jTh hs a0 7) : ∀ (h : jH) (H : Heap) (locs : List Loc) (cells slots : Nat) (ls : Array Slot), (fX7_reads_418 N a0).1 h = some (r, h') → jS D dA H0 hs h H locs cells slots → lv_has ls 6 [(0, .ref a0)] → W p l e { frames := 2, cells := mc, slots := ms, locals := 42 } s m args below meth c H locs cells slots (jQ D dA H0 below s (.returned (some (.int r))) h' mc ms) (F0 m 418 ls []) := by
  have hx := cx.1
  have hb := cx.2.1
  have hown := cx.2.2.2.1
  have hts := cx.2.2.2.2.1
  have hm : h'.2.2.1 ≤ hs.2.2.1 + mc ∧ h'.2.2.2.1 ≤ hs.2.2.2.1 + ms := ⟨Nat.le_of_eq e1, Nat.le_of_eq e2⟩
  intro h H locs cells slots ls hf hS hl
  unfold fX7_reads_418 at hf
  refine lv_aload_n (pc := 418) hx hb dX7_reads_418 rfl (lv_at hl 0 rfl) ?_
  refine lv_iconst (pc := 419) (v := 1) hx hb dX7_reads_419 rfl ?_
  obtain ⟨y1, h1, e9, hf⟩ := jB_some hf
  refine j_callV (pc := 420) (st1 := [.int y1]) (As := [.int 1]) (rest := []) cx hS rfl hl.1 hm (metX7_fails l _ _ _ _ _ (hth.at hS) e9) (jle hf) (hth.at hS) rfl (lw_V q1903 q1905 qs58 q123 q1906) pdX7_fails rfl rfl (Nat.le_of_ble_eq_true rfl) ⟨Nat.le_of_ble_eq_true rfl, Nat.le_of_ble_eq_true rfl⟩ dX7_reads_420 rfl (fun H locs cells slots hS => ?_)
  exact j_zret (pc := 423) cx (Or.inl rfl) hS hf e1 e2 dX7_reads_423
theorem wX7_reads_399 {N : Nat} {r : Int32} (cx : jCx p s m args meth c cX7_reads "WornSkinModel" 6 (Option.some Jvm.ClassFile.FieldType.boolean) D dA H0 hs.2.2.2.2) (e1 : h'.2.2.1 = hs.2.2.1 + mc) (e2 : h'.2.2.2.1 = hs.2.2.2.1 + ms) (a0 : Nat) (hth : jTh hs a0 7) : ∀ (x1 : Int32), ∀ (h : jH) (H : Heap) (locs : List Loc) (cells slots : Nat) (ls : Array Slot), (fX7_reads_399 N a0 x1).1 h = some (r, h') → jS D dA H0 hs h H locs cells slots → lv_has ls 6 [(0, .ref a0), (1, .int x1)] → W p l e { frames := 2, cells := mc, slots := ms, locals := 42 } s m args below meth c H locs cells slots (jQ D dA H0 below s (.returned (some (.int r))) h' mc ms) (F0 m 399 ls []) := by
  have hx := cx.1
  have hb := cx.2.1
  have hown := cx.2.2.2.1
  have hts := cx.2.2.2.2.1
  have hm : h'.2.2.1 ≤ hs.2.2.1 + mc ∧ h'.2.2.2.1 ≤ hs.2.2.2.1 + ms := ⟨Nat.le_of_eq e1, Nat.le_of_eq e2⟩
  intro x1 h H locs cells slots ls hf hS hl
  unfold fX7_reads_399 at hf
  refine lv_iload_n (pc := 399) hx hb dX7_reads_399 rfl (lv_at hl 1 rfl) ?_
  refine lv_if_ne (pc := 400) (tgt := 418) hx hb dX7_reads_400 (by decide) (fun hc => ?_) (fun hc => ?_)
  · have hf := jI_f hf hc
    exact wX7_reads_418 cx e1 e2 a0 hth _ _ _ _ _ _ hf hS (lv_sub hl [0] rfl)
  · have hf := jI_t hf hc
    refine lv_aload_n (pc := 403) hx hb dX7_reads_403 rfl (lv_at hl 0 rfl) ?_
    refine lv_bipush (pc := 404) (v := 59) hx hb dX7_reads_404 rfl ?_
    obtain ⟨y1, h1, e9, hf⟩ := jB_some hf
    refine j_callV (pc := 406) (st1 := [.int y1]) (As := [.int 59]) (rest := []) cx hS rfl hl.1 hm (metX7_isSign l _ _ _ _ _ (hth.at hS) e9) (jle hf) (hth.at hS) rfl (lw_V q1957 q1959 qs66 q123 q1960) pdX7_isSign rfl rfl (Nat.le_of_ble_eq_true rfl) ⟨Nat.le_of_ble_eq_true rfl, Nat.le_of_ble_eq_true rfl⟩ dX7_reads_406 rfl (fun H locs cells slots hS => ?_)
    refine lv_if_eq (pc := 409) (tgt := 418) hx hb dX7_reads_409 (by decide) (fun hc => ?_) (fun hc => ?_)
    · have hf := jI_t hf hc
      exact wX7_reads_418 cx e1 e2 a0 hth _ _ _ _ _ _ hf hS (lv_sub hl [0] rfl)
    · have hf := jI_f hf hc
      refine lv_aload_n (pc := 412) hx hb dX7_reads_412 rfl (lv_at hl 0 rfl) ?_
      obtain ⟨_, h1, e9, hf⟩ := jB_some hf
      refine j_callV (pc := 413) (st1 := []) (As := []) (rest := []) cx hS rfl hl.1 hm (metX7_nextToken l _ _ _ _ _ (hth.at hS) e9) (jle hf) (hth.at hS) rfl (lw_V q1884 q1886 qs54 q123 q1887) pdX7_nextToken rfl rfl (Nat.le_of_ble_eq_true rfl) ⟨Nat.le_of_ble_eq_true rfl, Nat.le_of_ble_eq_true rfl⟩ dX7_reads_413 rfl (fun H locs cells slots hS => ?_)
      refine lv_iconst (pc := 416) (v := 1) hx hb dX7_reads_416 rfl ?_
      exact j_zret (pc := 417) cx (Or.inl rfl) hS hf e1 e2 dX7_reads_417
theorem wX7_reads_424 {N : Nat} {k11 : Int32 → Int32 → jM Int32} {r : Int32} (cx : jCx p s m args meth c cX7_reads "WornSkinModel" 6 (Option.some Jvm.ClassFile.FieldType.boolean) D dA H0 hs.2.2.2.2) (e1 : h'.2.2.1 = hs.2.2.1 + mc) (e2 : h'.2.2.2.1 = hs.2.2.2.1 + ms) (a0 : Nat) (hth : jTh hs a0 7) (hk11 : ∀ (x1 : Int32) (x2 : Int32), ∀ (h : jH) (H : Heap) (locs : List Loc) (cells slots : Nat) (ls : Array Slot), (k11 x1 x2).1 h = some (r, h') → jS D dA H0 hs h H locs cells slots → lv_has ls 6 [(0, .ref a0), (1, .int x1), (2, .int x2)] → W p l e { frames := 2, cells := mc, slots := ms, locals := 42 } s m args below meth c H locs cells slots (jQ D dA H0 below s (.returned (some (.int r))) h' mc ms) (F0 m 11 ls [])) : ∀ (x1 : Int32) (x2 : Int32), ∀ (h : jH) (H : Heap) (locs : List Loc) (cells slots : Nat) (ls : Array Slot), (fX7_reads_424 N k11 a0 x1 x2).1 h = some (r, h') → jS D dA H0 hs h H locs cells slots → lv_has ls 6 [(0, .ref a0), (1, .int x1), (2, .int x2)] → W p l e { frames := 2, cells := mc, slots := ms, locals := 42 } s m args below meth c H locs cells slots (jQ D dA H0 below s (.returned (some (.int r))) h' mc ms) (F0 m 424 ls []) := by
  have hx := cx.1
  have hb := cx.2.1
  have hown := cx.2.2.2.1
  have hts := cx.2.2.2.2.1
  have hm : h'.2.2.1 ≤ hs.2.2.1 + mc ∧ h'.2.2.2.1 ≤ hs.2.2.2.1 + ms := ⟨Nat.le_of_eq e1, Nat.le_of_eq e2⟩
  intro x1 x2 h H locs cells slots ls hf hS hl
  unfold fX7_reads_424 at hf
  refine lv_aload_n (pc := 424) hx hb dX7_reads_424 rfl (lv_at hl 0 rfl) ?_
  obtain ⟨_, h1, e9, hf⟩ := jB_some hf
  refine j_callV (pc := 425) (st1 := []) (As := []) (rest := []) cx hS rfl hl.1 hm (metX7_nextToken l _ _ _ _ _ (hth.at hS) e9) (jle hf) (hth.at hS) rfl (lw_V q1884 q1886 qs54 q123 q1887) pdX7_nextToken rfl rfl (Nat.le_of_ble_eq_true rfl) ⟨Nat.le_of_ble_eq_true rfl, Nat.le_of_ble_eq_true rfl⟩ dX7_reads_425 rfl (fun H locs cells slots hS => ?_)
  refine lv_goto (pc := 428) (tgt := 11) hx hb dX7_reads_428 (by decide) ?_
  exact hk11 _ _ _ _ _ _ _ _ hf hS hl
theorem wX7_reads_379 {N : Nat} {k11 : Int32 → Int32 → jM Int32} {r : Int32} (cx : jCx p s m args meth c cX7_reads "WornSkinModel" 6 (Option.some Jvm.ClassFile.FieldType.boolean) D dA H0 hs.2.2.2.2) (e1 : h'.2.2.1 = hs.2.2.1 + mc) (e2 : h'.2.2.2.1 = hs.2.2.2.1 + ms) (a0 : Nat) (hth : jTh hs a0 7) (hk11 : ∀ (x1 : Int32) (x2 : Int32), ∀ (h : jH) (H : Heap) (locs : List Loc) (cells slots : Nat) (ls : Array Slot), (k11 x1 x2).1 h = some (r, h') → jS D dA H0 hs h H locs cells slots → lv_has ls 6 [(0, .ref a0), (1, .int x1), (2, .int x2)] → W p l e { frames := 2, cells := mc, slots := ms, locals := 42 } s m args below meth c H locs cells slots (jQ D dA H0 below s (.returned (some (.int r))) h' mc ms) (F0 m 11 ls [])) : ∀ (n : Nat) (x1 : Int32) (x2 : Int32), ∀ (h : jH) (H : Heap) (locs : List Loc) (cells slots : Nat) (ls : Array Slot), (fX7_reads_379 N k11 a0 n x1 x2).1 h = some (r, h') → jS D dA H0 hs h H locs cells slots → lv_has ls 6 [(0, .ref a0), (1, .int x1), (2, .int x2)] → W p l e { frames := 2, cells := mc, slots := ms, locals := 42 } s m args below meth c H locs cells slots (jQ D dA H0 below s (.returned (some (.int r))) h' mc ms) (F0 m 379 ls []) := by
  have hx := cx.1
  have hb := cx.2.1
  have hown := cx.2.2.2.1
  have hts := cx.2.2.2.2.1
  have hm : h'.2.2.1 ≤ hs.2.2.1 + mc ∧ h'.2.2.2.1 ≤ hs.2.2.2.1 + ms := ⟨Nat.le_of_eq e1, Nat.le_of_eq e2⟩
  intro n
  induction n with
  | zero =>
    intro x1 x2 h H locs cells slots ls hf hS hl
    exact jE_f hf
  | succ n ih =>
    intro x1 x2 h H locs cells slots ls hf hS hl
    unfold fX7_reads_379 at hf
    refine lv_iload_n (pc := 379) hx hb dX7_reads_379 rfl (lv_at hl 1 rfl) ?_
    refine lv_if_le (pc := 380) (tgt := 424) hx hb dX7_reads_380 (by decide) (fun hc => ?_) (fun hc => ?_)
    · have hf := jI_t hf hc
      exact wX7_reads_424 cx e1 e2 a0 hth hk11 _ _ _ _ _ _ _ _ hf hS hl
    · have hf := jI_f hf hc
      refine lv_aload_n (pc := 383) hx hb dX7_reads_383 rfl (lv_at hl 0 rfl) ?_
      refine j_gR (pc := 384) cx hS hf fd_WornSkinModel_opened q1708 dX7_reads_384 (fun y1 hf => ?_)
      refine lv_iload_n (pc := 387) hx hb dX7_reads_387 rfl (lv_at hl 1 rfl) ?_
      refine j_aI (pc := 388) cx hS hf rfl dX7_reads_388 (fun y2 hf => ?_)
      refine lv_iconst (pc := 389) (v := 1) hx hb dX7_reads_389 rfl ?_
      refine lv_icmp_ne (pc := 390) (tgt := 424) hx hb dX7_reads_390 (by decide) (fun hc => ?_) (fun hc => ?_)
      · have hf := jI_f hf hc
        exact wX7_reads_424 cx e1 e2 a0 hth hk11 _ _ _ _ _ _ _ _ hf hS hl
      · have hf := jI_t hf hc
        refine lv_iinc (pc := 393) (v := (x1 + (-1))) (lv' := [(1, .int (x1 + (-1))), (0, .ref a0), (2, .int x2)]) hx hb dX7_reads_393 hl (k := 1) rfl (jm1 _) (Nat.le_of_ble_eq_true rfl) rfl (fun ls hl => ?_)
        refine lv_goto (pc := 396) (tgt := 379) hx hb dX7_reads_396 (by decide) ?_
        exact ih _ _ _ _ _ _ _ _ hf hS (lv_sub hl [1, 0, 2] rfl)
theorem wX7_reads_342 {N : Nat} {k11 : Int32 → Int32 → jM Int32} {r : Int32} (cx : jCx p s m args meth c cX7_reads "WornSkinModel" 6 (Option.some Jvm.ClassFile.FieldType.boolean) D dA H0 hs.2.2.2.2) (e1 : h'.2.2.1 = hs.2.2.1 + mc) (e2 : h'.2.2.2.1 = hs.2.2.2.1 + ms) (a0 : Nat) (hth : jTh hs a0 7) (hk11 : ∀ (x1 : Int32) (x2 : Int32), ∀ (h : jH) (H : Heap) (locs : List Loc) (cells slots : Nat) (ls : Array Slot), (k11 x1 x2).1 h = some (r, h') → jS D dA H0 hs h H locs cells slots → lv_has ls 6 [(0, .ref a0), (1, .int x1), (2, .int x2)] → W p l e { frames := 2, cells := mc, slots := ms, locals := 42 } s m args below meth c H locs cells slots (jQ D dA H0 below s (.returned (some (.int r))) h' mc ms) (F0 m 11 ls [])) : ∀ (x1 : Int32) (v1 : Int32), ∀ (h : jH) (H : Heap) (locs : List Loc) (cells slots : Nat) (ls : Array Slot), (fX7_reads_342 N k11 a0 x1 v1).1 h = some (r, h') → jS D dA H0 hs h H locs cells slots → lv_has ls 6 [(0, .ref a0), (1, .int x1)] → W p l e { frames := 2, cells := mc, slots := ms, locals := 42 } s m args below meth c H locs cells slots (jQ D dA H0 below s (.returned (some (.int r))) h' mc ms) (F0 m 342 ls [.int v1, .ref a0]) := by
  have hx := cx.1
  have hb := cx.2.1
  have hown := cx.2.2.2.1
  have hts := cx.2.2.2.2.1
  have hm : h'.2.2.1 ≤ hs.2.2.1 + mc ∧ h'.2.2.2.1 ≤ hs.2.2.2.1 + ms := ⟨Nat.le_of_eq e1, Nat.le_of_eq e2⟩
  intro x1 v1 h H locs cells slots ls hf hS hl
  unfold fX7_reads_342 at hf
  obtain ⟨_, h1, e9, hf⟩ := jB_some hf
  refine j_callV (pc := 342) (st1 := []) (As := [.int v1]) (rest := []) cx hS rfl hl.1 hm (metX7_puts l _ _ _ _ _ (hth.at hS) e9) (jle hf) (hth.at hS) rfl (lw_V q1993 q1995 qs74 q123 q1996) pdX7_puts rfl rfl (Nat.le_of_ble_eq_true rfl) ⟨Nat.le_of_ble_eq_true rfl, Nat.le_of_ble_eq_true rfl⟩ dX7_reads_342 rfl (fun H locs cells slots hS => ?_)
  refine lv_aload_n (pc := 345) hx hb dX7_reads_345 rfl (lv_at hl 0 rfl) ?_
  refine j_gR (pc := 346) cx hS hf fd_WornSkinModel_compared q1709 dX7_reads_346 (fun y2 hf => ?_)
  refine lv_iload_n (pc := 349) hx hb dX7_reads_349 rfl (lv_at hl 1 rfl) ?_
  refine lv_iconst (pc := 350) (v := 0) hx hb dX7_reads_350 rfl ?_
  refine j_sZ (pc := 351) cx hS hf rfl dX7_reads_351 (fun h H locs hf hS => ?_)
  refine lv_iconst (pc := 352) (v := 1) hx hb dX7_reads_352 rfl ?_
  refine lv_istore_n (pc := 353) (i := 2) (lv' := [(2, .int 1), (0, .ref a0), (1, .int x1)]) hx hb dX7_reads_353 rfl hl (Nat.le_of_ble_eq_true rfl) rfl (fun ls hl => ?_)
  refine lv_goto (pc := 354) (tgt := 424) hx hb dX7_reads_354 (by decide) ?_
  exact wX7_reads_424 cx e1 e2 a0 hth hk11 _ _ _ _ _ _ _ _ hf hS (lv_sub hl [1, 2, 0] rfl)
theorem wX7_reads_324 {N : Nat} {k11 : Int32 → Int32 → jM Int32} {r : Int32} (cx : jCx p s m args meth c cX7_reads "WornSkinModel" 6 (Option.some Jvm.ClassFile.FieldType.boolean) D dA H0 hs.2.2.2.2) (e1 : h'.2.2.1 = hs.2.2.1 + mc) (e2 : h'.2.2.2.1 = hs.2.2.2.1 + ms) (a0 : Nat) (hth : jTh hs a0 7) (hk11 : ∀ (x1 : Int32) (x2 : Int32), ∀ (h : jH) (H : Heap) (locs : List Loc) (cells slots : Nat) (ls : Array Slot), (k11 x1 x2).1 h = some (r, h') → jS D dA H0 hs h H locs cells slots → lv_has ls 6 [(0, .ref a0), (1, .int x1), (2, .int x2)] → W p l e { frames := 2, cells := mc, slots := ms, locals := 42 } s m args below meth c H locs cells slots (jQ D dA H0 below s (.returned (some (.int r))) h' mc ms) (F0 m 11 ls [])) : ∀ (x1 : Int32), ∀ (h : jH) (H : Heap) (locs : List Loc) (cells slots : Nat) (ls : Array Slot), (fX7_reads_324 N k11 a0 x1).1 h = some (r, h') → jS D dA H0 hs h H locs cells slots → lv_has ls 6 [(0, .ref a0), (1, .int x1)] → W p l e { frames := 2, cells := mc, slots := ms, locals := 42 } s m args below meth c H locs cells slots (jQ D dA H0 below s (.returned (some (.int r))) h' mc ms) (F0 m 324 ls []) := by
  have hx := cx.1
  have hb := cx.2.1
  have hown := cx.2.2.2.1
  have hts := cx.2.2.2.2.1
  have hm : h'.2.2.1 ≤ hs.2.2.1 + mc ∧ h'.2.2.2.1 ≤ hs.2.2.2.1 + ms := ⟨Nat.le_of_eq e1, Nat.le_of_eq e2⟩
  intro x1 h H locs cells slots ls hf hS hl
  unfold fX7_reads_324 at hf
  refine lv_aload_n (pc := 324) hx hb dX7_reads_324 rfl (lv_at hl 0 rfl) ?_
  refine lv_aload_n (pc := 325) hx hb dX7_reads_325 rfl (lv_at hl 0 rfl) ?_
  refine lv_ldc2 (pc := 326) (v := 1111) hx hb hown (hts _ q1932) dX7_reads_326 ?_
  obtain ⟨y1, h1, e9, hf⟩ := jB_some hf
  refine j_callV (pc := 329) (st1 := [.int y1, .ref a0]) (As := [.long 1111]) (rest := [.ref a0]) cx hS rfl hl.1 hm (metX7_isWord l _ _ _ _ _ (hth.at hS) e9) (jle hf) (hth.at hS) rfl (lw_V q1895 q1897 qs56 q123 q1898) pdX7_isWord rfl rfl (Nat.le_of_ble_eq_true rfl) ⟨Nat.le_of_ble_eq_true rfl, Nat.le_of_ble_eq_true rfl⟩ dX7_reads_329 rfl (fun H locs cells slots hS => ?_)
  refine lv_if_eq (pc := 332) (tgt := 340) hx hb dX7_reads_332 (by decide) (fun hc => ?_) (fun hc => ?_)
  · have hf := jI_t hf hc
    refine lv_bipush (pc := 340) (v := 27) hx hb dX7_reads_340 rfl ?_
    exact wX7_reads_342 cx e1 e2 a0 hth hk11 _ _ _ _ _ _ _ _ hf hS hl
  · have hf := jI_f hf hc
    refine lv_bipush (pc := 335) (v := 26) hx hb dX7_reads_335 rfl ?_
    refine lv_goto (pc := 337) (tgt := 342) hx hb dX7_reads_337 (by decide) ?_
    exact wX7_reads_342 cx e1 e2 a0 hth hk11 _ _ _ _ _ _ _ _ hf hS hl
theorem wX7_reads_304 {N : Nat} {k11 : Int32 → Int32 → jM Int32} {r : Int32} (cx : jCx p s m args meth c cX7_reads "WornSkinModel" 6 (Option.some Jvm.ClassFile.FieldType.boolean) D dA H0 hs.2.2.2.2) (e1 : h'.2.2.1 = hs.2.2.1 + mc) (e2 : h'.2.2.2.1 = hs.2.2.2.1 + ms) (a0 : Nat) (hth : jTh hs a0 7) (hk11 : ∀ (x1 : Int32) (x2 : Int32), ∀ (h : jH) (H : Heap) (locs : List Loc) (cells slots : Nat) (ls : Array Slot), (k11 x1 x2).1 h = some (r, h') → jS D dA H0 hs h H locs cells slots → lv_has ls 6 [(0, .ref a0), (1, .int x1), (2, .int x2)] → W p l e { frames := 2, cells := mc, slots := ms, locals := 42 } s m args below meth c H locs cells slots (jQ D dA H0 below s (.returned (some (.int r))) h' mc ms) (F0 m 11 ls [])) : ∀ (x1 : Int32) (x2 : Int32), ∀ (h : jH) (H : Heap) (locs : List Loc) (cells slots : Nat) (ls : Array Slot), (fX7_reads_304 N k11 a0 x1 x2).1 h = some (r, h') → jS D dA H0 hs h H locs cells slots → lv_has ls 6 [(0, .ref a0), (1, .int x1), (2, .int x2)] → W p l e { frames := 2, cells := mc, slots := ms, locals := 42 } s m args below meth c H locs cells slots (jQ D dA H0 below s (.returned (some (.int r))) h' mc ms) (F0 m 304 ls []) := by
  have hx := cx.1
  have hb := cx.2.1
  have hown := cx.2.2.2.1
  have hts := cx.2.2.2.2.1
  have hm : h'.2.2.1 ≤ hs.2.2.1 + mc ∧ h'.2.2.2.1 ≤ hs.2.2.2.1 + ms := ⟨Nat.le_of_eq e1, Nat.le_of_eq e2⟩
  intro x1 x2 h H locs cells slots ls hf hS hl
  unfold fX7_reads_304 at hf
  refine lv_aload_n (pc := 304) hx hb dX7_reads_304 rfl (lv_at hl 0 rfl) ?_
  refine lv_ldc2 (pc := 305) (v := 1111) hx hb hown (hts _ q1932) dX7_reads_305 ?_
  obtain ⟨y1, h1, e9, hf⟩ := jB_some hf
  refine j_callV (pc := 308) (st1 := [.int y1]) (As := [.long 1111]) (rest := []) cx hS rfl hl.1 hm (metX7_isWord l _ _ _ _ _ (hth.at hS) e9) (jle hf) (hth.at hS) rfl (lw_V q1895 q1897 qs56 q123 q1898) pdX7_isWord rfl rfl (Nat.le_of_ble_eq_true rfl) ⟨Nat.le_of_ble_eq_true rfl, Nat.le_of_ble_eq_true rfl⟩ dX7_reads_308 rfl (fun H locs cells slots hS => ?_)
  refine lv_if_ne (pc := 311) (tgt := 324) hx hb dX7_reads_311 (by decide) (fun hc => ?_) (fun hc => ?_)
  · have hf := jI_f hf hc
    exact wX7_reads_324 cx e1 e2 a0 hth hk11 _ _ _ _ _ _ _ hf hS (lv_sub hl [0, 1] rfl)
  · have hf := jI_t hf hc
    refine lv_aload_n (pc := 314) hx hb dX7_reads_314 rfl (lv_at hl 0 rfl) ?_
    refine lv_ldc2 (pc := 315) (v := 423) hx hb hown (hts _ q1933) dX7_reads_315 ?_
    obtain ⟨y2, h1, e9, hf⟩ := jB_some hf
    refine j_callV (pc := 318) (st1 := [.int y2]) (As := [.long 423]) (rest := []) cx hS rfl hl.1 hm (metX7_isWord l _ _ _ _ _ (hth.at hS) e9) (jle hf) (hth.at hS) rfl (lw_V q1895 q1897 qs56 q123 q1898) pdX7_isWord rfl rfl (Nat.le_of_ble_eq_true rfl) ⟨Nat.le_of_ble_eq_true rfl, Nat.le_of_ble_eq_true rfl⟩ dX7_reads_318 rfl (fun H locs cells slots hS => ?_)
    refine lv_if_eq (pc := 321) (tgt := 357) hx hb dX7_reads_321 (by decide) (fun hc => ?_) (fun hc => ?_)
    · have hf := jI_t hf hc
      refine lv_aload_n (pc := 357) hx hb dX7_reads_357 rfl (lv_at hl 0 rfl) ?_
      refine lv_bipush (pc := 358) (v := 41) hx hb dX7_reads_358 rfl ?_
      obtain ⟨y3, h1, e9, hf⟩ := jB_some hf
      refine j_callV (pc := 360) (st1 := [.int y3]) (As := [.int 41]) (rest := []) cx hS rfl hl.1 hm (metX7_isSign l _ _ _ _ _ (hth.at hS) e9) (jle hf) (hth.at hS) rfl (lw_V q1957 q1959 qs66 q123 q1960) pdX7_isSign rfl rfl (Nat.le_of_ble_eq_true rfl) ⟨Nat.le_of_ble_eq_true rfl, Nat.le_of_ble_eq_true rfl⟩ dX7_reads_360 rfl (fun H locs cells slots hS => ?_)
      refine lv_if_eq (pc := 363) (tgt := 399) hx hb dX7_reads_363 (by decide) (fun hc => ?_) (fun hc => ?_)
      · have hf := jI_t hf hc
        exact wX7_reads_399 cx e1 e2 a0 hth _ _ _ _ _ _ _ hf hS (lv_sub hl [0, 1] rfl)
      · have hf := jI_f hf hc
        refine lv_iload_n (pc := 366) hx hb dX7_reads_366 rfl (lv_at hl 1 rfl) ?_
        refine lv_if_le (pc := 367) (tgt := 399) hx hb dX7_reads_367 (by decide) (fun hc => ?_) (fun hc => ?_)
        · have hf := jI_t hf hc
          exact wX7_reads_399 cx e1 e2 a0 hth _ _ _ _ _ _ _ hf hS (lv_sub hl [0, 1] rfl)
        · have hf := jI_f hf hc
          refine lv_aload_n (pc := 370) hx hb dX7_reads_370 rfl (lv_at hl 0 rfl) ?_
          refine lv_bipush (pc := 371) (v := 29) hx hb dX7_reads_371 rfl ?_
          obtain ⟨_, h1, e9, hf⟩ := jB_some hf
          refine j_callV (pc := 373) (st1 := []) (As := [.int 29]) (rest := []) cx hS rfl hl.1 hm (metX7_puts l _ _ _ _ _ (hth.at hS) e9) (jle hf) (hth.at hS) rfl (lw_V q1993 q1995 qs74 q123 q1996) pdX7_puts rfl rfl (Nat.le_of_ble_eq_true rfl) ⟨Nat.le_of_ble_eq_true rfl, Nat.le_of_ble_eq_true rfl⟩ dX7_reads_373 rfl (fun H locs cells slots hS => ?_)
          refine lv_iinc (pc := 376) (v := (x1 + (-1))) (lv' := [(1, .int (x1 + (-1))), (0, .ref a0), (2, .int x2)]) hx hb dX7_reads_376 hl (k := 1) rfl (jm1 _) (Nat.le_of_ble_eq_true rfl) rfl (fun ls hl => ?_)
          exact wX7_reads_379 cx e1 e2 a0 hth hk11 N _ _ _ _ _ _ _ _ hf hS (lv_sub hl [1, 0, 2] rfl)
    · have hf := jI_f hf hc
      exact wX7_reads_324 cx e1 e2 a0 hth hk11 _ _ _ _ _ _ _ hf hS (lv_sub hl [0, 1] rfl)
theorem wX7_reads_289 {N : Nat} {k11 : Int32 → Int32 → jM Int32} {r : Int32} (cx : jCx p s m args meth c cX7_reads "WornSkinModel" 6 (Option.some Jvm.ClassFile.FieldType.boolean) D dA H0 hs.2.2.2.2) (e1 : h'.2.2.1 = hs.2.2.1 + mc) (e2 : h'.2.2.2.1 = hs.2.2.2.1 + ms) (a0 : Nat) (hth : jTh hs a0 7) (hk11 : ∀ (x1 : Int32) (x2 : Int32), ∀ (h : jH) (H : Heap) (locs : List Loc) (cells slots : Nat) (ls : Array Slot), (k11 x1 x2).1 h = some (r, h') → jS D dA H0 hs h H locs cells slots → lv_has ls 6 [(0, .ref a0), (1, .int x1), (2, .int x2)] → W p l e { frames := 2, cells := mc, slots := ms, locals := 42 } s m args below meth c H locs cells slots (jQ D dA H0 below s (.returned (some (.int r))) h' mc ms) (F0 m 11 ls [])) : ∀ (x1 : Int32) (v1 : Int32), ∀ (h : jH) (H : Heap) (locs : List Loc) (cells slots : Nat) (ls : Array Slot), (fX7_reads_289 N k11 a0 x1 v1).1 h = some (r, h') → jS D dA H0 hs h H locs cells slots → lv_has ls 6 [(0, .ref a0), (1, .int x1)] → W p l e { frames := 2, cells := mc, slots := ms, locals := 42 } s m args below meth c H locs cells slots (jQ D dA H0 below s (.returned (some (.int r))) h' mc ms) (F0 m 289 ls [.int v1, .ref a0]) := by
  have hx := cx.1
  have hb := cx.2.1
  have hown := cx.2.2.2.1
  have hts := cx.2.2.2.2.1
  have hm : h'.2.2.1 ≤ hs.2.2.1 + mc ∧ h'.2.2.2.1 ≤ hs.2.2.2.1 + ms := ⟨Nat.le_of_eq e1, Nat.le_of_eq e2⟩
  intro x1 v1 h H locs cells slots ls hf hS hl
  unfold fX7_reads_289 at hf
  obtain ⟨_, h1, e9, hf⟩ := jB_some hf
  refine j_callV (pc := 289) (st1 := []) (As := [.int v1]) (rest := []) cx hS rfl hl.1 hm (metX7_puts l _ _ _ _ _ (hth.at hS) e9) (jle hf) (hth.at hS) rfl (lw_V q1993 q1995 qs74 q123 q1996) pdX7_puts rfl rfl (Nat.le_of_ble_eq_true rfl) ⟨Nat.le_of_ble_eq_true rfl, Nat.le_of_ble_eq_true rfl⟩ dX7_reads_289 rfl (fun H locs cells slots hS => ?_)
  refine lv_aload_n (pc := 292) hx hb dX7_reads_292 rfl (lv_at hl 0 rfl) ?_
  refine j_gR (pc := 293) cx hS hf fd_WornSkinModel_compared q1709 dX7_reads_293 (fun y2 hf => ?_)
  refine lv_iload_n (pc := 296) hx hb dX7_reads_296 rfl (lv_at hl 1 rfl) ?_
  refine lv_iconst (pc := 297) (v := 1) hx hb dX7_reads_297 rfl ?_
  refine j_sZ (pc := 298) cx hS hf rfl dX7_reads_298 (fun h H locs hf hS => ?_)
  refine lv_iconst (pc := 299) (v := 1) hx hb dX7_reads_299 rfl ?_
  refine lv_istore_n (pc := 300) (i := 2) (lv' := [(2, .int 1), (0, .ref a0), (1, .int x1)]) hx hb dX7_reads_300 rfl hl (Nat.le_of_ble_eq_true rfl) rfl (fun ls hl => ?_)
  refine lv_goto (pc := 301) (tgt := 424) hx hb dX7_reads_301 (by decide) ?_
  exact wX7_reads_424 cx e1 e2 a0 hth hk11 _ _ _ _ _ _ _ _ hf hS (lv_sub hl [1, 2, 0] rfl)
theorem wX7_reads_263 {N : Nat} {k11 : Int32 → Int32 → jM Int32} {r : Int32} (cx : jCx p s m args meth c cX7_reads "WornSkinModel" 6 (Option.some Jvm.ClassFile.FieldType.boolean) D dA H0 hs.2.2.2.2) (e1 : h'.2.2.1 = hs.2.2.1 + mc) (e2 : h'.2.2.2.1 = hs.2.2.2.1 + ms) (a0 : Nat) (hth : jTh hs a0 7) (hk11 : ∀ (x1 : Int32) (x2 : Int32), ∀ (h : jH) (H : Heap) (locs : List Loc) (cells slots : Nat) (ls : Array Slot), (k11 x1 x2).1 h = some (r, h') → jS D dA H0 hs h H locs cells slots → lv_has ls 6 [(0, .ref a0), (1, .int x1), (2, .int x2)] → W p l e { frames := 2, cells := mc, slots := ms, locals := 42 } s m args below meth c H locs cells slots (jQ D dA H0 below s (.returned (some (.int r))) h' mc ms) (F0 m 11 ls [])) : ∀ (x1 : Int32) (x2 : Int32), ∀ (h : jH) (H : Heap) (locs : List Loc) (cells slots : Nat) (ls : Array Slot), (fX7_reads_263 N k11 a0 x1 x2).1 h = some (r, h') → jS D dA H0 hs h H locs cells slots → lv_has ls 6 [(0, .ref a0), (1, .int x1), (2, .int x2)] → W p l e { frames := 2, cells := mc, slots := ms, locals := 42 } s m args below meth c H locs cells slots (jQ D dA H0 below s (.returned (some (.int r))) h' mc ms) (F0 m 263 ls []) := by
  have hx := cx.1
  have hb := cx.2.1
  have hown := cx.2.2.2.1
  have hts := cx.2.2.2.2.1
  have hm : h'.2.2.1 ≤ hs.2.2.1 + mc ∧ h'.2.2.2.1 ≤ hs.2.2.2.1 + ms := ⟨Nat.le_of_eq e1, Nat.le_of_eq e2⟩
  intro x1 x2 h H locs cells slots ls hf hS hl
  unfold fX7_reads_263 at hf
  refine lv_aload_n (pc := 263) hx hb dX7_reads_263 rfl (lv_at hl 0 rfl) ?_
  refine j_gR (pc := 264) cx hS hf fd_WornSkinModel_compared q1709 dX7_reads_264 (fun y1 hf => ?_)
  refine lv_iload_n (pc := 267) hx hb dX7_reads_267 rfl (lv_at hl 1 rfl) ?_
  refine j_aZ (pc := 268) cx hS hf (Or.inl rfl) dX7_reads_268 (fun y2 hf => ?_)
  refine lv_if_ne (pc := 269) (tgt := 304) hx hb dX7_reads_269 (by decide) (fun hc => ?_) (fun hc => ?_)
  · have hf := jI_f hf hc
    exact wX7_reads_304 cx e1 e2 a0 hth hk11 _ _ _ _ _ _ _ _ hf hS hl
  · have hf := jI_t hf hc
    refine lv_aload_n (pc := 272) hx hb dX7_reads_272 rfl (lv_at hl 0 rfl) ?_
    refine lv_aload_n (pc := 273) hx hb dX7_reads_273 rfl (lv_at hl 0 rfl) ?_
    refine lv_bipush (pc := 274) (v := 60) hx hb dX7_reads_274 rfl ?_
    obtain ⟨y3, h1, e9, hf⟩ := jB_some hf
    refine j_callV (pc := 276) (st1 := [.int y3, .ref a0]) (As := [.int 60]) (rest := [.ref a0]) cx hS rfl hl.1 hm (metX7_isSign l _ _ _ _ _ (hth.at hS) e9) (jle hf) (hth.at hS) rfl (lw_V q1957 q1959 qs66 q123 q1960) pdX7_isSign rfl rfl (Nat.le_of_ble_eq_true rfl) ⟨Nat.le_of_ble_eq_true rfl, Nat.le_of_ble_eq_true rfl⟩ dX7_reads_276 rfl (fun H locs cells slots hS => ?_)
    refine lv_if_eq (pc := 279) (tgt := 287) hx hb dX7_reads_279 (by decide) (fun hc => ?_) (fun hc => ?_)
    · have hf := jI_t hf hc
      refine lv_bipush (pc := 287) (v := 25) hx hb dX7_reads_287 rfl ?_
      exact wX7_reads_289 cx e1 e2 a0 hth hk11 _ _ _ _ _ _ _ _ hf hS (lv_sub hl [0, 1] rfl)
    · have hf := jI_f hf hc
      refine lv_bipush (pc := 282) (v := 24) hx hb dX7_reads_282 rfl ?_
      refine lv_goto (pc := 284) (tgt := 289) hx hb dX7_reads_284 (by decide) ?_
      exact wX7_reads_289 cx e1 e2 a0 hth hk11 _ _ _ _ _ _ _ _ hf hS (lv_sub hl [0, 1] rfl)
theorem wX7_reads_237 {N : Nat} {k11 : Int32 → Int32 → jM Int32} {r : Int32} (cx : jCx p s m args meth c cX7_reads "WornSkinModel" 6 (Option.some Jvm.ClassFile.FieldType.boolean) D dA H0 hs.2.2.2.2) (e1 : h'.2.2.1 = hs.2.2.1 + mc) (e2 : h'.2.2.2.1 = hs.2.2.2.1 + ms) (a0 : Nat) (hth : jTh hs a0 7) (hk11 : ∀ (x1 : Int32) (x2 : Int32), ∀ (h : jH) (H : Heap) (locs : List Loc) (cells slots : Nat) (ls : Array Slot), (k11 x1 x2).1 h = some (r, h') → jS D dA H0 hs h H locs cells slots → lv_has ls 6 [(0, .ref a0), (1, .int x1), (2, .int x2)] → W p l e { frames := 2, cells := mc, slots := ms, locals := 42 } s m args below meth c H locs cells slots (jQ D dA H0 below s (.returned (some (.int r))) h' mc ms) (F0 m 11 ls [])) : ∀ (x1 : Int32) (v1 : Int32), ∀ (h : jH) (H : Heap) (locs : List Loc) (cells slots : Nat) (ls : Array Slot), (fX7_reads_237 N k11 a0 x1 v1).1 h = some (r, h') → jS D dA H0 hs h H locs cells slots → lv_has ls 6 [(0, .ref a0), (1, .int x1)] → W p l e { frames := 2, cells := mc, slots := ms, locals := 42 } s m args below meth c H locs cells slots (jQ D dA H0 below s (.returned (some (.int r))) h' mc ms) (F0 m 237 ls [.int v1, .ref a0]) := by
  have hx := cx.1
  have hb := cx.2.1
  have hown := cx.2.2.2.1
  have hts := cx.2.2.2.2.1
  have hm : h'.2.2.1 ≤ hs.2.2.1 + mc ∧ h'.2.2.2.1 ≤ hs.2.2.2.1 + ms := ⟨Nat.le_of_eq e1, Nat.le_of_eq e2⟩
  intro x1 v1 h H locs cells slots ls hf hS hl
  unfold fX7_reads_237 at hf
  obtain ⟨_, h1, e9, hf⟩ := jB_some hf
  refine j_callV (pc := 237) (st1 := []) (As := [.int v1]) (rest := []) cx hS rfl hl.1 hm (metX7_puts l _ _ _ _ _ (hth.at hS) e9) (jle hf) (hth.at hS) rfl (lw_V q1993 q1995 qs74 q123 q1996) pdX7_puts rfl rfl (Nat.le_of_ble_eq_true rfl) ⟨Nat.le_of_ble_eq_true rfl, Nat.le_of_ble_eq_true rfl⟩ dX7_reads_237 rfl (fun H locs cells slots hS => ?_)
  refine lv_iconst (pc := 240) (v := 1) hx hb dX7_reads_240 rfl ?_
  refine lv_istore_n (pc := 241) (i := 2) (lv' := [(2, .int 1), (0, .ref a0), (1, .int x1)]) hx hb dX7_reads_241 rfl hl (Nat.le_of_ble_eq_true rfl) rfl (fun ls hl => ?_)
  refine lv_goto (pc := 242) (tgt := 424) hx hb dX7_reads_242 (by decide) ?_
  exact wX7_reads_424 cx e1 e2 a0 hth hk11 _ _ _ _ _ _ _ _ hf hS (lv_sub hl [1, 2, 0] rfl)
theorem wX7_reads_206 {N : Nat} {k11 : Int32 → Int32 → jM Int32} {r : Int32} (cx : jCx p s m args meth c cX7_reads "WornSkinModel" 6 (Option.some Jvm.ClassFile.FieldType.boolean) D dA H0 hs.2.2.2.2) (e1 : h'.2.2.1 = hs.2.2.1 + mc) (e2 : h'.2.2.2.1 = hs.2.2.2.1 + ms) (a0 : Nat) (hth : jTh hs a0 7) (hk11 : ∀ (x1 : Int32) (x2 : Int32), ∀ (h : jH) (H : Heap) (locs : List Loc) (cells slots : Nat) (ls : Array Slot), (k11 x1 x2).1 h = some (r, h') → jS D dA H0 hs h H locs cells slots → lv_has ls 6 [(0, .ref a0), (1, .int x1), (2, .int x2)] → W p l e { frames := 2, cells := mc, slots := ms, locals := 42 } s m args below meth c H locs cells slots (jQ D dA H0 below s (.returned (some (.int r))) h' mc ms) (F0 m 11 ls [])) : ∀ (x1 : Int32), ∀ (h : jH) (H : Heap) (locs : List Loc) (cells slots : Nat) (ls : Array Slot), (fX7_reads_206 N k11 a0 x1).1 h = some (r, h') → jS D dA H0 hs h H locs cells slots → lv_has ls 6 [(0, .ref a0), (1, .int x1)] → W p l e { frames := 2, cells := mc, slots := ms, locals := 42 } s m args below meth c H locs cells slots (jQ D dA H0 below s (.returned (some (.int r))) h' mc ms) (F0 m 206 ls []) := by
  have hx := cx.1
  have hb := cx.2.1
  have hown := cx.2.2.2.1
  have hts := cx.2.2.2.2.1
  have hm : h'.2.2.1 ≤ hs.2.2.1 + mc ∧ h'.2.2.2.1 ≤ hs.2.2.2.1 + ms := ⟨Nat.le_of_eq e1, Nat.le_of_eq e2⟩
  intro x1 h H locs cells slots ls hf hS hl
  unfold fX7_reads_206 at hf
  refine lv_aload_n (pc := 206) hx hb dX7_reads_206 rfl (lv_at hl 0 rfl) ?_
  refine lv_aload_n (pc := 207) hx hb dX7_reads_207 rfl (lv_at hl 0 rfl) ?_
  refine lv_bipush (pc := 208) (v := 43) hx hb dX7_reads_208 rfl ?_
  obtain ⟨y1, h1, e9, hf⟩ := jB_some hf
  refine j_callV (pc := 210) (st1 := [.int y1, .ref a0]) (As := [.int 43]) (rest := [.ref a0]) cx hS rfl hl.1 hm (metX7_isSign l _ _ _ _ _ (hth.at hS) e9) (jle hf) (hth.at hS) rfl (lw_V q1957 q1959 qs66 q123 q1960) pdX7_isSign rfl rfl (Nat.le_of_ble_eq_true rfl) ⟨Nat.le_of_ble_eq_true rfl, Nat.le_of_ble_eq_true rfl⟩ dX7_reads_210 rfl (fun H locs cells slots hS => ?_)
  refine lv_if_eq (pc := 213) (tgt := 221) hx hb dX7_reads_213 (by decide) (fun hc => ?_) (fun hc => ?_)
  · have hf := jI_t hf hc
    refine lv_aload_n (pc := 221) hx hb dX7_reads_221 rfl (lv_at hl 0 rfl) ?_
    refine lv_bipush (pc := 222) (v := 45) hx hb dX7_reads_222 rfl ?_
    obtain ⟨y2, h1, e9, hf⟩ := jB_some hf
    refine j_callV (pc := 224) (st1 := [.int y2, .ref a0]) (As := [.int 45]) (rest := [.ref a0]) cx hS rfl hl.1 hm (metX7_isSign l _ _ _ _ _ (hth.at hS) e9) (jle hf) (hth.at hS) rfl (lw_V q1957 q1959 qs66 q123 q1960) pdX7_isSign rfl rfl (Nat.le_of_ble_eq_true rfl) ⟨Nat.le_of_ble_eq_true rfl, Nat.le_of_ble_eq_true rfl⟩ dX7_reads_224 rfl (fun H locs cells slots hS => ?_)
    refine lv_if_eq (pc := 227) (tgt := 235) hx hb dX7_reads_227 (by decide) (fun hc => ?_) (fun hc => ?_)
    · have hf := jI_t hf hc
      refine lv_bipush (pc := 235) (v := 22) hx hb dX7_reads_235 rfl ?_
      exact wX7_reads_237 cx e1 e2 a0 hth hk11 _ _ _ _ _ _ _ _ hf hS hl
    · have hf := jI_f hf hc
      refine lv_bipush (pc := 230) (v := 21) hx hb dX7_reads_230 rfl ?_
      refine lv_goto (pc := 232) (tgt := 237) hx hb dX7_reads_232 (by decide) ?_
      exact wX7_reads_237 cx e1 e2 a0 hth hk11 _ _ _ _ _ _ _ _ hf hS hl
  · have hf := jI_f hf hc
    refine lv_bipush (pc := 216) (v := 20) hx hb dX7_reads_216 rfl ?_
    refine lv_goto (pc := 218) (tgt := 237) hx hb dX7_reads_218 (by decide) ?_
    exact wX7_reads_237 cx e1 e2 a0 hth hk11 _ _ _ _ _ _ _ _ hf hS hl
theorem wX7_reads_172 {N : Nat} {k11 : Int32 → Int32 → jM Int32} {r : Int32} (cx : jCx p s m args meth c cX7_reads "WornSkinModel" 6 (Option.some Jvm.ClassFile.FieldType.boolean) D dA H0 hs.2.2.2.2) (e1 : h'.2.2.1 = hs.2.2.1 + mc) (e2 : h'.2.2.2.1 = hs.2.2.2.1 + ms) (a0 : Nat) (hth : jTh hs a0 7) (hk11 : ∀ (x1 : Int32) (x2 : Int32), ∀ (h : jH) (H : Heap) (locs : List Loc) (cells slots : Nat) (ls : Array Slot), (k11 x1 x2).1 h = some (r, h') → jS D dA H0 hs h H locs cells slots → lv_has ls 6 [(0, .ref a0), (1, .int x1), (2, .int x2)] → W p l e { frames := 2, cells := mc, slots := ms, locals := 42 } s m args below meth c H locs cells slots (jQ D dA H0 below s (.returned (some (.int r))) h' mc ms) (F0 m 11 ls [])) : ∀ (x1 : Int32) (x2 : Int32), ∀ (h : jH) (H : Heap) (locs : List Loc) (cells slots : Nat) (ls : Array Slot), (fX7_reads_172 N k11 a0 x1 x2).1 h = some (r, h') → jS D dA H0 hs h H locs cells slots → lv_has ls 6 [(0, .ref a0), (1, .int x1), (2, .int x2)] → W p l e { frames := 2, cells := mc, slots := ms, locals := 42 } s m args below meth c H locs cells slots (jQ D dA H0 below s (.returned (some (.int r))) h' mc ms) (F0 m 172 ls []) := by
  have hx := cx.1
  have hb := cx.2.1
  have hown := cx.2.2.2.1
  have hts := cx.2.2.2.2.1
  have hm : h'.2.2.1 ≤ hs.2.2.1 + mc ∧ h'.2.2.2.1 ≤ hs.2.2.2.1 + ms := ⟨Nat.le_of_eq e1, Nat.le_of_eq e2⟩
  intro x1 x2 h H locs cells slots ls hf hS hl
  unfold fX7_reads_172 at hf
  refine lv_aload_n (pc := 172) hx hb dX7_reads_172 rfl (lv_at hl 0 rfl) ?_
  obtain ⟨_, h1, e9, hf⟩ := jB_some hf
  refine j_callV (pc := 173) (st1 := []) (As := []) (rest := []) cx hS rfl hl.1 hm (metX7_nextToken l _ _ _ _ _ (hth.at hS) e9) (jle hf) (hth.at hS) rfl (lw_V q1884 q1886 qs54 q123 q1887) pdX7_nextToken rfl rfl (Nat.le_of_ble_eq_true rfl) ⟨Nat.le_of_ble_eq_true rfl, Nat.le_of_ble_eq_true rfl⟩ dX7_reads_173 rfl (fun H locs cells slots hS => ?_)
  refine lv_goto (pc := 176) (tgt := 11) hx hb dX7_reads_176 (by decide) ?_
  exact hk11 _ _ _ _ _ _ _ _ hf hS hl
theorem wX7_reads_152 {N : Nat} {k11 : Int32 → Int32 → jM Int32} {r : Int32} (cx : jCx p s m args meth c cX7_reads "WornSkinModel" 6 (Option.some Jvm.ClassFile.FieldType.boolean) D dA H0 hs.2.2.2.2) (e1 : h'.2.2.1 = hs.2.2.1 + mc) (e2 : h'.2.2.2.1 = hs.2.2.2.1 + ms) (a0 : Nat) (hth : jTh hs a0 7) (hk11 : ∀ (x1 : Int32) (x2 : Int32), ∀ (h : jH) (H : Heap) (locs : List Loc) (cells slots : Nat) (ls : Array Slot), (k11 x1 x2).1 h = some (r, h') → jS D dA H0 hs h H locs cells slots → lv_has ls 6 [(0, .ref a0), (1, .int x1), (2, .int x2)] → W p l e { frames := 2, cells := mc, slots := ms, locals := 42 } s m args below meth c H locs cells slots (jQ D dA H0 below s (.returned (some (.int r))) h' mc ms) (F0 m 11 ls [])) : ∀ (n : Nat) (x1 : Int32) (x2 : Int32), ∀ (h : jH) (H : Heap) (locs : List Loc) (cells slots : Nat) (ls : Array Slot), (fX7_reads_152 N k11 a0 n x1 x2).1 h = some (r, h') → jS D dA H0 hs h H locs cells slots → lv_has ls 6 [(0, .ref a0), (1, .int x1), (2, .int x2)] → W p l e { frames := 2, cells := mc, slots := ms, locals := 42 } s m args below meth c H locs cells slots (jQ D dA H0 below s (.returned (some (.int r))) h' mc ms) (F0 m 152 ls []) := by
  have hx := cx.1
  have hb := cx.2.1
  have hown := cx.2.2.2.1
  have hts := cx.2.2.2.2.1
  have hm : h'.2.2.1 ≤ hs.2.2.1 + mc ∧ h'.2.2.2.1 ≤ hs.2.2.2.1 + ms := ⟨Nat.le_of_eq e1, Nat.le_of_eq e2⟩
  intro n
  induction n with
  | zero =>
    intro x1 x2 h H locs cells slots ls hf hS hl
    exact jE_f hf
  | succ n ih =>
    intro x1 x2 h H locs cells slots ls hf hS hl
    unfold fX7_reads_152 at hf
    refine lv_iload_n (pc := 152) hx hb dX7_reads_152 rfl (lv_at hl 1 rfl) ?_
    refine lv_if_le (pc := 153) (tgt := 172) hx hb dX7_reads_153 (by decide) (fun hc => ?_) (fun hc => ?_)
    · have hf := jI_t hf hc
      exact wX7_reads_172 cx e1 e2 a0 hth hk11 _ _ _ _ _ _ _ _ hf hS hl
    · have hf := jI_f hf hc
      refine lv_aload_n (pc := 156) hx hb dX7_reads_156 rfl (lv_at hl 0 rfl) ?_
      refine j_gR (pc := 157) cx hS hf fd_WornSkinModel_opened q1708 dX7_reads_157 (fun y1 hf => ?_)
      refine lv_iload_n (pc := 160) hx hb dX7_reads_160 rfl (lv_at hl 1 rfl) ?_
      refine j_aI (pc := 161) cx hS hf rfl dX7_reads_161 (fun y2 hf => ?_)
      refine lv_iconst (pc := 162) (v := 1) hx hb dX7_reads_162 rfl ?_
      refine lv_icmp_ne (pc := 163) (tgt := 172) hx hb dX7_reads_163 (by decide) (fun hc => ?_) (fun hc => ?_)
      · have hf := jI_f hf hc
        exact wX7_reads_172 cx e1 e2 a0 hth hk11 _ _ _ _ _ _ _ _ hf hS hl
      · have hf := jI_t hf hc
        refine lv_iinc (pc := 166) (v := (x1 + (-1))) (lv' := [(1, .int (x1 + (-1))), (0, .ref a0), (2, .int x2)]) hx hb dX7_reads_166 hl (k := 1) rfl (jm1 _) (Nat.le_of_ble_eq_true rfl) rfl (fun ls hl => ?_)
        refine lv_goto (pc := 169) (tgt := 152) hx hb dX7_reads_169 (by decide) ?_
        exact ih _ _ _ _ _ _ _ _ hf hS (lv_sub hl [1, 0, 2] rfl)
theorem wX7_reads_147 {N : Nat} {k11 : Int32 → Int32 → jM Int32} {r : Int32} (cx : jCx p s m args meth c cX7_reads "WornSkinModel" 6 (Option.some Jvm.ClassFile.FieldType.boolean) D dA H0 hs.2.2.2.2) (e1 : h'.2.2.1 = hs.2.2.1 + mc) (e2 : h'.2.2.2.1 = hs.2.2.2.1 + ms) (a0 : Nat) (hth : jTh hs a0 7) (hk11 : ∀ (x1 : Int32) (x2 : Int32), ∀ (h : jH) (H : Heap) (locs : List Loc) (cells slots : Nat) (ls : Array Slot), (k11 x1 x2).1 h = some (r, h') → jS D dA H0 hs h H locs cells slots → lv_has ls 6 [(0, .ref a0), (1, .int x1), (2, .int x2)] → W p l e { frames := 2, cells := mc, slots := ms, locals := 42 } s m args below meth c H locs cells slots (jQ D dA H0 below s (.returned (some (.int r))) h' mc ms) (F0 m 11 ls [])) : ∀ (x1 : Int32) (v1 : Int32), ∀ (h : jH) (H : Heap) (locs : List Loc) (cells slots : Nat) (ls : Array Slot), (fX7_reads_147 N k11 a0 x1 v1).1 h = some (r, h') → jS D dA H0 hs h H locs cells slots → lv_has ls 6 [(0, .ref a0), (1, .int x1)] → W p l e { frames := 2, cells := mc, slots := ms, locals := 42 } s m args below meth c H locs cells slots (jQ D dA H0 below s (.returned (some (.int r))) h' mc ms) (F0 m 147 ls [.int v1, .ref a0]) := by
  have hx := cx.1
  have hb := cx.2.1
  have hown := cx.2.2.2.1
  have hts := cx.2.2.2.2.1
  have hm : h'.2.2.1 ≤ hs.2.2.1 + mc ∧ h'.2.2.2.1 ≤ hs.2.2.2.1 + ms := ⟨Nat.le_of_eq e1, Nat.le_of_eq e2⟩
  intro x1 v1 h H locs cells slots ls hf hS hl
  unfold fX7_reads_147 at hf
  obtain ⟨_, h1, e9, hf⟩ := jB_some hf
  refine j_callV (pc := 147) (st1 := []) (As := [.int v1]) (rest := []) cx hS rfl hl.1 hm (metX7_puts l _ _ _ _ _ (hth.at hS) e9) (jle hf) (hth.at hS) rfl (lw_V q1993 q1995 qs74 q123 q1996) pdX7_puts rfl rfl (Nat.le_of_ble_eq_true rfl) ⟨Nat.le_of_ble_eq_true rfl, Nat.le_of_ble_eq_true rfl⟩ dX7_reads_147 rfl (fun H locs cells slots hS => ?_)
  refine lv_iconst (pc := 150) (v := 0) hx hb dX7_reads_150 rfl ?_
  refine lv_istore_n (pc := 151) (i := 2) (lv' := [(2, .int 0), (0, .ref a0), (1, .int x1)]) hx hb dX7_reads_151 rfl hl (Nat.le_of_ble_eq_true rfl) rfl (fun ls hl => ?_)
  exact wX7_reads_152 cx e1 e2 a0 hth hk11 N _ _ _ _ _ _ _ _ hf hS (lv_sub hl [1, 2, 0] rfl)
theorem wX7_reads_120 {N : Nat} {k11 : Int32 → Int32 → jM Int32} {r : Int32} (cx : jCx p s m args meth c cX7_reads "WornSkinModel" 6 (Option.some Jvm.ClassFile.FieldType.boolean) D dA H0 hs.2.2.2.2) (e1 : h'.2.2.1 = hs.2.2.1 + mc) (e2 : h'.2.2.2.1 = hs.2.2.2.1 + ms) (a0 : Nat) (hth : jTh hs a0 7) (hk11 : ∀ (x1 : Int32) (x2 : Int32), ∀ (h : jH) (H : Heap) (locs : List Loc) (cells slots : Nat) (ls : Array Slot), (k11 x1 x2).1 h = some (r, h') → jS D dA H0 hs h H locs cells slots → lv_has ls 6 [(0, .ref a0), (1, .int x1), (2, .int x2)] → W p l e { frames := 2, cells := mc, slots := ms, locals := 42 } s m args below meth c H locs cells slots (jQ D dA H0 below s (.returned (some (.int r))) h' mc ms) (F0 m 11 ls [])) : ∀ (x1 : Int32) (x2 : Int32) (v0 : Option Nat) (v1 : Int32) (v2 : Int32), ∀ (h : jH) (H : Heap) (locs : List Loc) (cells slots : Nat) (ls : Array Slot), (fX7_reads_120 N k11 a0 x1 x2 v0 v1 v2).1 h = some (r, h') → jS D dA H0 hs h H locs cells slots → lv_has ls 6 [(0, .ref a0), (1, .int x1), (2, .int x2)] → W p l e { frames := 2, cells := mc, slots := ms, locals := 42 } s m args below meth c H locs cells slots (jQ D dA H0 below s (.returned (some (.int r))) h' mc ms) (F0 m 120 ls [.int v2, .int v1, va_rf v0]) := by
  have hx := cx.1
  have hb := cx.2.1
  have hown := cx.2.2.2.1
  have hts := cx.2.2.2.2.1
  have hm : h'.2.2.1 ≤ hs.2.2.1 + mc ∧ h'.2.2.2.1 ≤ hs.2.2.2.1 + ms := ⟨Nat.le_of_eq e1, Nat.le_of_eq e2⟩
  intro x1 x2 v0 v1 v2 h H locs cells slots ls hf hS hl
  unfold fX7_reads_120 at hf
  refine j_sI (pc := 120) cx hS hf rfl dX7_reads_120 (fun h H locs hf hS => ?_)
  refine lv_aload_n (pc := 121) hx hb dX7_reads_121 rfl (lv_at hl 0 rfl) ?_
  refine j_gR (pc := 122) cx hS hf fd_WornSkinModel_compared q1709 dX7_reads_122 (fun y1 hf => ?_)
  refine lv_iload_n (pc := 125) hx hb dX7_reads_125 rfl (lv_at hl 1 rfl) ?_
  refine lv_iconst (pc := 126) (v := 0) hx hb dX7_reads_126 rfl ?_
  refine j_sZ (pc := 127) cx hS hf rfl dX7_reads_127 (fun h H locs hf hS => ?_)
  refine lv_goto (pc := 128) (tgt := 172) hx hb dX7_reads_128 (by decide) ?_
  exact wX7_reads_172 cx e1 e2 a0 hth hk11 _ _ _ _ _ _ _ _ hf hS hl
theorem wX7_reads_99 {N : Nat} {k11 : Int32 → Int32 → jM Int32} {r : Int32} (cx : jCx p s m args meth c cX7_reads "WornSkinModel" 6 (Option.some Jvm.ClassFile.FieldType.boolean) D dA H0 hs.2.2.2.2) (e1 : h'.2.2.1 = hs.2.2.1 + mc) (e2 : h'.2.2.2.1 = hs.2.2.2.1 + ms) (a0 : Nat) (hth : jTh hs a0 7) (hk11 : ∀ (x1 : Int32) (x2 : Int32), ∀ (h : jH) (H : Heap) (locs : List Loc) (cells slots : Nat) (ls : Array Slot), (k11 x1 x2).1 h = some (r, h') → jS D dA H0 hs h H locs cells slots → lv_has ls 6 [(0, .ref a0), (1, .int x1), (2, .int x2)] → W p l e { frames := 2, cells := mc, slots := ms, locals := 42 } s m args below meth c H locs cells slots (jQ D dA H0 below s (.returned (some (.int r))) h' mc ms) (F0 m 11 ls [])) : ∀ (x1 : Int32) (x2 : Int32) (x4 : Int32) (v1 : Int32), ∀ (h : jH) (H : Heap) (locs : List Loc) (cells slots : Nat) (ls : Array Slot), (fX7_reads_99 N k11 a0 x1 x2 x4 v1).1 h = some (r, h') → jS D dA H0 hs h H locs cells slots → lv_has ls 6 [(0, .ref a0), (1, .int x1), (2, .int x2), (4, .int x4)] → W p l e { frames := 2, cells := mc, slots := ms, locals := 42 } s m args below meth c H locs cells slots (jQ D dA H0 below s (.returned (some (.int r))) h' mc ms) (F0 m 99 ls [.int v1, .ref a0]) := by
  have hx := cx.1
  have hb := cx.2.1
  have hown := cx.2.2.2.1
  have hts := cx.2.2.2.2.1
  have hm : h'.2.2.1 ≤ hs.2.2.1 + mc ∧ h'.2.2.2.1 ≤ hs.2.2.2.1 + ms := ⟨Nat.le_of_eq e1, Nat.le_of_eq e2⟩
  intro x1 x2 x4 v1 h H locs cells slots ls hf hS hl
  unfold fX7_reads_99 at hf
  obtain ⟨_, h1, e9, hf⟩ := jB_some hf
  refine j_callV (pc := 99) (st1 := []) (As := [.int v1]) (rest := []) cx hS rfl hl.1 hm (metX7_puts l _ _ _ _ _ (hth.at hS) e9) (jle hf) (hth.at hS) rfl (lw_V q1993 q1995 qs74 q123 q1996) pdX7_puts rfl rfl (Nat.le_of_ble_eq_true rfl) ⟨Nat.le_of_ble_eq_true rfl, Nat.le_of_ble_eq_true rfl⟩ dX7_reads_99 rfl (fun H locs cells slots hS => ?_)
  refine lv_iinc (pc := 102) (v := (x1 + 1)) (lv' := [(1, .int (x1 + 1)), (0, .ref a0), (2, .int x2), (4, .int x4)]) hx hb dX7_reads_102 hl (k := 1) rfl rfl (Nat.le_of_ble_eq_true rfl) rfl (fun ls hl => ?_)
  refine lv_aload_n (pc := 105) hx hb dX7_reads_105 rfl (lv_at hl 1 rfl) ?_
  refine j_gR (pc := 106) cx hS hf fd_WornSkinModel_opened q1708 dX7_reads_106 (fun y2 hf => ?_)
  refine lv_iload_n (pc := 109) hx hb dX7_reads_109 rfl (lv_at hl 0 rfl) ?_
  refine lv_iload (pc := 110) hx hb dX7_reads_110 (lv_at hl 3 rfl) ?_
  refine lv_if_eq (pc := 112) (tgt := 119) hx hb dX7_reads_112 (by decide) (fun hc => ?_) (fun hc => ?_)
  · have hf := jI_t hf hc
    refine lv_iconst (pc := 119) (v := 2) hx hb dX7_reads_119 rfl ?_
    exact wX7_reads_120 cx e1 e2 a0 hth hk11 _ _ _ _ _ _ _ _ _ _ _ hf hS (lv_sub hl [1, 0, 2] rfl)
  · have hf := jI_f hf hc
    refine lv_iconst (pc := 115) (v := 1) hx hb dX7_reads_115 rfl ?_
    refine lv_goto (pc := 116) (tgt := 120) hx hb dX7_reads_116 (by decide) ?_
    exact wX7_reads_120 cx e1 e2 a0 hth hk11 _ _ _ _ _ _ _ _ _ _ _ hf hS (lv_sub hl [1, 0, 2] rfl)
theorem wX7_reads_86 {N : Nat} {k11 : Int32 → Int32 → jM Int32} {r : Int32} (cx : jCx p s m args meth c cX7_reads "WornSkinModel" 6 (Option.some Jvm.ClassFile.FieldType.boolean) D dA H0 hs.2.2.2.2) (e1 : h'.2.2.1 = hs.2.2.1 + mc) (e2 : h'.2.2.2.1 = hs.2.2.2.1 + ms) (a0 : Nat) (hth : jTh hs a0 7) (hk11 : ∀ (x1 : Int32) (x2 : Int32), ∀ (h : jH) (H : Heap) (locs : List Loc) (cells slots : Nat) (ls : Array Slot), (k11 x1 x2).1 h = some (r, h') → jS D dA H0 hs h H locs cells slots → lv_has ls 6 [(0, .ref a0), (1, .int x1), (2, .int x2)] → W p l e { frames := 2, cells := mc, slots := ms, locals := 42 } s m args below meth c H locs cells slots (jQ D dA H0 below s (.returned (some (.int r))) h' mc ms) (F0 m 11 ls [])) : ∀ (x1 : Int32) (x2 : Int32) (x4 : Int32), ∀ (h : jH) (H : Heap) (locs : List Loc) (cells slots : Nat) (ls : Array Slot), (fX7_reads_86 N k11 a0 x1 x2 x4).1 h = some (r, h') → jS D dA H0 hs h H locs cells slots → lv_has ls 6 [(0, .ref a0), (1, .int x1), (2, .int x2), (4, .int x4)] → W p l e { frames := 2, cells := mc, slots := ms, locals := 42 } s m args below meth c H locs cells slots (jQ D dA H0 below s (.returned (some (.int r))) h' mc ms) (F0 m 86 ls []) := by
  have hx := cx.1
  have hb := cx.2.1
  have hown := cx.2.2.2.1
  have hts := cx.2.2.2.2.1
  have hm : h'.2.2.1 ≤ hs.2.2.1 + mc ∧ h'.2.2.2.1 ≤ hs.2.2.2.1 + ms := ⟨Nat.le_of_eq e1, Nat.le_of_eq e2⟩
  intro x1 x2 x4 h H locs cells slots ls hf hS hl
  unfold fX7_reads_86 at hf
  refine lv_aload_n (pc := 86) hx hb dX7_reads_86 rfl (lv_at hl 0 rfl) ?_
  refine lv_iload (pc := 87) hx hb dX7_reads_87 (lv_at hl 3 rfl) ?_
  refine lv_if_eq (pc := 89) (tgt := 97) hx hb dX7_reads_89 (by decide) (fun hc => ?_) (fun hc => ?_)
  · have hf := jI_t hf hc
    refine lv_bipush (pc := 97) (v := 28) hx hb dX7_reads_97 rfl ?_
    exact wX7_reads_99 cx e1 e2 a0 hth hk11 _ _ _ _ _ _ _ _ _ _ hf hS hl
  · have hf := jI_f hf hc
    refine lv_bipush (pc := 92) (v := 30) hx hb dX7_reads_92 rfl ?_
    refine lv_goto (pc := 94) (tgt := 99) hx hb dX7_reads_94 (by decide) ?_
    exact wX7_reads_99 cx e1 e2 a0 hth hk11 _ _ _ _ _ _ _ _ _ _ hf hS hl
theorem wX7_reads_70 {N : Nat} {r : Int32} (cx : jCx p s m args meth c cX7_reads "WornSkinModel" 6 (Option.some Jvm.ClassFile.FieldType.boolean) D dA H0 hs.2.2.2.2) (e1 : h'.2.2.1 = hs.2.2.1 + mc) (e2 : h'.2.2.2.1 = hs.2.2.2.1 + ms) (a0 : Nat) (hth : jTh hs a0 7) : ∀ (h : jH) (H : Heap) (locs : List Loc) (cells slots : Nat) (ls : Array Slot), (fX7_reads_70 N a0).1 h = some (r, h') → jS D dA H0 hs h H locs cells slots → lv_has ls 6 [(0, .ref a0)] → W p l e { frames := 2, cells := mc, slots := ms, locals := 42 } s m args below meth c H locs cells slots (jQ D dA H0 below s (.returned (some (.int r))) h' mc ms) (F0 m 70 ls []) := by
  have hx := cx.1
  have hb := cx.2.1
  have hown := cx.2.2.2.1
  have hts := cx.2.2.2.2.1
  have hm : h'.2.2.1 ≤ hs.2.2.1 + mc ∧ h'.2.2.2.1 ≤ hs.2.2.2.1 + ms := ⟨Nat.le_of_eq e1, Nat.le_of_eq e2⟩
  intro h H locs cells slots ls hf hS hl
  unfold fX7_reads_70 at hf
  refine lv_aload_n (pc := 70) hx hb dX7_reads_70 rfl (lv_at hl 0 rfl) ?_
  refine lv_iconst (pc := 71) (v := 5) hx hb dX7_reads_71 rfl ?_
  obtain ⟨y1, h1, e9, hf⟩ := jB_some hf
  refine j_callV (pc := 72) (st1 := [.int y1]) (As := [.int 5]) (rest := []) cx hS rfl hl.1 hm (metX7_fails l _ _ _ _ _ (hth.at hS) e9) (jle hf) (hth.at hS) rfl (lw_V q1903 q1905 qs58 q123 q1906) pdX7_fails rfl rfl (Nat.le_of_ble_eq_true rfl) ⟨Nat.le_of_ble_eq_true rfl, Nat.le_of_ble_eq_true rfl⟩ dX7_reads_72 rfl (fun H locs cells slots hS => ?_)
  exact j_zret (pc := 75) cx (Or.inl rfl) hS hf e1 e2 dX7_reads_75
theorem wX7_reads_65 {N : Nat} {k11 : Int32 → Int32 → jM Int32} {r : Int32} (cx : jCx p s m args meth c cX7_reads "WornSkinModel" 6 (Option.some Jvm.ClassFile.FieldType.boolean) D dA H0 hs.2.2.2.2) (e1 : h'.2.2.1 = hs.2.2.1 + mc) (e2 : h'.2.2.2.1 = hs.2.2.2.1 + ms) (a0 : Nat) (hth : jTh hs a0 7) (hk11 : ∀ (x1 : Int32) (x2 : Int32), ∀ (h : jH) (H : Heap) (locs : List Loc) (cells slots : Nat) (ls : Array Slot), (k11 x1 x2).1 h = some (r, h') → jS D dA H0 hs h H locs cells slots → lv_has ls 6 [(0, .ref a0), (1, .int x1), (2, .int x2)] → W p l e { frames := 2, cells := mc, slots := ms, locals := 42 } s m args below meth c H locs cells slots (jQ D dA H0 below s (.returned (some (.int r))) h' mc ms) (F0 m 11 ls [])) : ∀ (x1 : Int32) (x2 : Int32) (x3 : Int32) (x4 : Int32) (x5 : Int32), ∀ (h : jH) (H : Heap) (locs : List Loc) (cells slots : Nat) (ls : Array Slot), (fX7_reads_65 N k11 a0 x1 x2 x3 x4 x5).1 h = some (r, h') → jS D dA H0 hs h H locs cells slots → lv_has ls 6 [(0, .ref a0), (1, .int x1), (2, .int x2), (3, .int x3), (4, .int x4), (5, .int x5)] → W p l e { frames := 2, cells := mc, slots := ms, locals := 42 } s m args below meth c H locs cells slots (jQ D dA H0 below s (.returned (some (.int r))) h' mc ms) (F0 m 65 ls []) := by
  have hx := cx.1
  have hb := cx.2.1
  have hown := cx.2.2.2.1
  have hts := cx.2.2.2.2.1
  have hm : h'.2.2.1 ≤ hs.2.2.1 + mc ∧ h'.2.2.2.1 ≤ hs.2.2.2.1 + ms := ⟨Nat.le_of_eq e1, Nat.le_of_eq e2⟩
  intro x1 x2 x3 x4 x5 h H locs cells slots ls hf hS hl
  unfold fX7_reads_65 at hf
  refine lv_iload_n (pc := 65) hx hb dX7_reads_65 rfl (lv_at hl 1 rfl) ?_
  refine lv_iconst (pc := 66) (v := 5) hx hb dX7_reads_66 rfl ?_
  refine lv_icmp_ne (pc := 67) (tgt := 76) hx hb dX7_reads_67 (by decide) (fun hc => ?_) (fun hc => ?_)
  · have hf := jI_f hf hc
    refine lv_iload (pc := 76) hx hb dX7_reads_76 (lv_at hl 4 rfl) ?_
    refine lv_if_ne (pc := 78) (tgt := 86) hx hb dX7_reads_78 (by decide) (fun hc => ?_) (fun hc => ?_)
    · have hf := jI_f hf hc
      exact wX7_reads_86 cx e1 e2 a0 hth hk11 _ _ _ _ _ _ _ _ _ hf hS (lv_sub hl [0, 1, 2, 4] rfl)
    · have hf := jI_t hf hc
      refine lv_iload (pc := 81) hx hb dX7_reads_81 (lv_at hl 5 rfl) ?_
      refine lv_if_eq (pc := 83) (tgt := 131) hx hb dX7_reads_83 (by decide) (fun hc => ?_) (fun hc => ?_)
      · have hf := jI_t hf hc
        refine lv_aload_n (pc := 131) hx hb dX7_reads_131 rfl (lv_at hl 0 rfl) ?_
        refine lv_iload_n (pc := 132) hx hb dX7_reads_132 rfl (lv_at hl 3 rfl) ?_
        refine lv_if_le (pc := 133) (tgt := 140) hx hb dX7_reads_133 (by decide) (fun hc => ?_) (fun hc => ?_)
        · have hf := jI_t hf hc
          refine lv_bipush (pc := 140) (v := 100) hx hb dX7_reads_140 rfl ?_
          refine lv_aload_n (pc := 142) hx hb dX7_reads_142 rfl (lv_at hl 0 rfl) ?_
          refine j_gI (pc := 143) cx hS hf fd_WornSkinModel_told q1692 dX7_reads_143 (fun y1 hf => ?_)
          refine lv_iadd (pc := 146) hx hb dX7_reads_146 ?_
          exact wX7_reads_147 cx e1 e2 a0 hth hk11 _ _ _ _ _ _ _ _ hf hS (lv_sub hl [0, 1] rfl)
        · have hf := jI_f hf hc
          refine lv_iload_n (pc := 136) hx hb dX7_reads_136 rfl (lv_at hl 3 rfl) ?_
          refine lv_goto (pc := 137) (tgt := 147) hx hb dX7_reads_137 (by decide) ?_
          exact wX7_reads_147 cx e1 e2 a0 hth hk11 _ _ _ _ _ _ _ _ hf hS (lv_sub hl [0, 1] rfl)
      · have hf := jI_f hf hc
        exact wX7_reads_86 cx e1 e2 a0 hth hk11 _ _ _ _ _ _ _ _ _ hf hS (lv_sub hl [0, 1, 2, 4] rfl)
  · have hf := jI_t hf hc
    exact wX7_reads_70 cx e1 e2 a0 hth _ _ _ _ _ _ hf hS (lv_sub hl [0] rfl)
theorem wX7_reads_59 {N : Nat} {r : Int32} (cx : jCx p s m args meth c cX7_reads "WornSkinModel" 6 (Option.some Jvm.ClassFile.FieldType.boolean) D dA H0 hs.2.2.2.2) (e1 : h'.2.2.1 = hs.2.2.1 + mc) (e2 : h'.2.2.2.1 = hs.2.2.2.1 + ms) (a0 : Nat) (hth : jTh hs a0 7) : ∀ (h : jH) (H : Heap) (locs : List Loc) (cells slots : Nat) (ls : Array Slot), (fX7_reads_59 N a0).1 h = some (r, h') → jS D dA H0 hs h H locs cells slots → lv_has ls 6 [(0, .ref a0)] → W p l e { frames := 2, cells := mc, slots := ms, locals := 42 } s m args below meth c H locs cells slots (jQ D dA H0 below s (.returned (some (.int r))) h' mc ms) (F0 m 59 ls []) := by
  have hx := cx.1
  have hb := cx.2.1
  have hown := cx.2.2.2.1
  have hts := cx.2.2.2.2.1
  have hm : h'.2.2.1 ≤ hs.2.2.1 + mc ∧ h'.2.2.2.1 ≤ hs.2.2.2.1 + ms := ⟨Nat.le_of_eq e1, Nat.le_of_eq e2⟩
  intro h H locs cells slots ls hf hS hl
  unfold fX7_reads_59 at hf
  refine lv_aload_n (pc := 59) hx hb dX7_reads_59 rfl (lv_at hl 0 rfl) ?_
  refine lv_iconst (pc := 60) (v := 1) hx hb dX7_reads_60 rfl ?_
  obtain ⟨y1, h1, e9, hf⟩ := jB_some hf
  refine j_callV (pc := 61) (st1 := [.int y1]) (As := [.int 1]) (rest := []) cx hS rfl hl.1 hm (metX7_fails l _ _ _ _ _ (hth.at hS) e9) (jle hf) (hth.at hS) rfl (lw_V q1903 q1905 qs58 q123 q1906) pdX7_fails rfl rfl (Nat.le_of_ble_eq_true rfl) ⟨Nat.le_of_ble_eq_true rfl, Nat.le_of_ble_eq_true rfl⟩ dX7_reads_61 rfl (fun H locs cells slots hS => ?_)
  exact j_zret (pc := 64) cx (Or.inl rfl) hS hf e1 e2 dX7_reads_64
theorem wX7_reads_11 {N : Nat} {r : Int32} (cx : jCx p s m args meth c cX7_reads "WornSkinModel" 6 (Option.some Jvm.ClassFile.FieldType.boolean) D dA H0 hs.2.2.2.2) (e1 : h'.2.2.1 = hs.2.2.1 + mc) (e2 : h'.2.2.2.1 = hs.2.2.2.1 + ms) (a0 : Nat) (hth : jTh hs a0 7) : ∀ (n : Nat) (x1 : Int32) (x2 : Int32), ∀ (h : jH) (H : Heap) (locs : List Loc) (cells slots : Nat) (ls : Array Slot), (fX7_reads_11 N a0 n x1 x2).1 h = some (r, h') → jS D dA H0 hs h H locs cells slots → lv_has ls 6 [(0, .ref a0), (1, .int x1), (2, .int x2)] → W p l e { frames := 2, cells := mc, slots := ms, locals := 42 } s m args below meth c H locs cells slots (jQ D dA H0 below s (.returned (some (.int r))) h' mc ms) (F0 m 11 ls []) := by
  have hx := cx.1
  have hb := cx.2.1
  have hown := cx.2.2.2.1
  have hts := cx.2.2.2.2.1
  have hm : h'.2.2.1 ≤ hs.2.2.1 + mc ∧ h'.2.2.2.1 ≤ hs.2.2.2.1 + ms := ⟨Nat.le_of_eq e1, Nat.le_of_eq e2⟩
  intro n
  induction n with
  | zero =>
    intro x1 x2 h H locs cells slots ls hf hS hl
    exact jE_f hf
  | succ n ih =>
    intro x1 x2 h H locs cells slots ls hf hS hl
    unfold fX7_reads_11 at hf
    refine lv_iload_n (pc := 11) hx hb dX7_reads_11 rfl (lv_at hl 2 rfl) ?_
    refine lv_if_eq (pc := 12) (tgt := 179) hx hb dX7_reads_12 (by decide) (fun hc => ?_) (fun hc => ?_)
    · have hf := jI_t hf hc
      refine lv_aload_n (pc := 179) hx hb dX7_reads_179 rfl (lv_at hl 0 rfl) ?_
      refine lv_bipush (pc := 180) (v := 43) hx hb dX7_reads_180 rfl ?_
      obtain ⟨y1, h1, e9, hf⟩ := jB_some hf
      refine j_callV (pc := 182) (st1 := [.int y1]) (As := [.int 43]) (rest := []) cx hS rfl hl.1 hm (metX7_isSign l _ _ _ _ _ (hth.at hS) e9) (jle hf) (hth.at hS) rfl (lw_V q1957 q1959 qs66 q123 q1960) pdX7_isSign rfl rfl (Nat.le_of_ble_eq_true rfl) ⟨Nat.le_of_ble_eq_true rfl, Nat.le_of_ble_eq_true rfl⟩ dX7_reads_182 rfl (fun H locs cells slots hS => ?_)
      refine lv_if_ne (pc := 185) (tgt := 206) hx hb dX7_reads_185 (by decide) (fun hc => ?_) (fun hc => ?_)
      · have hf := jI_f hf hc
        exact wX7_reads_206 cx e1 e2 a0 hth ih _ _ _ _ _ _ _ hf hS (lv_sub hl [0, 1] rfl)
      · have hf := jI_t hf hc
        refine lv_aload_n (pc := 188) hx hb dX7_reads_188 rfl (lv_at hl 0 rfl) ?_
        refine lv_bipush (pc := 189) (v := 45) hx hb dX7_reads_189 rfl ?_
        obtain ⟨y2, h1, e9, hf⟩ := jB_some hf
        refine j_callV (pc := 191) (st1 := [.int y2]) (As := [.int 45]) (rest := []) cx hS rfl hl.1 hm (metX7_isSign l _ _ _ _ _ (hth.at hS) e9) (jle hf) (hth.at hS) rfl (lw_V q1957 q1959 qs66 q123 q1960) pdX7_isSign rfl rfl (Nat.le_of_ble_eq_true rfl) ⟨Nat.le_of_ble_eq_true rfl, Nat.le_of_ble_eq_true rfl⟩ dX7_reads_191 rfl (fun H locs cells slots hS => ?_)
        refine lv_if_ne (pc := 194) (tgt := 206) hx hb dX7_reads_194 (by decide) (fun hc => ?_) (fun hc => ?_)
        · have hf := jI_f hf hc
          exact wX7_reads_206 cx e1 e2 a0 hth ih _ _ _ _ _ _ _ hf hS (lv_sub hl [0, 1] rfl)
        · have hf := jI_t hf hc
          refine lv_aload_n (pc := 197) hx hb dX7_reads_197 rfl (lv_at hl 0 rfl) ?_
          refine lv_bipush (pc := 198) (v := 42) hx hb dX7_reads_198 rfl ?_
          obtain ⟨y3, h1, e9, hf⟩ := jB_some hf
          refine j_callV (pc := 200) (st1 := [.int y3]) (As := [.int 42]) (rest := []) cx hS rfl hl.1 hm (metX7_isSign l _ _ _ _ _ (hth.at hS) e9) (jle hf) (hth.at hS) rfl (lw_V q1957 q1959 qs66 q123 q1960) pdX7_isSign rfl rfl (Nat.le_of_ble_eq_true rfl) ⟨Nat.le_of_ble_eq_true rfl, Nat.le_of_ble_eq_true rfl⟩ dX7_reads_200 rfl (fun H locs cells slots hS => ?_)
          refine lv_if_eq (pc := 203) (tgt := 245) hx hb dX7_reads_203 (by decide) (fun hc => ?_) (fun hc => ?_)
          · have hf := jI_t hf hc
            refine lv_aload_n (pc := 245) hx hb dX7_reads_245 rfl (lv_at hl 0 rfl) ?_
            refine lv_bipush (pc := 246) (v := 60) hx hb dX7_reads_246 rfl ?_
            obtain ⟨y4, h1, e9, hf⟩ := jB_some hf
            refine j_callV (pc := 248) (st1 := [.int y4]) (As := [.int 60]) (rest := []) cx hS rfl hl.1 hm (metX7_isSign l _ _ _ _ _ (hth.at hS) e9) (jle hf) (hth.at hS) rfl (lw_V q1957 q1959 qs66 q123 q1960) pdX7_isSign rfl rfl (Nat.le_of_ble_eq_true rfl) ⟨Nat.le_of_ble_eq_true rfl, Nat.le_of_ble_eq_true rfl⟩ dX7_reads_248 rfl (fun H locs cells slots hS => ?_)
            refine lv_if_ne (pc := 251) (tgt := 263) hx hb dX7_reads_251 (by decide) (fun hc => ?_) (fun hc => ?_)
            · have hf := jI_f hf hc
              exact wX7_reads_263 cx e1 e2 a0 hth ih _ _ _ _ _ _ _ _ hf hS hl
            · have hf := jI_t hf hc
              refine lv_aload_n (pc := 254) hx hb dX7_reads_254 rfl (lv_at hl 0 rfl) ?_
              refine lv_bipush (pc := 255) (v := 61) hx hb dX7_reads_255 rfl ?_
              obtain ⟨y5, h1, e9, hf⟩ := jB_some hf
              refine j_callV (pc := 257) (st1 := [.int y5]) (As := [.int 61]) (rest := []) cx hS rfl hl.1 hm (metX7_isSign l _ _ _ _ _ (hth.at hS) e9) (jle hf) (hth.at hS) rfl (lw_V q1957 q1959 qs66 q123 q1960) pdX7_isSign rfl rfl (Nat.le_of_ble_eq_true rfl) ⟨Nat.le_of_ble_eq_true rfl, Nat.le_of_ble_eq_true rfl⟩ dX7_reads_257 rfl (fun H locs cells slots hS => ?_)
              refine lv_if_eq (pc := 260) (tgt := 304) hx hb dX7_reads_260 (by decide) (fun hc => ?_) (fun hc => ?_)
              · have hf := jI_t hf hc
                exact wX7_reads_304 cx e1 e2 a0 hth ih _ _ _ _ _ _ _ _ hf hS hl
              · have hf := jI_f hf hc
                exact wX7_reads_263 cx e1 e2 a0 hth ih _ _ _ _ _ _ _ _ hf hS hl
          · have hf := jI_f hf hc
            exact wX7_reads_206 cx e1 e2 a0 hth ih _ _ _ _ _ _ _ hf hS (lv_sub hl [0, 1] rfl)
    · have hf := jI_f hf hc
      refine lv_aload_n (pc := 15) hx hb dX7_reads_15 rfl (lv_at hl 0 rfl) ?_
      obtain ⟨y6, h1, e9, hf⟩ := jB_some hf
      refine j_callV (pc := 16) (st1 := [.int y6]) (As := []) (rest := []) cx hS rfl hl.1 hm (metX7_fact l _ _ _ _ (hth.at hS) e9) (jle hf) (hth.at hS) rfl (lw_V q1985 q1987 qs73 q123 q1988) pdX7_fact rfl rfl (Nat.le_of_ble_eq_true rfl) ⟨Nat.le_of_ble_eq_true rfl, Nat.le_of_ble_eq_true rfl⟩ dX7_reads_16 rfl (fun H locs cells slots hS => ?_)
      refine lv_istore_n (pc := 19) (i := 3) (lv' := [(3, .int y6), (0, .ref a0), (1, .int x1), (2, .int x2)]) hx hb dX7_reads_19 rfl hl (Nat.le_of_ble_eq_true rfl) rfl (fun ls hl => ?_)
      refine lv_aload_n (pc := 20) hx hb dX7_reads_20 rfl (lv_at hl 1 rfl) ?_
      refine lv_ldc2 (pc := 21) (v := 10631) hx hb hown (hts _ q1931) dX7_reads_21 ?_
      obtain ⟨y7, h1, e9, hf⟩ := jB_some hf
      refine j_callV (pc := 24) (st1 := [.int y7]) (As := [.long 10631]) (rest := []) cx hS rfl hl.1 hm (metX7_isWord l _ _ _ _ _ (hth.at hS) e9) (jle hf) (hth.at hS) rfl (lw_V q1895 q1897 qs56 q123 q1898) pdX7_isWord rfl rfl (Nat.le_of_ble_eq_true rfl) ⟨Nat.le_of_ble_eq_true rfl, Nat.le_of_ble_eq_true rfl⟩ dX7_reads_24 rfl (fun H locs cells slots hS => ?_)
      refine lv_istore (pc := 27) (i := 4) (lv' := [(4, .int y7), (3, .int y6), (0, .ref a0), (1, .int x1), (2, .int x2)]) hx hb dX7_reads_27 hl (Nat.le_of_ble_eq_true rfl) rfl (fun ls hl => ?_)
      refine lv_aload_n (pc := 29) hx hb dX7_reads_29 rfl (lv_at hl 2 rfl) ?_
      refine lv_bipush (pc := 30) (v := 40) hx hb dX7_reads_30 rfl ?_
      obtain ⟨y8, h1, e9, hf⟩ := jB_some hf
      refine j_callV (pc := 32) (st1 := [.int y8]) (As := [.int 40]) (rest := []) cx hS rfl hl.1 hm (metX7_isSign l _ _ _ _ _ (hth.at hS) e9) (jle hf) (hth.at hS) rfl (lw_V q1957 q1959 qs66 q123 q1960) pdX7_isSign rfl rfl (Nat.le_of_ble_eq_true rfl) ⟨Nat.le_of_ble_eq_true rfl, Nat.le_of_ble_eq_true rfl⟩ dX7_reads_32 rfl (fun H locs cells slots hS => ?_)
      refine lv_istore (pc := 35) (i := 5) (lv' := [(5, .int y8), (4, .int y7), (3, .int y6), (0, .ref a0), (1, .int x1), (2, .int x2)]) hx hb dX7_reads_35 hl (Nat.le_of_ble_eq_true rfl) rfl (fun ls hl => ?_)
      refine lv_iload_n (pc := 37) hx hb dX7_reads_37 rfl (lv_at hl 2 rfl) ?_
      refine lv_if_ne (pc := 38) (tgt := 65) hx hb dX7_reads_38 (by decide) (fun hc => ?_) (fun hc => ?_)
      · have hf := jI_f hf hc
        exact wX7_reads_65 cx e1 e2 a0 hth ih _ _ _ _ _ _ _ _ _ _ _ hf hS (lv_sub hl [3, 4, 5, 2, 1, 0] rfl)
      · have hf := jI_t hf hc
        refine lv_iload (pc := 41) hx hb dX7_reads_41 (lv_at hl 1 rfl) ?_
        refine lv_if_ne (pc := 43) (tgt := 65) hx hb dX7_reads_43 (by decide) (fun hc => ?_) (fun hc => ?_)
        · have hf := jI_f hf hc
          exact wX7_reads_65 cx e1 e2 a0 hth ih _ _ _ _ _ _ _ _ _ _ _ hf hS (lv_sub hl [3, 4, 5, 2, 1, 0] rfl)
        · have hf := jI_t hf hc
          refine lv_iload (pc := 46) hx hb dX7_reads_46 (lv_at hl 0 rfl) ?_
          refine lv_if_ne (pc := 48) (tgt := 65) hx hb dX7_reads_48 (by decide) (fun hc => ?_) (fun hc => ?_)
          · have hf := jI_f hf hc
            exact wX7_reads_65 cx e1 e2 a0 hth ih _ _ _ _ _ _ _ _ _ _ _ hf hS (lv_sub hl [3, 4, 5, 2, 1, 0] rfl)
          · have hf := jI_t hf hc
            refine lv_aload_n (pc := 51) hx hb dX7_reads_51 rfl (lv_at hl 3 rfl) ?_
            refine j_gI (pc := 52) cx hS hf fd_WornSkinModel_token q1690 dX7_reads_52 (fun y9 hf => ?_)
            refine lv_iconst (pc := 55) (v := 2) hx hb dX7_reads_55 rfl ?_
            refine lv_icmp_eq (pc := 56) (tgt := 65) hx hb dX7_reads_56 (by decide) (fun hc => ?_) (fun hc => ?_)
            · have hf := jI_t hf hc
              exact wX7_reads_65 cx e1 e2 a0 hth ih _ _ _ _ _ _ _ _ _ _ _ hf hS (lv_sub hl [3, 4, 5, 2, 1, 0] rfl)
            · have hf := jI_f hf hc
              exact wX7_reads_59 cx e1 e2 a0 hth _ _ _ _ _ _ hf hS (lv_sub hl [3] rfl)
theorem wX7_reads_0 {N : Nat} {r : Int32} (cx : jCx p s m args meth c cX7_reads "WornSkinModel" 6 (Option.some Jvm.ClassFile.FieldType.boolean) D dA H0 hs.2.2.2.2) (e1 : h'.2.2.1 = hs.2.2.1 + mc) (e2 : h'.2.2.2.1 = hs.2.2.2.1 + ms) (a0 : Nat) (hth : jTh hs a0 7) : ∀ (h : jH) (H : Heap) (locs : List Loc) (cells slots : Nat) (ls : Array Slot), (fX7_reads N a0).1 h = some (r, h') → jS D dA H0 hs h H locs cells slots → lv_has ls 6 [(0, .ref a0)] → W p l e { frames := 2, cells := mc, slots := ms, locals := 42 } s m args below meth c H locs cells slots (jQ D dA H0 below s (.returned (some (.int r))) h' mc ms) (F0 m 0 ls []) := by
  have hx := cx.1
  have hb := cx.2.1
  have hown := cx.2.2.2.1
  have hts := cx.2.2.2.2.1
  have hm : h'.2.2.1 ≤ hs.2.2.1 + mc ∧ h'.2.2.2.1 ≤ hs.2.2.2.1 + ms := ⟨Nat.le_of_eq e1, Nat.le_of_eq e2⟩
  intro h H locs cells slots ls hf hS hl
  unfold fX7_reads at hf
  refine lv_iconst (pc := 0) (v := 0) hx hb dX7_reads_0 rfl ?_
  refine lv_istore_n (pc := 1) (i := 1) (lv' := [(1, .int 0), (0, .ref a0)]) hx hb dX7_reads_1 rfl hl (Nat.le_of_ble_eq_true rfl) rfl (fun ls hl => ?_)
  refine lv_iconst (pc := 2) (v := 1) hx hb dX7_reads_2 rfl ?_
  refine lv_istore_n (pc := 3) (i := 2) (lv' := [(2, .int 1), (1, .int 0), (0, .ref a0)]) hx hb dX7_reads_3 rfl hl (Nat.le_of_ble_eq_true rfl) rfl (fun ls hl => ?_)
  refine lv_aload_n (pc := 4) hx hb dX7_reads_4 rfl (lv_at hl 2 rfl) ?_
  refine j_gR (pc := 5) cx hS hf fd_WornSkinModel_compared q1709 dX7_reads_5 (fun y1 hf => ?_)
  refine lv_iconst (pc := 8) (v := 0) hx hb dX7_reads_8 rfl ?_
  refine lv_iconst (pc := 9) (v := 0) hx hb dX7_reads_9 rfl ?_
  refine j_sZ (pc := 10) cx hS hf rfl dX7_reads_10 (fun h H locs hf hS => ?_)
  exact wX7_reads_11 cx e1 e2 a0 hth N _ _ _ _ _ _ _ _ hf hS (lv_sub hl [2, 1, 0] rfl)
theorem metX7_reads (l : Launch) (N : Nat) (a0 : Nat) (h h' : jH) (r : Int32) (hth : jcd h a0 = some 7) (hf : (fX7_reads N a0).1 h = some (r, h')) : jMet l yX7_reads (ws_ yX7_reads cX7_reads 6 (Option.some Jvm.ClassFile.FieldType.boolean)) (2) (42) [.ref a0] h h' (.returned (some (.int r))) := by
  refine jStart rfl (jle hf) (Nat.le_of_ble_eq_true rfl) ?_
  intro p e s m below meth c D dA H0 mc ms ls cx hnm e1 e2 hS hl
  have hth := jTh.mk hS hth
  exact wX7_reads_0 cx e1 e2 a0 hth  _ _ _ _ _ _ hf hS hl
def fX7_readsShows (N : Nat) (a0 : Nat) : jM Int32 := jB (jgR [7] 21 (some a0)) fun y1 => jB (jaI 0 y1 1) fun y2 => jB (jgR [7] 20 (some a0)) fun y3 => jB (jaI 0 y3 1) fun y4 => if y2 ≤ y4 then (jB (fX7_nextToken N a0) fun _ => jB (jgR [7] 20 (some a0)) fun y6 => jB (jgI [7] 23 (some a0)) fun y7 => jB (jsI 0 y6 1 y7) fun _ => jB (fX7_reads N a0) fun y8 => if y8 = 0 then (jRn .boolean 0) else (jB (jgR [7] 21 (some a0)) fun y9 => jB (jgI [7] 23 (some a0)) fun y10 => jB (jsI 0 y9 1 y10) fun _ => jRn .boolean 1)) else (jB (fX7_fails a0 3) fun y11 => jRn .boolean y11)
theorem wX7_readsShows_0 {N : Nat} {r : Int32} (cx : jCx p s m args meth c cX7_readsShows "WornSkinModel" 1 (Option.some Jvm.ClassFile.FieldType.boolean) D dA H0 hs.2.2.2.2) (e1 : h'.2.2.1 = hs.2.2.1 + mc) (e2 : h'.2.2.2.1 = hs.2.2.2.1 + ms) (a0 : Nat) (hth : jTh hs a0 7) : ∀ (h : jH) (H : Heap) (locs : List Loc) (cells slots : Nat) (ls : Array Slot), (fX7_readsShows N a0).1 h = some (r, h') → jS D dA H0 hs h H locs cells slots → lv_has ls 1 [(0, .ref a0)] → W p l e { frames := 3, cells := mc, slots := ms, locals := 67 } s m args below meth c H locs cells slots (jQ D dA H0 below s (.returned (some (.int r))) h' mc ms) (F0 m 0 ls []) := by
  have hx := cx.1
  have hb := cx.2.1
  have hown := cx.2.2.2.1
  have hts := cx.2.2.2.2.1
  have hm : h'.2.2.1 ≤ hs.2.2.1 + mc ∧ h'.2.2.2.1 ≤ hs.2.2.2.1 + ms := ⟨Nat.le_of_eq e1, Nat.le_of_eq e2⟩
  intro h H locs cells slots ls hf hS hl
  unfold fX7_readsShows at hf
  refine lv_aload_n (pc := 0) hx hb dX7_readsShows_0 rfl (lv_at hl 0 rfl) ?_
  refine j_gR (pc := 1) cx hS hf fd_WornSkinModel_lineTo q1705 dX7_readsShows_1 (fun y1 hf => ?_)
  refine lv_iconst (pc := 4) (v := 1) hx hb dX7_readsShows_4 rfl ?_
  refine j_aI (pc := 5) cx hS hf rfl dX7_readsShows_5 (fun y2 hf => ?_)
  refine lv_aload_n (pc := 6) hx hb dX7_readsShows_6 rfl (lv_at hl 0 rfl) ?_
  refine j_gR (pc := 7) cx hS hf fd_WornSkinModel_lineFrom q1704 dX7_readsShows_7 (fun y3 hf => ?_)
  refine lv_iconst (pc := 10) (v := 1) hx hb dX7_readsShows_10 rfl ?_
  refine j_aI (pc := 11) cx hS hf rfl dX7_readsShows_11 (fun y4 hf => ?_)
  refine lv_icmp_le (pc := 12) (tgt := 21) hx hb dX7_readsShows_12 (by decide) (fun hc => ?_) (fun hc => ?_)
  · have hf := jI_t hf hc
    refine lv_aload_n (pc := 21) hx hb dX7_readsShows_21 rfl (lv_at hl 0 rfl) ?_
    obtain ⟨_, h1, e9, hf⟩ := jB_some hf
    refine j_callV (pc := 22) (st1 := []) (As := []) (rest := []) cx hS rfl hl.1 hm (metX7_nextToken l _ _ _ _ _ (hth.at hS) e9) (jle hf) (hth.at hS) rfl (lw_V q1884 q1886 qs54 q123 q1887) pdX7_nextToken rfl rfl (Nat.le_of_ble_eq_true rfl) ⟨Nat.le_of_ble_eq_true rfl, Nat.le_of_ble_eq_true rfl⟩ dX7_readsShows_22 rfl (fun H locs cells slots hS => ?_)
    refine lv_aload_n (pc := 25) hx hb dX7_readsShows_25 rfl (lv_at hl 0 rfl) ?_
    refine j_gR (pc := 26) cx hS hf fd_WornSkinModel_lineFrom q1704 dX7_readsShows_26 (fun y6 hf => ?_)
    refine lv_iconst (pc := 29) (v := 1) hx hb dX7_readsShows_29 rfl ?_
    refine lv_aload_n (pc := 30) hx hb dX7_readsShows_30 rfl (lv_at hl 0 rfl) ?_
    refine j_gI (pc := 31) cx hS hf fd_WornSkinModel_code q1707 dX7_readsShows_31 (fun y7 hf => ?_)
    refine j_sI (pc := 34) cx hS hf rfl dX7_readsShows_34 (fun h H locs hf hS => ?_)
    refine lv_aload_n (pc := 35) hx hb dX7_readsShows_35 rfl (lv_at hl 0 rfl) ?_
    obtain ⟨y8, h1, e9, hf⟩ := jB_some hf
    refine j_callV (pc := 36) (st1 := [.int y8]) (As := []) (rest := []) cx hS rfl hl.1 hm (metX7_reads l _ _ _ _ _ (hth.at hS) e9) (jle hf) (hth.at hS) rfl (lw_V q1981 q1983 qs72 q123 q1984) pdX7_reads rfl rfl (Nat.le_of_ble_eq_true rfl) ⟨Nat.le_of_ble_eq_true rfl, Nat.le_of_ble_eq_true rfl⟩ dX7_readsShows_36 rfl (fun H locs cells slots hS => ?_)
    refine lv_if_ne (pc := 39) (tgt := 44) hx hb dX7_readsShows_39 (by decide) (fun hc => ?_) (fun hc => ?_)
    · have hf := jI_f hf hc
      refine lv_aload_n (pc := 44) hx hb dX7_readsShows_44 rfl (lv_at hl 0 rfl) ?_
      refine j_gR (pc := 45) cx hS hf fd_WornSkinModel_lineTo q1705 dX7_readsShows_45 (fun y9 hf => ?_)
      refine lv_iconst (pc := 48) (v := 1) hx hb dX7_readsShows_48 rfl ?_
      refine lv_aload_n (pc := 49) hx hb dX7_readsShows_49 rfl (lv_at hl 0 rfl) ?_
      refine j_gI (pc := 50) cx hS hf fd_WornSkinModel_code q1707 dX7_readsShows_50 (fun y10 hf => ?_)
      refine j_sI (pc := 53) cx hS hf rfl dX7_readsShows_53 (fun h H locs hf hS => ?_)
      refine lv_iconst (pc := 54) (v := 1) hx hb dX7_readsShows_54 rfl ?_
      exact j_zret (pc := 55) cx (Or.inl rfl) hS hf e1 e2 dX7_readsShows_55
    · have hf := jI_t hf hc
      refine lv_iconst (pc := 42) (v := 0) hx hb dX7_readsShows_42 rfl ?_
      exact j_zret (pc := 43) cx (Or.inl rfl) hS hf e1 e2 dX7_readsShows_43
  · have hf := jI_f hf hc
    refine lv_aload_n (pc := 15) hx hb dX7_readsShows_15 rfl (lv_at hl 0 rfl) ?_
    refine lv_iconst (pc := 16) (v := 3) hx hb dX7_readsShows_16 rfl ?_
    obtain ⟨y11, h1, e9, hf⟩ := jB_some hf
    refine j_callV (pc := 17) (st1 := [.int y11]) (As := [.int 3]) (rest := []) cx hS rfl hl.1 hm (metX7_fails l _ _ _ _ _ (hth.at hS) e9) (jle hf) (hth.at hS) rfl (lw_V q1903 q1905 qs58 q123 q1906) pdX7_fails rfl rfl (Nat.le_of_ble_eq_true rfl) ⟨Nat.le_of_ble_eq_true rfl, Nat.le_of_ble_eq_true rfl⟩ dX7_readsShows_17 rfl (fun H locs cells slots hS => ?_)
    exact j_zret (pc := 20) cx (Or.inl rfl) hS hf e1 e2 dX7_readsShows_20
theorem metX7_readsShows (l : Launch) (N : Nat) (a0 : Nat) (h h' : jH) (r : Int32) (hth : jcd h a0 = some 7) (hf : (fX7_readsShows N a0).1 h = some (r, h')) : jMet l yX7_readsShows (ws_ yX7_readsShows cX7_readsShows 1 (Option.some Jvm.ClassFile.FieldType.boolean)) (3) (67) [.ref a0] h h' (.returned (some (.int r))) := by
  refine jStart rfl (jle hf) (Nat.le_of_ble_eq_true rfl) ?_
  intro p e s m below meth c D dA H0 mc ms ls cx hnm e1 e2 hS hl
  have hth := jTh.mk hS hth
  exact wX7_readsShows_0 cx e1 e2 a0 hth  _ _ _ _ _ _ hf hS hl
def fX7_readsAll_158 (N : Nat) (a0 : Nat) : jM Int32 := jRn .boolean 1
def fX7_readsAll_153 (N : Nat) (a0 : Nat) : jM Int32 := jRn .boolean 0
def fX7_readsAll_148 (N : Nat) (k51 : jM Int32) (a0 : Nat) (v0 : Int32) : jM Int32 := if v0 = 0 then (fX7_readsAll_153 N a0) else (k51)
def fX7_readsAll_51 (N : Nat) (a0 : Nat) : Nat → jM Int32
  | 0 => jE
  | n + 1 => jB (jgI [7] 6 (some a0)) fun y1 => if y1 = 0 then (fX7_readsAll_158 N a0) else (jB (fX7_isWord a0 382253) fun y2 => if y2 = 0 then (jB (fX7_isWord a0 168728) fun y3 => if y3 = 0 then (jB (fX7_isWord a0 397973) fun y4 => if y4 = 0 then (jB (fX7_isWord a0 79828) fun y5 => if y5 = 0 then (jB (fX7_isWord a0 10266418) fun y6 => if y6 = 0 then (jB (fX7_fails a0 1) fun y7 => fX7_readsAll_148 N (fX7_readsAll_51 N a0 n) a0 y7) else (jB (fX7_readsShows N a0) fun y8 => fX7_readsAll_148 N (fX7_readsAll_51 N a0 n) a0 y8)) else (jB (fX7_readsDamp N a0) fun y9 => fX7_readsAll_148 N (fX7_readsAll_51 N a0 n) a0 y9)) else (jB (fX7_readsText N a0) fun y10 => fX7_readsAll_148 N (fX7_readsAll_51 N a0 n) a0 y10)) else (jB (fX7_readsHole N a0) fun y11 => fX7_readsAll_148 N (fX7_readsAll_51 N a0 n) a0 y11)) else (jB (fX7_readsSkin N a0) fun y12 => fX7_readsAll_148 N (fX7_readsAll_51 N a0 n) a0 y12))
def fX7_readsAll_22 (N : Nat) (a0 : Nat) : jM Int32 := jB (jgR [7] 20 (some a0)) fun y1 => jB (jsI 0 y1 1 1000) fun _ => jB (jgR [7] 21 (some a0)) fun y2 => jB (jsI 0 y2 1 1000) fun _ => jB (jpI [7] 23 (some a0) 1000) fun _ => jB (fX7_begins N a0) fun _ => fX7_readsAll_51 N a0 N
def fX7_readsAll_2 (N : Nat) (a0 : Nat) : Nat → Int32 → jM Int32
  | 0, _ => jE
  | n + 1, x1 => if 3 ≤ x1 then (fX7_readsAll_22 N a0) else (jB (jgR [7] 10 (some a0)) fun y1 => jB (jsI 0 y1 (3 + x1) 0) fun _ => fX7_readsAll_2 N a0 n (x1 + 1))
def fX7_readsAll (N : Nat) (a0 : Nat) : jM Int32 := fX7_readsAll_2 N a0 N 0
theorem wX7_readsAll_158 {N : Nat} {r : Int32} (cx : jCx p s m args meth c cX7_readsAll "WornSkinModel" 2 (Option.some Jvm.ClassFile.FieldType.boolean) D dA H0 hs.2.2.2.2) (e1 : h'.2.2.1 = hs.2.2.1 + mc) (e2 : h'.2.2.2.1 = hs.2.2.2.1 + ms) (a0 : Nat) (hth : jTh hs a0 7) : ∀ (h : jH) (H : Heap) (locs : List Loc) (cells slots : Nat) (ls : Array Slot), (fX7_readsAll_158 N a0).1 h = some (r, h') → jS D dA H0 hs h H locs cells slots → lv_has ls 2 [(0, .ref a0)] → W p l e { frames := 5, cells := mc, slots := ms, locals := 109 } s m args below meth c H locs cells slots (jQ D dA H0 below s (.returned (some (.int r))) h' mc ms) (F0 m 158 ls []) := by
  have hx := cx.1
  have hb := cx.2.1
  have hown := cx.2.2.2.1
  have hts := cx.2.2.2.2.1
  have hm : h'.2.2.1 ≤ hs.2.2.1 + mc ∧ h'.2.2.2.1 ≤ hs.2.2.2.1 + ms := ⟨Nat.le_of_eq e1, Nat.le_of_eq e2⟩
  intro h H locs cells slots ls hf hS hl
  unfold fX7_readsAll_158 at hf
  refine lv_iconst (pc := 158) (v := 1) hx hb dX7_readsAll_158 rfl ?_
  exact j_zret (pc := 159) cx (Or.inl rfl) hS hf e1 e2 dX7_readsAll_159
theorem wX7_readsAll_153 {N : Nat} {r : Int32} (cx : jCx p s m args meth c cX7_readsAll "WornSkinModel" 2 (Option.some Jvm.ClassFile.FieldType.boolean) D dA H0 hs.2.2.2.2) (e1 : h'.2.2.1 = hs.2.2.1 + mc) (e2 : h'.2.2.2.1 = hs.2.2.2.1 + ms) (a0 : Nat) (hth : jTh hs a0 7) : ∀ (h : jH) (H : Heap) (locs : List Loc) (cells slots : Nat) (ls : Array Slot), (fX7_readsAll_153 N a0).1 h = some (r, h') → jS D dA H0 hs h H locs cells slots → lv_has ls 2 [(0, .ref a0)] → W p l e { frames := 5, cells := mc, slots := ms, locals := 109 } s m args below meth c H locs cells slots (jQ D dA H0 below s (.returned (some (.int r))) h' mc ms) (F0 m 153 ls []) := by
  have hx := cx.1
  have hb := cx.2.1
  have hown := cx.2.2.2.1
  have hts := cx.2.2.2.2.1
  have hm : h'.2.2.1 ≤ hs.2.2.1 + mc ∧ h'.2.2.2.1 ≤ hs.2.2.2.1 + ms := ⟨Nat.le_of_eq e1, Nat.le_of_eq e2⟩
  intro h H locs cells slots ls hf hS hl
  unfold fX7_readsAll_153 at hf
  refine lv_iconst (pc := 153) (v := 0) hx hb dX7_readsAll_153 rfl ?_
  exact j_zret (pc := 154) cx (Or.inl rfl) hS hf e1 e2 dX7_readsAll_154
theorem wX7_readsAll_148 {N : Nat} {k51 : jM Int32} {r : Int32} (cx : jCx p s m args meth c cX7_readsAll "WornSkinModel" 2 (Option.some Jvm.ClassFile.FieldType.boolean) D dA H0 hs.2.2.2.2) (e1 : h'.2.2.1 = hs.2.2.1 + mc) (e2 : h'.2.2.2.1 = hs.2.2.2.1 + ms) (a0 : Nat) (hth : jTh hs a0 7) (hk51 : ∀ (h : jH) (H : Heap) (locs : List Loc) (cells slots : Nat) (ls : Array Slot), (k51).1 h = some (r, h') → jS D dA H0 hs h H locs cells slots → lv_has ls 2 [(0, .ref a0)] → W p l e { frames := 5, cells := mc, slots := ms, locals := 109 } s m args below meth c H locs cells slots (jQ D dA H0 below s (.returned (some (.int r))) h' mc ms) (F0 m 51 ls [])) : ∀ (v0 : Int32), ∀ (h : jH) (H : Heap) (locs : List Loc) (cells slots : Nat) (ls : Array Slot), (fX7_readsAll_148 N k51 a0 v0).1 h = some (r, h') → jS D dA H0 hs h H locs cells slots → lv_has ls 2 [(0, .ref a0)] → W p l e { frames := 5, cells := mc, slots := ms, locals := 109 } s m args below meth c H locs cells slots (jQ D dA H0 below s (.returned (some (.int r))) h' mc ms) (F0 m 148 ls [.int v0]) := by
  have hx := cx.1
  have hb := cx.2.1
  have hown := cx.2.2.2.1
  have hts := cx.2.2.2.2.1
  have hm : h'.2.2.1 ≤ hs.2.2.1 + mc ∧ h'.2.2.2.1 ≤ hs.2.2.2.1 + ms := ⟨Nat.le_of_eq e1, Nat.le_of_eq e2⟩
  intro v0 h H locs cells slots ls hf hS hl
  unfold fX7_readsAll_148 at hf
  refine lv_istore_n (pc := 148) (i := 1) (lv' := [(1, .int v0), (0, .ref a0)]) hx hb dX7_readsAll_148 rfl hl (Nat.le_of_ble_eq_true rfl) rfl (fun ls hl => ?_)
  refine lv_iload_n (pc := 149) hx hb dX7_readsAll_149 rfl (lv_at hl 0 rfl) ?_
  refine lv_if_ne (pc := 150) (tgt := 155) hx hb dX7_readsAll_150 (by decide) (fun hc => ?_) (fun hc => ?_)
  · have hf := jI_f hf hc
    refine lv_goto (pc := 155) (tgt := 51) hx hb dX7_readsAll_155 (by decide) ?_
    exact hk51 _ _ _ _ _ _ hf hS (lv_sub hl [1] rfl)
  · have hf := jI_t hf hc
    exact wX7_readsAll_153 cx e1 e2 a0 hth _ _ _ _ _ _ hf hS (lv_sub hl [1] rfl)
theorem wX7_readsAll_51 {N : Nat} {r : Int32} (cx : jCx p s m args meth c cX7_readsAll "WornSkinModel" 2 (Option.some Jvm.ClassFile.FieldType.boolean) D dA H0 hs.2.2.2.2) (e1 : h'.2.2.1 = hs.2.2.1 + mc) (e2 : h'.2.2.2.1 = hs.2.2.2.1 + ms) (a0 : Nat) (hth : jTh hs a0 7) : ∀ (n : Nat), ∀ (h : jH) (H : Heap) (locs : List Loc) (cells slots : Nat) (ls : Array Slot), (fX7_readsAll_51 N a0 n).1 h = some (r, h') → jS D dA H0 hs h H locs cells slots → lv_has ls 2 [(0, .ref a0)] → W p l e { frames := 5, cells := mc, slots := ms, locals := 109 } s m args below meth c H locs cells slots (jQ D dA H0 below s (.returned (some (.int r))) h' mc ms) (F0 m 51 ls []) := by
  have hx := cx.1
  have hb := cx.2.1
  have hown := cx.2.2.2.1
  have hts := cx.2.2.2.2.1
  have hm : h'.2.2.1 ≤ hs.2.2.1 + mc ∧ h'.2.2.2.1 ≤ hs.2.2.2.1 + ms := ⟨Nat.le_of_eq e1, Nat.le_of_eq e2⟩
  intro n
  induction n with
  | zero =>
    intro h H locs cells slots ls hf hS hl
    exact jE_f hf
  | succ n ih =>
    intro h H locs cells slots ls hf hS hl
    unfold fX7_readsAll_51 at hf
    refine lv_aload_n (pc := 51) hx hb dX7_readsAll_51 rfl (lv_at hl 0 rfl) ?_
    refine j_gI (pc := 52) cx hS hf fd_WornSkinModel_token q1690 dX7_readsAll_52 (fun y1 hf => ?_)
    refine lv_if_eq (pc := 55) (tgt := 158) hx hb dX7_readsAll_55 (by decide) (fun hc => ?_) (fun hc => ?_)
    · have hf := jI_t hf hc
      exact wX7_readsAll_158 cx e1 e2 a0 hth _ _ _ _ _ _ hf hS hl
    · have hf := jI_f hf hc
      refine lv_aload_n (pc := 58) hx hb dX7_readsAll_58 rfl (lv_at hl 0 rfl) ?_
      refine lv_ldc2 (pc := 59) (v := 382253) hx hb hown (hts _ q1894) dX7_readsAll_59 ?_
      obtain ⟨y2, h1, e9, hf⟩ := jB_some hf
      refine j_callV (pc := 62) (st1 := [.int y2]) (As := [.long 382253]) (rest := []) cx hS rfl hl.1 hm (metX7_isWord l _ _ _ _ _ (hth.at hS) e9) (jle hf) (hth.at hS) rfl (lw_V q1895 q1897 qs56 q123 q1898) pdX7_isWord rfl rfl (Nat.le_of_ble_eq_true rfl) ⟨Nat.le_of_ble_eq_true rfl, Nat.le_of_ble_eq_true rfl⟩ dX7_readsAll_62 rfl (fun H locs cells slots hS => ?_)
      refine lv_if_eq (pc := 65) (tgt := 75) hx hb dX7_readsAll_65 (by decide) (fun hc => ?_) (fun hc => ?_)
      · have hf := jI_t hf hc
        refine lv_aload_n (pc := 75) hx hb dX7_readsAll_75 rfl (lv_at hl 0 rfl) ?_
        refine lv_ldc2 (pc := 76) (v := 168728) hx hb hown (hts _ q1917) dX7_readsAll_76 ?_
        obtain ⟨y3, h1, e9, hf⟩ := jB_some hf
        refine j_callV (pc := 79) (st1 := [.int y3]) (As := [.long 168728]) (rest := []) cx hS rfl hl.1 hm (metX7_isWord l _ _ _ _ _ (hth.at hS) e9) (jle hf) (hth.at hS) rfl (lw_V q1895 q1897 qs56 q123 q1898) pdX7_isWord rfl rfl (Nat.le_of_ble_eq_true rfl) ⟨Nat.le_of_ble_eq_true rfl, Nat.le_of_ble_eq_true rfl⟩ dX7_readsAll_79 rfl (fun H locs cells slots hS => ?_)
        refine lv_if_eq (pc := 82) (tgt := 92) hx hb dX7_readsAll_82 (by decide) (fun hc => ?_) (fun hc => ?_)
        · have hf := jI_t hf hc
          refine lv_aload_n (pc := 92) hx hb dX7_readsAll_92 rfl (lv_at hl 0 rfl) ?_
          refine lv_ldc2 (pc := 93) (v := 397973) hx hb hown (hts _ q1918) dX7_readsAll_93 ?_
          obtain ⟨y4, h1, e9, hf⟩ := jB_some hf
          refine j_callV (pc := 96) (st1 := [.int y4]) (As := [.long 397973]) (rest := []) cx hS rfl hl.1 hm (metX7_isWord l _ _ _ _ _ (hth.at hS) e9) (jle hf) (hth.at hS) rfl (lw_V q1895 q1897 qs56 q123 q1898) pdX7_isWord rfl rfl (Nat.le_of_ble_eq_true rfl) ⟨Nat.le_of_ble_eq_true rfl, Nat.le_of_ble_eq_true rfl⟩ dX7_readsAll_96 rfl (fun H locs cells slots hS => ?_)
          refine lv_if_eq (pc := 99) (tgt := 109) hx hb dX7_readsAll_99 (by decide) (fun hc => ?_) (fun hc => ?_)
          · have hf := jI_t hf hc
            refine lv_aload_n (pc := 109) hx hb dX7_readsAll_109 rfl (lv_at hl 0 rfl) ?_
            refine lv_ldc2 (pc := 110) (v := 79828) hx hb hown (hts _ q1919) dX7_readsAll_110 ?_
            obtain ⟨y5, h1, e9, hf⟩ := jB_some hf
            refine j_callV (pc := 113) (st1 := [.int y5]) (As := [.long 79828]) (rest := []) cx hS rfl hl.1 hm (metX7_isWord l _ _ _ _ _ (hth.at hS) e9) (jle hf) (hth.at hS) rfl (lw_V q1895 q1897 qs56 q123 q1898) pdX7_isWord rfl rfl (Nat.le_of_ble_eq_true rfl) ⟨Nat.le_of_ble_eq_true rfl, Nat.le_of_ble_eq_true rfl⟩ dX7_readsAll_113 rfl (fun H locs cells slots hS => ?_)
            refine lv_if_eq (pc := 116) (tgt := 126) hx hb dX7_readsAll_116 (by decide) (fun hc => ?_) (fun hc => ?_)
            · have hf := jI_t hf hc
              refine lv_aload_n (pc := 126) hx hb dX7_readsAll_126 rfl (lv_at hl 0 rfl) ?_
              refine lv_ldc2 (pc := 127) (v := 10266418) hx hb hown (hts _ q1920) dX7_readsAll_127 ?_
              obtain ⟨y6, h1, e9, hf⟩ := jB_some hf
              refine j_callV (pc := 130) (st1 := [.int y6]) (As := [.long 10266418]) (rest := []) cx hS rfl hl.1 hm (metX7_isWord l _ _ _ _ _ (hth.at hS) e9) (jle hf) (hth.at hS) rfl (lw_V q1895 q1897 qs56 q123 q1898) pdX7_isWord rfl rfl (Nat.le_of_ble_eq_true rfl) ⟨Nat.le_of_ble_eq_true rfl, Nat.le_of_ble_eq_true rfl⟩ dX7_readsAll_130 rfl (fun H locs cells slots hS => ?_)
              refine lv_if_eq (pc := 133) (tgt := 143) hx hb dX7_readsAll_133 (by decide) (fun hc => ?_) (fun hc => ?_)
              · have hf := jI_t hf hc
                refine lv_aload_n (pc := 143) hx hb dX7_readsAll_143 rfl (lv_at hl 0 rfl) ?_
                refine lv_iconst (pc := 144) (v := 1) hx hb dX7_readsAll_144 rfl ?_
                obtain ⟨y7, h1, e9, hf⟩ := jB_some hf
                refine j_callV (pc := 145) (st1 := [.int y7]) (As := [.int 1]) (rest := []) cx hS rfl hl.1 hm (metX7_fails l _ _ _ _ _ (hth.at hS) e9) (jle hf) (hth.at hS) rfl (lw_V q1903 q1905 qs58 q123 q1906) pdX7_fails rfl rfl (Nat.le_of_ble_eq_true rfl) ⟨Nat.le_of_ble_eq_true rfl, Nat.le_of_ble_eq_true rfl⟩ dX7_readsAll_145 rfl (fun H locs cells slots hS => ?_)
                exact wX7_readsAll_148 cx e1 e2 a0 hth ih _ _ _ _ _ _ _ hf hS hl
              · have hf := jI_f hf hc
                refine lv_aload_n (pc := 136) hx hb dX7_readsAll_136 rfl (lv_at hl 0 rfl) ?_
                obtain ⟨y8, h1, e9, hf⟩ := jB_some hf
                refine j_callV (pc := 137) (st1 := [.int y8]) (As := []) (rest := []) cx hS rfl hl.1 hm (metX7_readsShows l _ _ _ _ _ (hth.at hS) e9) (jle hf) (hth.at hS) rfl (lw_V q1977 q1979 qs71 q123 q1980) pdX7_readsShows rfl rfl (Nat.le_of_ble_eq_true rfl) ⟨Nat.le_of_ble_eq_true rfl, Nat.le_of_ble_eq_true rfl⟩ dX7_readsAll_137 rfl (fun H locs cells slots hS => ?_)
                refine lv_goto (pc := 140) (tgt := 148) hx hb dX7_readsAll_140 (by decide) ?_
                exact wX7_readsAll_148 cx e1 e2 a0 hth ih _ _ _ _ _ _ _ hf hS hl
            · have hf := jI_f hf hc
              refine lv_aload_n (pc := 119) hx hb dX7_readsAll_119 rfl (lv_at hl 0 rfl) ?_
              obtain ⟨y9, h1, e9, hf⟩ := jB_some hf
              refine j_callV (pc := 120) (st1 := [.int y9]) (As := []) (rest := []) cx hS rfl hl.1 hm (metX7_readsDamp l _ _ _ _ _ (hth.at hS) e9) (jle hf) (hth.at hS) rfl (lw_V q1973 q1975 qs70 q123 q1976) pdX7_readsDamp rfl rfl (Nat.le_of_ble_eq_true rfl) ⟨Nat.le_of_ble_eq_true rfl, Nat.le_of_ble_eq_true rfl⟩ dX7_readsAll_120 rfl (fun H locs cells slots hS => ?_)
              refine lv_goto (pc := 123) (tgt := 148) hx hb dX7_readsAll_123 (by decide) ?_
              exact wX7_readsAll_148 cx e1 e2 a0 hth ih _ _ _ _ _ _ _ hf hS hl
          · have hf := jI_f hf hc
            refine lv_aload_n (pc := 102) hx hb dX7_readsAll_102 rfl (lv_at hl 0 rfl) ?_
            obtain ⟨y10, h1, e9, hf⟩ := jB_some hf
            refine j_callV (pc := 103) (st1 := [.int y10]) (As := []) (rest := []) cx hS rfl hl.1 hm (metX7_readsText l _ _ _ _ _ (hth.at hS) e9) (jle hf) (hth.at hS) rfl (lw_V q1969 q1971 qs69 q123 q1972) pdX7_readsText rfl rfl (Nat.le_of_ble_eq_true rfl) ⟨Nat.le_of_ble_eq_true rfl, Nat.le_of_ble_eq_true rfl⟩ dX7_readsAll_103 rfl (fun H locs cells slots hS => ?_)
            refine lv_goto (pc := 106) (tgt := 148) hx hb dX7_readsAll_106 (by decide) ?_
            exact wX7_readsAll_148 cx e1 e2 a0 hth ih _ _ _ _ _ _ _ hf hS hl
        · have hf := jI_f hf hc
          refine lv_aload_n (pc := 85) hx hb dX7_readsAll_85 rfl (lv_at hl 0 rfl) ?_
          obtain ⟨y11, h1, e9, hf⟩ := jB_some hf
          refine j_callV (pc := 86) (st1 := [.int y11]) (As := []) (rest := []) cx hS rfl hl.1 hm (metX7_readsHole l _ _ _ _ _ (hth.at hS) e9) (jle hf) (hth.at hS) rfl (lw_V q1961 q1963 qs67 q123 q1964) pdX7_readsHole rfl rfl (Nat.le_of_ble_eq_true rfl) ⟨Nat.le_of_ble_eq_true rfl, Nat.le_of_ble_eq_true rfl⟩ dX7_readsAll_86 rfl (fun H locs cells slots hS => ?_)
          refine lv_goto (pc := 89) (tgt := 148) hx hb dX7_readsAll_89 (by decide) ?_
          exact wX7_readsAll_148 cx e1 e2 a0 hth ih _ _ _ _ _ _ _ hf hS hl
      · have hf := jI_f hf hc
        refine lv_aload_n (pc := 68) hx hb dX7_readsAll_68 rfl (lv_at hl 0 rfl) ?_
        obtain ⟨y12, h1, e9, hf⟩ := jB_some hf
        refine j_callV (pc := 69) (st1 := [.int y12]) (As := []) (rest := []) cx hS rfl hl.1 hm (metX7_readsSkin l _ _ _ _ _ (hth.at hS) e9) (jle hf) (hth.at hS) rfl (lw_V q1899 q1901 qs57 q123 q1902) pdX7_readsSkin rfl rfl (Nat.le_of_ble_eq_true rfl) ⟨Nat.le_of_ble_eq_true rfl, Nat.le_of_ble_eq_true rfl⟩ dX7_readsAll_69 rfl (fun H locs cells slots hS => ?_)
        refine lv_goto (pc := 72) (tgt := 148) hx hb dX7_readsAll_72 (by decide) ?_
        exact wX7_readsAll_148 cx e1 e2 a0 hth ih _ _ _ _ _ _ _ hf hS hl
theorem wX7_readsAll_22 {N : Nat} {r : Int32} (cx : jCx p s m args meth c cX7_readsAll "WornSkinModel" 2 (Option.some Jvm.ClassFile.FieldType.boolean) D dA H0 hs.2.2.2.2) (e1 : h'.2.2.1 = hs.2.2.1 + mc) (e2 : h'.2.2.2.1 = hs.2.2.2.1 + ms) (a0 : Nat) (hth : jTh hs a0 7) : ∀ (h : jH) (H : Heap) (locs : List Loc) (cells slots : Nat) (ls : Array Slot), (fX7_readsAll_22 N a0).1 h = some (r, h') → jS D dA H0 hs h H locs cells slots → lv_has ls 2 [(0, .ref a0)] → W p l e { frames := 5, cells := mc, slots := ms, locals := 109 } s m args below meth c H locs cells slots (jQ D dA H0 below s (.returned (some (.int r))) h' mc ms) (F0 m 22 ls []) := by
  have hx := cx.1
  have hb := cx.2.1
  have hown := cx.2.2.2.1
  have hts := cx.2.2.2.2.1
  have hm : h'.2.2.1 ≤ hs.2.2.1 + mc ∧ h'.2.2.2.1 ≤ hs.2.2.2.1 + ms := ⟨Nat.le_of_eq e1, Nat.le_of_eq e2⟩
  intro h H locs cells slots ls hf hS hl
  unfold fX7_readsAll_22 at hf
  refine lv_aload_n (pc := 22) hx hb dX7_readsAll_22 rfl (lv_at hl 0 rfl) ?_
  refine j_gR (pc := 23) cx hS hf fd_WornSkinModel_lineFrom q1704 dX7_readsAll_23 (fun y1 hf => ?_)
  refine lv_iconst (pc := 26) (v := 1) hx hb dX7_readsAll_26 rfl ?_
  refine lv_sipush (pc := 27) (v := 1000) hx hb dX7_readsAll_27 rfl ?_
  refine j_sI (pc := 30) cx hS hf rfl dX7_readsAll_30 (fun h H locs hf hS => ?_)
  refine lv_aload_n (pc := 31) hx hb dX7_readsAll_31 rfl (lv_at hl 0 rfl) ?_
  refine j_gR (pc := 32) cx hS hf fd_WornSkinModel_lineTo q1705 dX7_readsAll_32 (fun y2 hf => ?_)
  refine lv_iconst (pc := 35) (v := 1) hx hb dX7_readsAll_35 rfl ?_
  refine lv_sipush (pc := 36) (v := 1000) hx hb dX7_readsAll_36 rfl ?_
  refine j_sI (pc := 39) cx hS hf rfl dX7_readsAll_39 (fun h H locs hf hS => ?_)
  refine lv_aload_n (pc := 40) hx hb dX7_readsAll_40 rfl (lv_at hl 0 rfl) ?_
  refine lv_sipush (pc := 41) (v := 1000) hx hb dX7_readsAll_41 rfl ?_
  refine j_pI (pc := 44) cx hS hf fp_WornSkinModel_code (Or.inl rfl) q1707 dX7_readsAll_44 (fun h H locs hf hS => ?_)
  refine lv_aload_n (pc := 47) hx hb dX7_readsAll_47 rfl (lv_at hl 0 rfl) ?_
  obtain ⟨_, h1, e9, hf⟩ := jB_some hf
  refine j_callV (pc := 48) (st1 := []) (As := []) (rest := []) cx hS rfl hl.1 hm (metX7_begins l _ _ _ _ _ (hth.at hS) e9) (jle hf) (hth.at hS) rfl (lw_V q1880 q1882 qs53 q123 q1883) pdX7_begins rfl rfl (Nat.le_of_ble_eq_true rfl) ⟨Nat.le_of_ble_eq_true rfl, Nat.le_of_ble_eq_true rfl⟩ dX7_readsAll_48 rfl (fun H locs cells slots hS => ?_)
  exact wX7_readsAll_51 cx e1 e2 a0 hth N _ _ _ _ _ _ hf hS hl
theorem wX7_readsAll_2 {N : Nat} {r : Int32} (cx : jCx p s m args meth c cX7_readsAll "WornSkinModel" 2 (Option.some Jvm.ClassFile.FieldType.boolean) D dA H0 hs.2.2.2.2) (e1 : h'.2.2.1 = hs.2.2.1 + mc) (e2 : h'.2.2.2.1 = hs.2.2.2.1 + ms) (a0 : Nat) (hth : jTh hs a0 7) : ∀ (n : Nat) (x1 : Int32), ∀ (h : jH) (H : Heap) (locs : List Loc) (cells slots : Nat) (ls : Array Slot), (fX7_readsAll_2 N a0 n x1).1 h = some (r, h') → jS D dA H0 hs h H locs cells slots → lv_has ls 2 [(0, .ref a0), (1, .int x1)] → W p l e { frames := 5, cells := mc, slots := ms, locals := 109 } s m args below meth c H locs cells slots (jQ D dA H0 below s (.returned (some (.int r))) h' mc ms) (F0 m 2 ls []) := by
  have hx := cx.1
  have hb := cx.2.1
  have hown := cx.2.2.2.1
  have hts := cx.2.2.2.2.1
  have hm : h'.2.2.1 ≤ hs.2.2.1 + mc ∧ h'.2.2.2.1 ≤ hs.2.2.2.1 + ms := ⟨Nat.le_of_eq e1, Nat.le_of_eq e2⟩
  intro n
  induction n with
  | zero =>
    intro x1 h H locs cells slots ls hf hS hl
    exact jE_f hf
  | succ n ih =>
    intro x1 h H locs cells slots ls hf hS hl
    unfold fX7_readsAll_2 at hf
    refine lv_iload_n (pc := 2) hx hb dX7_readsAll_2 rfl (lv_at hl 1 rfl) ?_
    refine lv_iconst (pc := 3) (v := 3) hx hb dX7_readsAll_3 rfl ?_
    refine lv_icmp_ge (pc := 4) (tgt := 22) hx hb dX7_readsAll_4 (by decide) (fun hc => ?_) (fun hc => ?_)
    · have hf := jI_t hf hc
      exact wX7_readsAll_22 cx e1 e2 a0 hth _ _ _ _ _ _ hf hS (lv_sub hl [0] rfl)
    · have hf := jI_f hf hc
      refine lv_aload_n (pc := 7) hx hb dX7_readsAll_7 rfl (lv_at hl 0 rfl) ?_
      refine j_gR (pc := 8) cx hS hf fd_WornSkinModel_library q1694 dX7_readsAll_8 (fun y1 hf => ?_)
      refine lv_iconst (pc := 11) (v := 3) hx hb dX7_readsAll_11 rfl ?_
      refine lv_iload_n (pc := 12) hx hb dX7_readsAll_12 rfl (lv_at hl 1 rfl) ?_
      refine lv_iadd (pc := 13) hx hb dX7_readsAll_13 ?_
      refine lv_iconst (pc := 14) (v := 0) hx hb dX7_readsAll_14 rfl ?_
      refine j_sI (pc := 15) cx hS hf rfl dX7_readsAll_15 (fun h H locs hf hS => ?_)
      refine lv_iinc (pc := 16) (v := (x1 + 1)) (lv' := [(1, .int (x1 + 1)), (0, .ref a0)]) hx hb dX7_readsAll_16 hl (k := 1) rfl rfl (Nat.le_of_ble_eq_true rfl) rfl (fun ls hl => ?_)
      refine lv_goto (pc := 19) (tgt := 2) hx hb dX7_readsAll_19 (by decide) ?_
      exact ih _ _ _ _ _ _ _ hf hS (lv_sub hl [1, 0] rfl)
theorem wX7_readsAll_0 {N : Nat} {r : Int32} (cx : jCx p s m args meth c cX7_readsAll "WornSkinModel" 2 (Option.some Jvm.ClassFile.FieldType.boolean) D dA H0 hs.2.2.2.2) (e1 : h'.2.2.1 = hs.2.2.1 + mc) (e2 : h'.2.2.2.1 = hs.2.2.2.1 + ms) (a0 : Nat) (hth : jTh hs a0 7) : ∀ (h : jH) (H : Heap) (locs : List Loc) (cells slots : Nat) (ls : Array Slot), (fX7_readsAll N a0).1 h = some (r, h') → jS D dA H0 hs h H locs cells slots → lv_has ls 2 [(0, .ref a0)] → W p l e { frames := 5, cells := mc, slots := ms, locals := 109 } s m args below meth c H locs cells slots (jQ D dA H0 below s (.returned (some (.int r))) h' mc ms) (F0 m 0 ls []) := by
  have hx := cx.1
  have hb := cx.2.1
  have hown := cx.2.2.2.1
  have hts := cx.2.2.2.2.1
  have hm : h'.2.2.1 ≤ hs.2.2.1 + mc ∧ h'.2.2.2.1 ≤ hs.2.2.2.1 + ms := ⟨Nat.le_of_eq e1, Nat.le_of_eq e2⟩
  intro h H locs cells slots ls hf hS hl
  unfold fX7_readsAll at hf
  refine lv_iconst (pc := 0) (v := 0) hx hb dX7_readsAll_0 rfl ?_
  refine lv_istore_n (pc := 1) (i := 1) (lv' := [(1, .int 0), (0, .ref a0)]) hx hb dX7_readsAll_1 rfl hl (Nat.le_of_ble_eq_true rfl) rfl (fun ls hl => ?_)
  exact wX7_readsAll_2 cx e1 e2 a0 hth N _ _ _ _ _ _ _ hf hS (lv_sub hl [1, 0] rfl)
theorem metX7_readsAll (l : Launch) (N : Nat) (a0 : Nat) (h h' : jH) (r : Int32) (hth : jcd h a0 = some 7) (hf : (fX7_readsAll N a0).1 h = some (r, h')) : jMet l yX7_readsAll (ws_ yX7_readsAll cX7_readsAll 2 (Option.some Jvm.ClassFile.FieldType.boolean)) (5) (109) [.ref a0] h h' (.returned (some (.int r))) := by
  refine jStart rfl (jle hf) (Nat.le_of_ble_eq_true rfl) ?_
  intro p e s m below meth c D dA H0 mc ms ls cx hnm e1 e2 hS hl
  have hth := jTh.mk hS hth
  exact wX7_readsAll_0 cx e1 e2 a0 hth  _ _ _ _ _ _ hf hS hl
def fX7_shifts_21 (N : Nat) : jM Unit := jR ()
def fX7_shifts_2 (N : Nat) : Nat → Option Nat → Int32 → Int32 → jM Unit
  | 0, _, _, _ => jE
  | n + 1, x0, x1, x2 => if x1 ≤ x2 then (fX7_shifts_21 N) else (jB (jaI 0 x0 (x1 + x2)) fun y1 => jB (jsI 0 x0 x2 y1) fun _ => fX7_shifts_2 N n x0 x1 (x2 + 1))
def fX7_shifts (N : Nat) (x0 : Option Nat) (x1 : Int32) : jM Unit := fX7_shifts_2 N N x0 x1 0
theorem wX7_shifts_21 {N : Nat} {r : Unit} (cx : jCx p s m args meth c cX7_shifts "WornSkinModel" 3 (Option.none : Option Jvm.ClassFile.FieldType) D dA H0 hs.2.2.2.2) (e1 : h'.2.2.1 = hs.2.2.1 + mc) (e2 : h'.2.2.2.1 = hs.2.2.2.1 + ms) : ∀ (h : jH) (H : Heap) (locs : List Loc) (cells slots : Nat) (ls : Array Slot), (fX7_shifts_21 N).1 h = some (r, h') → jS D dA H0 hs h H locs cells slots → lv_has ls 3 [] → W p l e { frames := 0, cells := mc, slots := ms, locals := 0 } s m args below meth c H locs cells slots (jQ D dA H0 below s (.returned none) h' mc ms) (F0 m 21 ls []) := by
  have hx := cx.1
  have hb := cx.2.1
  have hown := cx.2.2.2.1
  have hts := cx.2.2.2.2.1
  have hm : h'.2.2.1 ≤ hs.2.2.1 + mc ∧ h'.2.2.2.1 ≤ hs.2.2.2.1 + ms := ⟨Nat.le_of_eq e1, Nat.le_of_eq e2⟩
  intro h H locs cells slots ls hf hS hl
  unfold fX7_shifts_21 at hf
  exact j_vret (pc := 21) cx hS hf e1 e2 dX7_shifts_21
theorem wX7_shifts_2 {N : Nat} {r : Unit} (cx : jCx p s m args meth c cX7_shifts "WornSkinModel" 3 (Option.none : Option Jvm.ClassFile.FieldType) D dA H0 hs.2.2.2.2) (e1 : h'.2.2.1 = hs.2.2.1 + mc) (e2 : h'.2.2.2.1 = hs.2.2.2.1 + ms) : ∀ (n : Nat) (x0 : Option Nat) (x1 : Int32) (x2 : Int32), ∀ (h : jH) (H : Heap) (locs : List Loc) (cells slots : Nat) (ls : Array Slot), (fX7_shifts_2 N n x0 x1 x2).1 h = some (r, h') → jS D dA H0 hs h H locs cells slots → lv_has ls 3 [(0, va_rf x0), (1, .int x1), (2, .int x2)] → W p l e { frames := 0, cells := mc, slots := ms, locals := 0 } s m args below meth c H locs cells slots (jQ D dA H0 below s (.returned none) h' mc ms) (F0 m 2 ls []) := by
  have hx := cx.1
  have hb := cx.2.1
  have hown := cx.2.2.2.1
  have hts := cx.2.2.2.2.1
  have hm : h'.2.2.1 ≤ hs.2.2.1 + mc ∧ h'.2.2.2.1 ≤ hs.2.2.2.1 + ms := ⟨Nat.le_of_eq e1, Nat.le_of_eq e2⟩
  intro n
  induction n with
  | zero =>
    intro x0 x1 x2 h H locs cells slots ls hf hS hl
    exact jE_f hf
  | succ n ih =>
    intro x0 x1 x2 h H locs cells slots ls hf hS hl
    unfold fX7_shifts_2 at hf
    refine lv_iload_n (pc := 2) hx hb dX7_shifts_2 rfl (lv_at hl 2 rfl) ?_
    refine lv_iload_n (pc := 3) hx hb dX7_shifts_3 rfl (lv_at hl 1 rfl) ?_
    refine lv_icmp_ge (pc := 4) (tgt := 21) hx hb dX7_shifts_4 (by decide) (fun hc => ?_) (fun hc => ?_)
    · have hf := jI_t hf hc
      exact wX7_shifts_21 cx e1 e2 _ _ _ _ _ _ hf hS (lv_sub hl [] rfl)
    · have hf := jI_f hf hc
      refine j_aload_n (pc := 7) (r := x0) hx hb dX7_shifts_7 rfl (lv_at hl 0 rfl) ?_
      refine lv_iload_n (pc := 8) hx hb dX7_shifts_8 rfl (lv_at hl 2 rfl) ?_
      refine j_aload_n (pc := 9) (r := x0) hx hb dX7_shifts_9 rfl (lv_at hl 0 rfl) ?_
      refine lv_iload_n (pc := 10) hx hb dX7_shifts_10 rfl (lv_at hl 1 rfl) ?_
      refine lv_iload_n (pc := 11) hx hb dX7_shifts_11 rfl (lv_at hl 2 rfl) ?_
      refine lv_iadd (pc := 12) hx hb dX7_shifts_12 ?_
      refine j_aI (pc := 13) cx hS hf rfl dX7_shifts_13 (fun y1 hf => ?_)
      refine j_sI (pc := 14) cx hS hf rfl dX7_shifts_14 (fun h H locs hf hS => ?_)
      refine lv_iinc (pc := 15) (v := (x2 + 1)) (lv' := [(2, .int (x2 + 1)), (0, va_rf x0), (1, .int x1)]) hx hb dX7_shifts_15 hl (k := 2) rfl rfl (Nat.le_of_ble_eq_true rfl) rfl (fun ls hl => ?_)
      refine lv_goto (pc := 18) (tgt := 2) hx hb dX7_shifts_18 (by decide) ?_
      exact ih _ _ _ _ _ _ _ _ _ hf hS (lv_sub hl [1, 2, 0] rfl)
theorem wX7_shifts_0 {N : Nat} {r : Unit} (cx : jCx p s m args meth c cX7_shifts "WornSkinModel" 3 (Option.none : Option Jvm.ClassFile.FieldType) D dA H0 hs.2.2.2.2) (e1 : h'.2.2.1 = hs.2.2.1 + mc) (e2 : h'.2.2.2.1 = hs.2.2.2.1 + ms) : ∀ (x0 : Option Nat) (x1 : Int32), ∀ (h : jH) (H : Heap) (locs : List Loc) (cells slots : Nat) (ls : Array Slot), (fX7_shifts N x0 x1).1 h = some (r, h') → jS D dA H0 hs h H locs cells slots → lv_has ls 3 [(0, va_rf x0), (1, .int x1)] → W p l e { frames := 0, cells := mc, slots := ms, locals := 0 } s m args below meth c H locs cells slots (jQ D dA H0 below s (.returned none) h' mc ms) (F0 m 0 ls []) := by
  have hx := cx.1
  have hb := cx.2.1
  have hown := cx.2.2.2.1
  have hts := cx.2.2.2.2.1
  have hm : h'.2.2.1 ≤ hs.2.2.1 + mc ∧ h'.2.2.2.1 ≤ hs.2.2.2.1 + ms := ⟨Nat.le_of_eq e1, Nat.le_of_eq e2⟩
  intro x0 x1 h H locs cells slots ls hf hS hl
  unfold fX7_shifts at hf
  refine lv_iconst (pc := 0) (v := 0) hx hb dX7_shifts_0 rfl ?_
  refine lv_istore_n (pc := 1) (i := 2) (lv' := [(2, .int 0), (0, va_rf x0), (1, .int x1)]) hx hb dX7_shifts_1 rfl hl (Nat.le_of_ble_eq_true rfl) rfl (fun ls hl => ?_)
  exact wX7_shifts_2 cx e1 e2 N _ _ _ _ _ _ _ _ _ hf hS (lv_sub hl [1, 2, 0] rfl)
theorem metX7_shifts (l : Launch) (N : Nat) (x0 : Option Nat) (x1 : Int32) (h h' : jH) (r : Unit) (hf : (fX7_shifts N x0 x1).1 h = some (r, h')) : jMet l yX7_shifts (ws_ yX7_shifts cX7_shifts 3 (Option.none : Option Jvm.ClassFile.FieldType)) (0) (0) [va_rf x0, .int x1] h h' (.returned none) := by
  refine jStart rfl (jle hf) (by cases x0 <;> exact Nat.le_of_ble_eq_true rfl) ?_
  intro p e s m below meth c D dA H0 mc ms ls cx hnm e1 e2 hS hl
  have hl : lv_has ls 3 [(0, va_rf x0), (1, .int x1)] := by cases x0 <;> exact hl
  exact wX7_shifts_0 cx e1 e2 _ _ _ _ _ _ _ _ hf hS hl
def fX7_shiftsNames_21 (N : Nat) : jM Unit := jR ()
def fX7_shiftsNames_2 (N : Nat) : Nat → Option Nat → Int32 → Int32 → jM Unit
  | 0, _, _, _ => jE
  | n + 1, x0, x1, x2 => if x1 ≤ x2 then (fX7_shiftsNames_21 N) else (jB (jaL 1 x0 (x1 + x2)) fun y1 => jB (jsL 1 x0 x2 y1) fun _ => fX7_shiftsNames_2 N n x0 x1 (x2 + 1))
def fX7_shiftsNames (N : Nat) (x0 : Option Nat) (x1 : Int32) : jM Unit := fX7_shiftsNames_2 N N x0 x1 0
theorem wX7_shiftsNames_21 {N : Nat} {r : Unit} (cx : jCx p s m args meth c cX7_shiftsNames "WornSkinModel" 3 (Option.none : Option Jvm.ClassFile.FieldType) D dA H0 hs.2.2.2.2) (e1 : h'.2.2.1 = hs.2.2.1 + mc) (e2 : h'.2.2.2.1 = hs.2.2.2.1 + ms) : ∀ (h : jH) (H : Heap) (locs : List Loc) (cells slots : Nat) (ls : Array Slot), (fX7_shiftsNames_21 N).1 h = some (r, h') → jS D dA H0 hs h H locs cells slots → lv_has ls 3 [] → W p l e { frames := 0, cells := mc, slots := ms, locals := 0 } s m args below meth c H locs cells slots (jQ D dA H0 below s (.returned none) h' mc ms) (F0 m 21 ls []) := by
  have hx := cx.1
  have hb := cx.2.1
  have hown := cx.2.2.2.1
  have hts := cx.2.2.2.2.1
  have hm : h'.2.2.1 ≤ hs.2.2.1 + mc ∧ h'.2.2.2.1 ≤ hs.2.2.2.1 + ms := ⟨Nat.le_of_eq e1, Nat.le_of_eq e2⟩
  intro h H locs cells slots ls hf hS hl
  unfold fX7_shiftsNames_21 at hf
  exact j_vret (pc := 21) cx hS hf e1 e2 dX7_shiftsNames_21
theorem wX7_shiftsNames_2 {N : Nat} {r : Unit} (cx : jCx p s m args meth c cX7_shiftsNames "WornSkinModel" 3 (Option.none : Option Jvm.ClassFile.FieldType) D dA H0 hs.2.2.2.2) (e1 : h'.2.2.1 = hs.2.2.1 + mc) (e2 : h'.2.2.2.1 = hs.2.2.2.1 + ms) : ∀ (n : Nat) (x0 : Option Nat) (x1 : Int32) (x2 : Int32), ∀ (h : jH) (H : Heap) (locs : List Loc) (cells slots : Nat) (ls : Array Slot), (fX7_shiftsNames_2 N n x0 x1 x2).1 h = some (r, h') → jS D dA H0 hs h H locs cells slots → lv_has ls 3 [(0, va_rf x0), (1, .int x1), (2, .int x2)] → W p l e { frames := 0, cells := mc, slots := ms, locals := 0 } s m args below meth c H locs cells slots (jQ D dA H0 below s (.returned none) h' mc ms) (F0 m 2 ls []) := by
  have hx := cx.1
  have hb := cx.2.1
  have hown := cx.2.2.2.1
  have hts := cx.2.2.2.2.1
  have hm : h'.2.2.1 ≤ hs.2.2.1 + mc ∧ h'.2.2.2.1 ≤ hs.2.2.2.1 + ms := ⟨Nat.le_of_eq e1, Nat.le_of_eq e2⟩
  intro n
  induction n with
  | zero =>
    intro x0 x1 x2 h H locs cells slots ls hf hS hl
    exact jE_f hf
  | succ n ih =>
    intro x0 x1 x2 h H locs cells slots ls hf hS hl
    unfold fX7_shiftsNames_2 at hf
    refine lv_iload_n (pc := 2) hx hb dX7_shiftsNames_2 rfl (lv_at hl 2 rfl) ?_
    refine lv_iload_n (pc := 3) hx hb dX7_shiftsNames_3 rfl (lv_at hl 1 rfl) ?_
    refine lv_icmp_ge (pc := 4) (tgt := 21) hx hb dX7_shiftsNames_4 (by decide) (fun hc => ?_) (fun hc => ?_)
    · have hf := jI_t hf hc
      exact wX7_shiftsNames_21 cx e1 e2 _ _ _ _ _ _ hf hS (lv_sub hl [] rfl)
    · have hf := jI_f hf hc
      refine j_aload_n (pc := 7) (r := x0) hx hb dX7_shiftsNames_7 rfl (lv_at hl 0 rfl) ?_
      refine lv_iload_n (pc := 8) hx hb dX7_shiftsNames_8 rfl (lv_at hl 2 rfl) ?_
      refine j_aload_n (pc := 9) (r := x0) hx hb dX7_shiftsNames_9 rfl (lv_at hl 0 rfl) ?_
      refine lv_iload_n (pc := 10) hx hb dX7_shiftsNames_10 rfl (lv_at hl 1 rfl) ?_
      refine lv_iload_n (pc := 11) hx hb dX7_shiftsNames_11 rfl (lv_at hl 2 rfl) ?_
      refine lv_iadd (pc := 12) hx hb dX7_shiftsNames_12 ?_
      refine j_aL (pc := 13) cx hS hf rfl dX7_shiftsNames_13 (fun y1 hf => ?_)
      refine j_sL (pc := 14) cx hS hf rfl dX7_shiftsNames_14 (fun h H locs hf hS => ?_)
      refine lv_iinc (pc := 15) (v := (x2 + 1)) (lv' := [(2, .int (x2 + 1)), (0, va_rf x0), (1, .int x1)]) hx hb dX7_shiftsNames_15 hl (k := 2) rfl rfl (Nat.le_of_ble_eq_true rfl) rfl (fun ls hl => ?_)
      refine lv_goto (pc := 18) (tgt := 2) hx hb dX7_shiftsNames_18 (by decide) ?_
      exact ih _ _ _ _ _ _ _ _ _ hf hS (lv_sub hl [1, 2, 0] rfl)
theorem wX7_shiftsNames_0 {N : Nat} {r : Unit} (cx : jCx p s m args meth c cX7_shiftsNames "WornSkinModel" 3 (Option.none : Option Jvm.ClassFile.FieldType) D dA H0 hs.2.2.2.2) (e1 : h'.2.2.1 = hs.2.2.1 + mc) (e2 : h'.2.2.2.1 = hs.2.2.2.1 + ms) : ∀ (x0 : Option Nat) (x1 : Int32), ∀ (h : jH) (H : Heap) (locs : List Loc) (cells slots : Nat) (ls : Array Slot), (fX7_shiftsNames N x0 x1).1 h = some (r, h') → jS D dA H0 hs h H locs cells slots → lv_has ls 3 [(0, va_rf x0), (1, .int x1)] → W p l e { frames := 0, cells := mc, slots := ms, locals := 0 } s m args below meth c H locs cells slots (jQ D dA H0 below s (.returned none) h' mc ms) (F0 m 0 ls []) := by
  have hx := cx.1
  have hb := cx.2.1
  have hown := cx.2.2.2.1
  have hts := cx.2.2.2.2.1
  have hm : h'.2.2.1 ≤ hs.2.2.1 + mc ∧ h'.2.2.2.1 ≤ hs.2.2.2.1 + ms := ⟨Nat.le_of_eq e1, Nat.le_of_eq e2⟩
  intro x0 x1 h H locs cells slots ls hf hS hl
  unfold fX7_shiftsNames at hf
  refine lv_iconst (pc := 0) (v := 0) hx hb dX7_shiftsNames_0 rfl ?_
  refine lv_istore_n (pc := 1) (i := 2) (lv' := [(2, .int 0), (0, va_rf x0), (1, .int x1)]) hx hb dX7_shiftsNames_1 rfl hl (Nat.le_of_ble_eq_true rfl) rfl (fun ls hl => ?_)
  exact wX7_shiftsNames_2 cx e1 e2 N _ _ _ _ _ _ _ _ _ hf hS (lv_sub hl [1, 2, 0] rfl)
theorem metX7_shiftsNames (l : Launch) (N : Nat) (x0 : Option Nat) (x1 : Int32) (h h' : jH) (r : Unit) (hf : (fX7_shiftsNames N x0 x1).1 h = some (r, h')) : jMet l yX7_shiftsNames (ws_ yX7_shiftsNames cX7_shiftsNames 3 (Option.none : Option Jvm.ClassFile.FieldType)) (0) (0) [va_rf x0, .int x1] h h' (.returned none) := by
  refine jStart rfl (jle hf) (by cases x0 <;> exact Nat.le_of_ble_eq_true rfl) ?_
  intro p e s m below meth c D dA H0 mc ms ls cx hnm e1 e2 hS hl
  have hl : lv_has ls 3 [(0, va_rf x0), (1, .int x1)] := by cases x0 <;> exact hl
  exact wX7_shiftsNames_0 cx e1 e2 _ _ _ _ _ _ _ _ hf hS hl
def fX7_lays (N : Nat) (a0 : Nat) : jM Unit := jB (jgR [7] 10 (some a0)) fun y1 => jB (fX7_shifts N y1 3) fun _ => jB (jgR [7] 11 (some a0)) fun y3 => jB (fX7_shiftsNames N y3 3) fun _ => jB (jgR [7] 12 (some a0)) fun y5 => jB (fX7_shiftsNames N y5 6) fun _ => jB (jgR [7] 13 (some a0)) fun y7 => jB (fX7_shifts N y7 3) fun _ => jB (jgR [7] 14 (some a0)) fun y9 => jB (fX7_shifts N y9 3) fun _ => jB (jgR [7] 15 (some a0)) fun y11 => jB (fX7_shifts N y11 3) fun _ => jB (jgR [7] 16 (some a0)) fun y13 => jB (fX7_shifts N y13 6) fun _ => jB (jgR [7] 17 (some a0)) fun y15 => jB (fX7_shifts N y15 6) fun _ => jB (jgR [7] 18 (some a0)) fun y17 => jB (fX7_shifts N y17 6) fun _ => jB (jgR [7] 19 (some a0)) fun y19 => jB (fX7_shifts N y19 12) fun _ => jB (jgR [7] 22 (some a0)) fun y21 => jB (fX7_shifts N y21 1000) fun _ => jB (jgR [7] 20 (some a0)) fun y23 => jB (jgR [7] 20 (some a0)) fun y24 => jB (jaI 0 y24 1) fun y25 => jB (jsI 0 y23 0 (y25 - 1000)) fun _ => jB (jgR [7] 21 (some a0)) fun y26 => jB (jgR [7] 21 (some a0)) fun y27 => jB (jaI 0 y27 1) fun y28 => jB (jsI 0 y26 0 (y28 - 1000)) fun _ => jR ()
theorem wX7_lays_0 {N : Nat} {r : Unit} (cx : jCx p s m args meth c cX7_lays "WornSkinModel" 1 (Option.none : Option Jvm.ClassFile.FieldType) D dA H0 hs.2.2.2.2) (e1 : h'.2.2.1 = hs.2.2.1 + mc) (e2 : h'.2.2.2.1 = hs.2.2.2.1 + ms) (a0 : Nat) (hth : jTh hs a0 7) : ∀ (h : jH) (H : Heap) (locs : List Loc) (cells slots : Nat) (ls : Array Slot), (fX7_lays N a0).1 h = some (r, h') → jS D dA H0 hs h H locs cells slots → lv_has ls 1 [(0, .ref a0)] → W p l e { frames := 1, cells := mc, slots := ms, locals := 22 } s m args below meth c H locs cells slots (jQ D dA H0 below s (.returned none) h' mc ms) (F0 m 0 ls []) := by
  have hx := cx.1
  have hb := cx.2.1
  have hown := cx.2.2.2.1
  have hts := cx.2.2.2.2.1
  have hm : h'.2.2.1 ≤ hs.2.2.1 + mc ∧ h'.2.2.2.1 ≤ hs.2.2.2.1 + ms := ⟨Nat.le_of_eq e1, Nat.le_of_eq e2⟩
  intro h H locs cells slots ls hf hS hl
  unfold fX7_lays at hf
  refine lv_aload_n (pc := 0) hx hb dX7_lays_0 rfl (lv_at hl 0 rfl) ?_
  refine j_gR (pc := 1) cx hS hf fd_WornSkinModel_library q1694 dX7_lays_1 (fun y1 hf => ?_)
  refine lv_iconst (pc := 4) (v := 3) hx hb dX7_lays_4 rfl ?_
  obtain ⟨_, h1, e9, hf⟩ := jB_some hf
  refine j_callS (pc := 5) (st1 := []) (As := [va_rf y1, .int 3]) (rest := []) cx hS rfl hl.1 hm (metX7_shifts l _ _ _ _ _ _ e9) (jle hf) (lw_S q2001 q2002 q123 q2003) pdX7_shifts rfl rfl (Nat.le_of_ble_eq_true rfl) ⟨Nat.le_of_ble_eq_true rfl, Nat.le_of_ble_eq_true rfl⟩ dX7_lays_5 rfl (fun H locs cells slots hS => ?_)
  refine lv_aload_n (pc := 8) hx hb dX7_lays_8 rfl (lv_at hl 0 rfl) ?_
  refine j_gR (pc := 9) cx hS hf fd_WornSkinModel_skinName q1695 dX7_lays_9 (fun y3 hf => ?_)
  refine lv_iconst (pc := 12) (v := 3) hx hb dX7_lays_12 rfl ?_
  obtain ⟨_, h1, e9, hf⟩ := jB_some hf
  refine j_callS (pc := 13) (st1 := []) (As := [va_rf y3, .int 3]) (rest := []) cx hS rfl hl.1 hm (metX7_shiftsNames l _ _ _ _ _ _ e9) (jle hf) (lw_S q2004 q2005 q123 q2006) pdX7_shiftsNames rfl rfl (Nat.le_of_ble_eq_true rfl) ⟨Nat.le_of_ble_eq_true rfl, Nat.le_of_ble_eq_true rfl⟩ dX7_lays_13 rfl (fun H locs cells slots hS => ?_)
  refine lv_aload_n (pc := 16) hx hb dX7_lays_16 rfl (lv_at hl 0 rfl) ?_
  refine j_gR (pc := 17) cx hS hf fd_WornSkinModel_textName q1696 dX7_lays_17 (fun y5 hf => ?_)
  refine lv_bipush (pc := 20) (v := 6) hx hb dX7_lays_20 rfl ?_
  obtain ⟨_, h1, e9, hf⟩ := jB_some hf
  refine j_callS (pc := 22) (st1 := []) (As := [va_rf y5, .int 6]) (rest := []) cx hS rfl hl.1 hm (metX7_shiftsNames l _ _ _ _ _ _ e9) (jle hf) (lw_S q2004 q2005 q123 q2006) pdX7_shiftsNames rfl rfl (Nat.le_of_ble_eq_true rfl) ⟨Nat.le_of_ble_eq_true rfl, Nat.le_of_ble_eq_true rfl⟩ dX7_lays_22 rfl (fun H locs cells slots hS => ?_)
  refine lv_aload_n (pc := 25) hx hb dX7_lays_25 rfl (lv_at hl 0 rfl) ?_
  refine j_gR (pc := 26) cx hS hf fd_WornSkinModel_linesOf q1697 dX7_lays_26 (fun y7 hf => ?_)
  refine lv_iconst (pc := 29) (v := 3) hx hb dX7_lays_29 rfl ?_
  obtain ⟨_, h1, e9, hf⟩ := jB_some hf
  refine j_callS (pc := 30) (st1 := []) (As := [va_rf y7, .int 3]) (rest := []) cx hS rfl hl.1 hm (metX7_shifts l _ _ _ _ _ _ e9) (jle hf) (lw_S q2001 q2002 q123 q2003) pdX7_shifts rfl rfl (Nat.le_of_ble_eq_true rfl) ⟨Nat.le_of_ble_eq_true rfl, Nat.le_of_ble_eq_true rfl⟩ dX7_lays_30 rfl (fun H locs cells slots hS => ?_)
  refine lv_aload_n (pc := 33) hx hb dX7_lays_33 rfl (lv_at hl 0 rfl) ?_
  refine j_gR (pc := 34) cx hS hf fd_WornSkinModel_thickTold q1698 dX7_lays_34 (fun y9 hf => ?_)
  refine lv_iconst (pc := 37) (v := 3) hx hb dX7_lays_37 rfl ?_
  obtain ⟨_, h1, e9, hf⟩ := jB_some hf
  refine j_callS (pc := 38) (st1 := []) (As := [va_rf y9, .int 3]) (rest := []) cx hS rfl hl.1 hm (metX7_shifts l _ _ _ _ _ _ e9) (jle hf) (lw_S q2001 q2002 q123 q2003) pdX7_shifts rfl rfl (Nat.le_of_ble_eq_true rfl) ⟨Nat.le_of_ble_eq_true rfl, Nat.le_of_ble_eq_true rfl⟩ dX7_lays_38 rfl (fun H locs cells slots hS => ?_)
  refine lv_aload_n (pc := 41) hx hb dX7_lays_41 rfl (lv_at hl 0 rfl) ?_
  refine j_gR (pc := 42) cx hS hf fd_WornSkinModel_holes q1699 dX7_lays_42 (fun y11 hf => ?_)
  refine lv_iconst (pc := 45) (v := 3) hx hb dX7_lays_45 rfl ?_
  obtain ⟨_, h1, e9, hf⟩ := jB_some hf
  refine j_callS (pc := 46) (st1 := []) (As := [va_rf y11, .int 3]) (rest := []) cx hS rfl hl.1 hm (metX7_shifts l _ _ _ _ _ _ e9) (jle hf) (lw_S q2001 q2002 q123 q2003) pdX7_shifts rfl rfl (Nat.le_of_ble_eq_true rfl) ⟨Nat.le_of_ble_eq_true rfl, Nat.le_of_ble_eq_true rfl⟩ dX7_lays_46 rfl (fun H locs cells slots hS => ?_)
  refine lv_aload_n (pc := 49) hx hb dX7_lays_49 rfl (lv_at hl 0 rfl) ?_
  refine j_gR (pc := 50) cx hS hf fd_WornSkinModel_kind q1700 dX7_lays_50 (fun y13 hf => ?_)
  refine lv_bipush (pc := 53) (v := 6) hx hb dX7_lays_53 rfl ?_
  obtain ⟨_, h1, e9, hf⟩ := jB_some hf
  refine j_callS (pc := 55) (st1 := []) (As := [va_rf y13, .int 6]) (rest := []) cx hS rfl hl.1 hm (metX7_shifts l _ _ _ _ _ _ e9) (jle hf) (lw_S q2001 q2002 q123 q2003) pdX7_shifts rfl rfl (Nat.le_of_ble_eq_true rfl) ⟨Nat.le_of_ble_eq_true rfl, Nat.le_of_ble_eq_true rfl⟩ dX7_lays_55 rfl (fun H locs cells slots hS => ?_)
  refine lv_aload_n (pc := 58) hx hb dX7_lays_58 rfl (lv_at hl 0 rfl) ?_
  refine j_gR (pc := 59) cx hS hf fd_WornSkinModel_gall q1701 dX7_lays_59 (fun y15 hf => ?_)
  refine lv_bipush (pc := 62) (v := 6) hx hb dX7_lays_62 rfl ?_
  obtain ⟨_, h1, e9, hf⟩ := jB_some hf
  refine j_callS (pc := 64) (st1 := []) (As := [va_rf y15, .int 6]) (rest := []) cx hS rfl hl.1 hm (metX7_shifts l _ _ _ _ _ _ e9) (jle hf) (lw_S q2001 q2002 q123 q2003) pdX7_shifts rfl rfl (Nat.le_of_ble_eq_true rfl) ⟨Nat.le_of_ble_eq_true rfl, Nat.le_of_ble_eq_true rfl⟩ dX7_lays_64 rfl (fun H locs cells slots hS => ?_)
  refine lv_aload_n (pc := 67) hx hb dX7_lays_67 rfl (lv_at hl 0 rfl) ?_
  refine j_gR (pc := 68) cx hS hf fd_WornSkinModel_long0 q1702 dX7_lays_68 (fun y17 hf => ?_)
  refine lv_bipush (pc := 71) (v := 6) hx hb dX7_lays_71 rfl ?_
  obtain ⟨_, h1, e9, hf⟩ := jB_some hf
  refine j_callS (pc := 73) (st1 := []) (As := [va_rf y17, .int 6]) (rest := []) cx hS rfl hl.1 hm (metX7_shifts l _ _ _ _ _ _ e9) (jle hf) (lw_S q2001 q2002 q123 q2003) pdX7_shifts rfl rfl (Nat.le_of_ble_eq_true rfl) ⟨Nat.le_of_ble_eq_true rfl, Nat.le_of_ble_eq_true rfl⟩ dX7_lays_73 rfl (fun H locs cells slots hS => ?_)
  refine lv_aload_n (pc := 76) hx hb dX7_lays_76 rfl (lv_at hl 0 rfl) ?_
  refine j_gR (pc := 77) cx hS hf fd_WornSkinModel_damp q1703 dX7_lays_77 (fun y19 hf => ?_)
  refine lv_bipush (pc := 80) (v := 12) hx hb dX7_lays_80 rfl ?_
  obtain ⟨_, h1, e9, hf⟩ := jB_some hf
  refine j_callS (pc := 82) (st1 := []) (As := [va_rf y19, .int 12]) (rest := []) cx hS rfl hl.1 hm (metX7_shifts l _ _ _ _ _ _ e9) (jle hf) (lw_S q2001 q2002 q123 q2003) pdX7_shifts rfl rfl (Nat.le_of_ble_eq_true rfl) ⟨Nat.le_of_ble_eq_true rfl, Nat.le_of_ble_eq_true rfl⟩ dX7_lays_82 rfl (fun H locs cells slots hS => ?_)
  refine lv_aload_n (pc := 85) hx hb dX7_lays_85 rfl (lv_at hl 0 rfl) ?_
  refine j_gR (pc := 86) cx hS hf fd_WornSkinModel_codes q1706 dX7_lays_86 (fun y21 hf => ?_)
  refine lv_sipush (pc := 89) (v := 1000) hx hb dX7_lays_89 rfl ?_
  obtain ⟨_, h1, e9, hf⟩ := jB_some hf
  refine j_callS (pc := 92) (st1 := []) (As := [va_rf y21, .int 1000]) (rest := []) cx hS rfl hl.1 hm (metX7_shifts l _ _ _ _ _ _ e9) (jle hf) (lw_S q2001 q2002 q123 q2003) pdX7_shifts rfl rfl (Nat.le_of_ble_eq_true rfl) ⟨Nat.le_of_ble_eq_true rfl, Nat.le_of_ble_eq_true rfl⟩ dX7_lays_92 rfl (fun H locs cells slots hS => ?_)
  refine lv_aload_n (pc := 95) hx hb dX7_lays_95 rfl (lv_at hl 0 rfl) ?_
  refine j_gR (pc := 96) cx hS hf fd_WornSkinModel_lineFrom q1704 dX7_lays_96 (fun y23 hf => ?_)
  refine lv_iconst (pc := 99) (v := 0) hx hb dX7_lays_99 rfl ?_
  refine lv_aload_n (pc := 100) hx hb dX7_lays_100 rfl (lv_at hl 0 rfl) ?_
  refine j_gR (pc := 101) cx hS hf fd_WornSkinModel_lineFrom q1704 dX7_lays_101 (fun y24 hf => ?_)
  refine lv_iconst (pc := 104) (v := 1) hx hb dX7_lays_104 rfl ?_
  refine j_aI (pc := 105) cx hS hf rfl dX7_lays_105 (fun y25 hf => ?_)
  refine lv_sipush (pc := 106) (v := 1000) hx hb dX7_lays_106 rfl ?_
  refine lv_isub (pc := 109) hx hb dX7_lays_109 ?_
  refine j_sI (pc := 110) cx hS hf rfl dX7_lays_110 (fun h H locs hf hS => ?_)
  refine lv_aload_n (pc := 111) hx hb dX7_lays_111 rfl (lv_at hl 0 rfl) ?_
  refine j_gR (pc := 112) cx hS hf fd_WornSkinModel_lineTo q1705 dX7_lays_112 (fun y26 hf => ?_)
  refine lv_iconst (pc := 115) (v := 0) hx hb dX7_lays_115 rfl ?_
  refine lv_aload_n (pc := 116) hx hb dX7_lays_116 rfl (lv_at hl 0 rfl) ?_
  refine j_gR (pc := 117) cx hS hf fd_WornSkinModel_lineTo q1705 dX7_lays_117 (fun y27 hf => ?_)
  refine lv_iconst (pc := 120) (v := 1) hx hb dX7_lays_120 rfl ?_
  refine j_aI (pc := 121) cx hS hf rfl dX7_lays_121 (fun y28 hf => ?_)
  refine lv_sipush (pc := 122) (v := 1000) hx hb dX7_lays_122 rfl ?_
  refine lv_isub (pc := 125) hx hb dX7_lays_125 ?_
  refine j_sI (pc := 126) cx hS hf rfl dX7_lays_126 (fun h H locs hf hS => ?_)
  exact j_vret (pc := 127) cx hS hf e1 e2 dX7_lays_127
theorem metX7_lays (l : Launch) (N : Nat) (a0 : Nat) (h h' : jH) (r : Unit) (hth : jcd h a0 = some 7) (hf : (fX7_lays N a0).1 h = some (r, h')) : jMet l yX7_lays (ws_ yX7_lays cX7_lays 1 (Option.none : Option Jvm.ClassFile.FieldType)) (1) (22) [.ref a0] h h' (.returned none) := by
  refine jStart rfl (jle hf) (Nat.le_of_ble_eq_true rfl) ?_
  intro p e s m below meth c D dA H0 mc ms ls cx hnm e1 e2 hS hl
  have hth := jTh.mk hS hth
  exact wX7_lays_0 cx e1 e2 a0 hth  _ _ _ _ _ _ hf hS hl
def fX7_fresh0_53 (N : Nat) (a0 : Nat) : jM Unit := jR ()
def fX7_fresh0_23 (N : Nat) (a0 : Nat) : Nat → Int32 → jM Unit
  | 0, _ => jE
  | n + 1, x1 => jB (jgR [7] 10 (some a0)) fun y1 => jB (jaI 0 y1 0) fun y2 => if y2 ≤ x1 then (fX7_fresh0_53 N a0) else (jB (jgR [7] 48 (some a0)) fun y3 => jB (jgR [7] 14 (some a0)) fun y4 => jB (jaI 0 y4 x1) fun y5 => jB (jsI 0 y3 (1 + x1) y5) fun _ => fX7_fresh0_23 N a0 n (x1 + 1))
def fX7_fresh0_21 (N : Nat) (a0 : Nat) : jM Unit := fX7_fresh0_23 N a0 N 0
def fX7_fresh0_2 (N : Nat) (a0 : Nat) : Nat → Int32 → jM Unit
  | 0, _ => jE
  | n + 1, x1 => if 25 ≤ x1 then (fX7_fresh0_21 N a0) else (jB (jgR [7] 48 (some a0)) fun y1 => jB (jsI 0 y1 x1 0) fun _ => fX7_fresh0_2 N a0 n (x1 + 1))
def fX7_fresh0 (N : Nat) (a0 : Nat) : jM Unit := fX7_fresh0_2 N a0 N 0
theorem wX7_fresh0_53 {N : Nat} {r : Unit} (cx : jCx p s m args meth c cX7_fresh0 "WornSkinModel" 2 (Option.none : Option Jvm.ClassFile.FieldType) D dA H0 hs.2.2.2.2) (e1 : h'.2.2.1 = hs.2.2.1 + mc) (e2 : h'.2.2.2.1 = hs.2.2.2.1 + ms) (a0 : Nat) (hth : jTh hs a0 7) : ∀ (h : jH) (H : Heap) (locs : List Loc) (cells slots : Nat) (ls : Array Slot), (fX7_fresh0_53 N a0).1 h = some (r, h') → jS D dA H0 hs h H locs cells slots → lv_has ls 2 [(0, .ref a0)] → W p l e { frames := 0, cells := mc, slots := ms, locals := 0 } s m args below meth c H locs cells slots (jQ D dA H0 below s (.returned none) h' mc ms) (F0 m 53 ls []) := by
  have hx := cx.1
  have hb := cx.2.1
  have hown := cx.2.2.2.1
  have hts := cx.2.2.2.2.1
  have hm : h'.2.2.1 ≤ hs.2.2.1 + mc ∧ h'.2.2.2.1 ≤ hs.2.2.2.1 + ms := ⟨Nat.le_of_eq e1, Nat.le_of_eq e2⟩
  intro h H locs cells slots ls hf hS hl
  unfold fX7_fresh0_53 at hf
  exact j_vret (pc := 53) cx hS hf e1 e2 dX7_fresh0_53
theorem wX7_fresh0_23 {N : Nat} {r : Unit} (cx : jCx p s m args meth c cX7_fresh0 "WornSkinModel" 2 (Option.none : Option Jvm.ClassFile.FieldType) D dA H0 hs.2.2.2.2) (e1 : h'.2.2.1 = hs.2.2.1 + mc) (e2 : h'.2.2.2.1 = hs.2.2.2.1 + ms) (a0 : Nat) (hth : jTh hs a0 7) : ∀ (n : Nat) (x1 : Int32), ∀ (h : jH) (H : Heap) (locs : List Loc) (cells slots : Nat) (ls : Array Slot), (fX7_fresh0_23 N a0 n x1).1 h = some (r, h') → jS D dA H0 hs h H locs cells slots → lv_has ls 2 [(0, .ref a0), (1, .int x1)] → W p l e { frames := 0, cells := mc, slots := ms, locals := 0 } s m args below meth c H locs cells slots (jQ D dA H0 below s (.returned none) h' mc ms) (F0 m 23 ls []) := by
  have hx := cx.1
  have hb := cx.2.1
  have hown := cx.2.2.2.1
  have hts := cx.2.2.2.2.1
  have hm : h'.2.2.1 ≤ hs.2.2.1 + mc ∧ h'.2.2.2.1 ≤ hs.2.2.2.1 + ms := ⟨Nat.le_of_eq e1, Nat.le_of_eq e2⟩
  intro n
  induction n with
  | zero =>
    intro x1 h H locs cells slots ls hf hS hl
    exact jE_f hf
  | succ n ih =>
    intro x1 h H locs cells slots ls hf hS hl
    unfold fX7_fresh0_23 at hf
    refine lv_iload_n (pc := 23) hx hb dX7_fresh0_23 rfl (lv_at hl 1 rfl) ?_
    refine lv_aload_n (pc := 24) hx hb dX7_fresh0_24 rfl (lv_at hl 0 rfl) ?_
    refine j_gR (pc := 25) cx hS hf fd_WornSkinModel_library q1694 dX7_fresh0_25 (fun y1 hf => ?_)
    refine lv_iconst (pc := 28) (v := 0) hx hb dX7_fresh0_28 rfl ?_
    refine j_aI (pc := 29) cx hS hf rfl dX7_fresh0_29 (fun y2 hf => ?_)
    refine lv_icmp_ge (pc := 30) (tgt := 53) hx hb dX7_fresh0_30 (by decide) (fun hc => ?_) (fun hc => ?_)
    · have hf := jI_t hf hc
      exact wX7_fresh0_53 cx e1 e2 a0 hth _ _ _ _ _ _ hf hS (lv_sub hl [0] rfl)
    · have hf := jI_f hf hc
      refine lv_aload_n (pc := 33) hx hb dX7_fresh0_33 rfl (lv_at hl 0 rfl) ?_
      refine j_gR (pc := 34) cx hS hf fd_WornSkinModel_s q1732 dX7_fresh0_34 (fun y3 hf => ?_)
      refine lv_iconst (pc := 37) (v := 1) hx hb dX7_fresh0_37 rfl ?_
      refine lv_iload_n (pc := 38) hx hb dX7_fresh0_38 rfl (lv_at hl 1 rfl) ?_
      refine lv_iadd (pc := 39) hx hb dX7_fresh0_39 ?_
      refine lv_aload_n (pc := 40) hx hb dX7_fresh0_40 rfl (lv_at hl 0 rfl) ?_
      refine j_gR (pc := 41) cx hS hf fd_WornSkinModel_thickTold q1698 dX7_fresh0_41 (fun y4 hf => ?_)
      refine lv_iload_n (pc := 44) hx hb dX7_fresh0_44 rfl (lv_at hl 1 rfl) ?_
      refine j_aI (pc := 45) cx hS hf rfl dX7_fresh0_45 (fun y5 hf => ?_)
      refine j_sI (pc := 46) cx hS hf rfl dX7_fresh0_46 (fun h H locs hf hS => ?_)
      refine lv_iinc (pc := 47) (v := (x1 + 1)) (lv' := [(1, .int (x1 + 1)), (0, .ref a0)]) hx hb dX7_fresh0_47 hl (k := 1) rfl rfl (Nat.le_of_ble_eq_true rfl) rfl (fun ls hl => ?_)
      refine lv_goto (pc := 50) (tgt := 23) hx hb dX7_fresh0_50 (by decide) ?_
      exact ih _ _ _ _ _ _ _ hf hS (lv_sub hl [1, 0] rfl)
theorem wX7_fresh0_21 {N : Nat} {r : Unit} (cx : jCx p s m args meth c cX7_fresh0 "WornSkinModel" 2 (Option.none : Option Jvm.ClassFile.FieldType) D dA H0 hs.2.2.2.2) (e1 : h'.2.2.1 = hs.2.2.1 + mc) (e2 : h'.2.2.2.1 = hs.2.2.2.1 + ms) (a0 : Nat) (hth : jTh hs a0 7) : ∀ (h : jH) (H : Heap) (locs : List Loc) (cells slots : Nat) (ls : Array Slot), (fX7_fresh0_21 N a0).1 h = some (r, h') → jS D dA H0 hs h H locs cells slots → lv_has ls 2 [(0, .ref a0)] → W p l e { frames := 0, cells := mc, slots := ms, locals := 0 } s m args below meth c H locs cells slots (jQ D dA H0 below s (.returned none) h' mc ms) (F0 m 21 ls []) := by
  have hx := cx.1
  have hb := cx.2.1
  have hown := cx.2.2.2.1
  have hts := cx.2.2.2.2.1
  have hm : h'.2.2.1 ≤ hs.2.2.1 + mc ∧ h'.2.2.2.1 ≤ hs.2.2.2.1 + ms := ⟨Nat.le_of_eq e1, Nat.le_of_eq e2⟩
  intro h H locs cells slots ls hf hS hl
  unfold fX7_fresh0_21 at hf
  refine lv_iconst (pc := 21) (v := 0) hx hb dX7_fresh0_21 rfl ?_
  refine lv_istore_n (pc := 22) (i := 1) (lv' := [(1, .int 0), (0, .ref a0)]) hx hb dX7_fresh0_22 rfl hl (Nat.le_of_ble_eq_true rfl) rfl (fun ls hl => ?_)
  exact wX7_fresh0_23 cx e1 e2 a0 hth N _ _ _ _ _ _ _ hf hS (lv_sub hl [1, 0] rfl)
theorem wX7_fresh0_2 {N : Nat} {r : Unit} (cx : jCx p s m args meth c cX7_fresh0 "WornSkinModel" 2 (Option.none : Option Jvm.ClassFile.FieldType) D dA H0 hs.2.2.2.2) (e1 : h'.2.2.1 = hs.2.2.1 + mc) (e2 : h'.2.2.2.1 = hs.2.2.2.1 + ms) (a0 : Nat) (hth : jTh hs a0 7) : ∀ (n : Nat) (x1 : Int32), ∀ (h : jH) (H : Heap) (locs : List Loc) (cells slots : Nat) (ls : Array Slot), (fX7_fresh0_2 N a0 n x1).1 h = some (r, h') → jS D dA H0 hs h H locs cells slots → lv_has ls 2 [(0, .ref a0), (1, .int x1)] → W p l e { frames := 0, cells := mc, slots := ms, locals := 0 } s m args below meth c H locs cells slots (jQ D dA H0 below s (.returned none) h' mc ms) (F0 m 2 ls []) := by
  have hx := cx.1
  have hb := cx.2.1
  have hown := cx.2.2.2.1
  have hts := cx.2.2.2.2.1
  have hm : h'.2.2.1 ≤ hs.2.2.1 + mc ∧ h'.2.2.2.1 ≤ hs.2.2.2.1 + ms := ⟨Nat.le_of_eq e1, Nat.le_of_eq e2⟩
  intro n
  induction n with
  | zero =>
    intro x1 h H locs cells slots ls hf hS hl
    exact jE_f hf
  | succ n ih =>
    intro x1 h H locs cells slots ls hf hS hl
    unfold fX7_fresh0_2 at hf
    refine lv_iload_n (pc := 2) hx hb dX7_fresh0_2 rfl (lv_at hl 1 rfl) ?_
    refine lv_bipush (pc := 3) (v := 25) hx hb dX7_fresh0_3 rfl ?_
    refine lv_icmp_ge (pc := 5) (tgt := 21) hx hb dX7_fresh0_5 (by decide) (fun hc => ?_) (fun hc => ?_)
    · have hf := jI_t hf hc
      exact wX7_fresh0_21 cx e1 e2 a0 hth _ _ _ _ _ _ hf hS (lv_sub hl [0] rfl)
    · have hf := jI_f hf hc
      refine lv_aload_n (pc := 8) hx hb dX7_fresh0_8 rfl (lv_at hl 0 rfl) ?_
      refine j_gR (pc := 9) cx hS hf fd_WornSkinModel_s q1732 dX7_fresh0_9 (fun y1 hf => ?_)
      refine lv_iload_n (pc := 12) hx hb dX7_fresh0_12 rfl (lv_at hl 1 rfl) ?_
      refine lv_iconst (pc := 13) (v := 0) hx hb dX7_fresh0_13 rfl ?_
      refine j_sI (pc := 14) cx hS hf rfl dX7_fresh0_14 (fun h H locs hf hS => ?_)
      refine lv_iinc (pc := 15) (v := (x1 + 1)) (lv' := [(1, .int (x1 + 1)), (0, .ref a0)]) hx hb dX7_fresh0_15 hl (k := 1) rfl rfl (Nat.le_of_ble_eq_true rfl) rfl (fun ls hl => ?_)
      refine lv_goto (pc := 18) (tgt := 2) hx hb dX7_fresh0_18 (by decide) ?_
      exact ih _ _ _ _ _ _ _ hf hS (lv_sub hl [1, 0] rfl)
theorem wX7_fresh0_0 {N : Nat} {r : Unit} (cx : jCx p s m args meth c cX7_fresh0 "WornSkinModel" 2 (Option.none : Option Jvm.ClassFile.FieldType) D dA H0 hs.2.2.2.2) (e1 : h'.2.2.1 = hs.2.2.1 + mc) (e2 : h'.2.2.2.1 = hs.2.2.2.1 + ms) (a0 : Nat) (hth : jTh hs a0 7) : ∀ (h : jH) (H : Heap) (locs : List Loc) (cells slots : Nat) (ls : Array Slot), (fX7_fresh0 N a0).1 h = some (r, h') → jS D dA H0 hs h H locs cells slots → lv_has ls 2 [(0, .ref a0)] → W p l e { frames := 0, cells := mc, slots := ms, locals := 0 } s m args below meth c H locs cells slots (jQ D dA H0 below s (.returned none) h' mc ms) (F0 m 0 ls []) := by
  have hx := cx.1
  have hb := cx.2.1
  have hown := cx.2.2.2.1
  have hts := cx.2.2.2.2.1
  have hm : h'.2.2.1 ≤ hs.2.2.1 + mc ∧ h'.2.2.2.1 ≤ hs.2.2.2.1 + ms := ⟨Nat.le_of_eq e1, Nat.le_of_eq e2⟩
  intro h H locs cells slots ls hf hS hl
  unfold fX7_fresh0 at hf
  refine lv_iconst (pc := 0) (v := 0) hx hb dX7_fresh0_0 rfl ?_
  refine lv_istore_n (pc := 1) (i := 1) (lv' := [(1, .int 0), (0, .ref a0)]) hx hb dX7_fresh0_1 rfl hl (Nat.le_of_ble_eq_true rfl) rfl (fun ls hl => ?_)
  exact wX7_fresh0_2 cx e1 e2 a0 hth N _ _ _ _ _ _ _ hf hS (lv_sub hl [1, 0] rfl)
theorem metX7_fresh0 (l : Launch) (N : Nat) (a0 : Nat) (h h' : jH) (r : Unit) (hth : jcd h a0 = some 7) (hf : (fX7_fresh0 N a0).1 h = some (r, h')) : jMet l yX7_fresh0 (ws_ yX7_fresh0 cX7_fresh0 2 (Option.none : Option Jvm.ClassFile.FieldType)) (0) (0) [.ref a0] h h' (.returned none) := by
  refine jStart rfl (jle hf) (Nat.le_of_ble_eq_true rfl) ?_
  intro p e s m below meth c D dA H0 mc ms ls cx hnm e1 e2 hS hl
  have hth := jTh.mk hS hth
  exact wX7_fresh0_0 cx e1 e2 a0 hth  _ _ _ _ _ _ hf hS hl
def fX7_library_64 (N : Nat) (a0 : Nat) : jM Int32 := jR 0
def fX7_library_46 (N : Nat) (a0 : Nat) : Nat → Int32 → jM Int32
  | 0, _ => jE
  | n + 1, x1 => if 4 ≤ x1 then (fX7_library_64 N a0) else (jB (jgR [7] 53 (some a0)) fun y1 => jB (jsZ 2 y1 x1 0) fun _ => fX7_library_46 N a0 n (x1 + 1))
def fX7_library (N : Nat) (a0 : Nat) : jM Int32 := jB (jpI [7] 0 (some a0) 0) fun _ => jB (fX7_readsAll N a0) fun y1 => if y1 = 0 then (jB (jgI [7] 9 (some a0)) fun y6 => jR y6) else (jB (fX7_lays N a0) fun _ => jB (fX7_fresh0 N a0) fun _ => jB (jgR [7] 38 (some a0)) fun y4 => jB (jsI 0 y4 0 0) fun _ => jB (jgR [7] 43 (some a0)) fun y5 => jB (jsI 0 y5 0 0) fun _ => jB (jpI [7] 54 (some a0) 0) fun _ => fX7_library_46 N a0 N 0)
theorem wX7_library_64 {N : Nat} {r : Int32} (cx : jCx p s m args meth c cX7_library "WornSkinModel" 2 (Option.some Jvm.ClassFile.FieldType.int) D dA H0 hs.2.2.2.2) (e1 : h'.2.2.1 = hs.2.2.1 + mc) (e2 : h'.2.2.2.1 = hs.2.2.2.1 + ms) (a0 : Nat) (hth : jTh hs a0 7) : ∀ (h : jH) (H : Heap) (locs : List Loc) (cells slots : Nat) (ls : Array Slot), (fX7_library_64 N a0).1 h = some (r, h') → jS D dA H0 hs h H locs cells slots → lv_has ls 2 [(0, .ref a0)] → W p l e { frames := 6, cells := mc, slots := ms, locals := 130 } s m args below meth c H locs cells slots (jQ D dA H0 below s (.returned (some (.int r))) h' mc ms) (F0 m 64 ls []) := by
  have hx := cx.1
  have hb := cx.2.1
  have hown := cx.2.2.2.1
  have hts := cx.2.2.2.2.1
  have hm : h'.2.2.1 ≤ hs.2.2.1 + mc ∧ h'.2.2.2.1 ≤ hs.2.2.2.1 + ms := ⟨Nat.le_of_eq e1, Nat.le_of_eq e2⟩
  intro h H locs cells slots ls hf hS hl
  unfold fX7_library_64 at hf
  refine lv_iconst (pc := 64) (v := 0) hx hb dX7_library_64 rfl ?_
  exact j_iret (pc := 65) cx hS hf e1 e2 dX7_library_65
theorem wX7_library_46 {N : Nat} {r : Int32} (cx : jCx p s m args meth c cX7_library "WornSkinModel" 2 (Option.some Jvm.ClassFile.FieldType.int) D dA H0 hs.2.2.2.2) (e1 : h'.2.2.1 = hs.2.2.1 + mc) (e2 : h'.2.2.2.1 = hs.2.2.2.1 + ms) (a0 : Nat) (hth : jTh hs a0 7) : ∀ (n : Nat) (x1 : Int32), ∀ (h : jH) (H : Heap) (locs : List Loc) (cells slots : Nat) (ls : Array Slot), (fX7_library_46 N a0 n x1).1 h = some (r, h') → jS D dA H0 hs h H locs cells slots → lv_has ls 2 [(0, .ref a0), (1, .int x1)] → W p l e { frames := 6, cells := mc, slots := ms, locals := 130 } s m args below meth c H locs cells slots (jQ D dA H0 below s (.returned (some (.int r))) h' mc ms) (F0 m 46 ls []) := by
  have hx := cx.1
  have hb := cx.2.1
  have hown := cx.2.2.2.1
  have hts := cx.2.2.2.2.1
  have hm : h'.2.2.1 ≤ hs.2.2.1 + mc ∧ h'.2.2.2.1 ≤ hs.2.2.2.1 + ms := ⟨Nat.le_of_eq e1, Nat.le_of_eq e2⟩
  intro n
  induction n with
  | zero =>
    intro x1 h H locs cells slots ls hf hS hl
    exact jE_f hf
  | succ n ih =>
    intro x1 h H locs cells slots ls hf hS hl
    unfold fX7_library_46 at hf
    refine lv_iload_n (pc := 46) hx hb dX7_library_46 rfl (lv_at hl 1 rfl) ?_
    refine lv_iconst (pc := 47) (v := 4) hx hb dX7_library_47 rfl ?_
    refine lv_icmp_ge (pc := 48) (tgt := 64) hx hb dX7_library_48 (by decide) (fun hc => ?_) (fun hc => ?_)
    · have hf := jI_t hf hc
      exact wX7_library_64 cx e1 e2 a0 hth _ _ _ _ _ _ hf hS (lv_sub hl [0] rfl)
    · have hf := jI_f hf hc
      refine lv_aload_n (pc := 51) hx hb dX7_library_51 rfl (lv_at hl 0 rfl) ?_
      refine j_gR (pc := 52) cx hS hf fd_WornSkinModel_isLaid q1737 dX7_library_52 (fun y1 hf => ?_)
      refine lv_iload_n (pc := 55) hx hb dX7_library_55 rfl (lv_at hl 1 rfl) ?_
      refine lv_iconst (pc := 56) (v := 0) hx hb dX7_library_56 rfl ?_
      refine j_sZ (pc := 57) cx hS hf rfl dX7_library_57 (fun h H locs hf hS => ?_)
      refine lv_iinc (pc := 58) (v := (x1 + 1)) (lv' := [(1, .int (x1 + 1)), (0, .ref a0)]) hx hb dX7_library_58 hl (k := 1) rfl rfl (Nat.le_of_ble_eq_true rfl) rfl (fun ls hl => ?_)
      refine lv_goto (pc := 61) (tgt := 46) hx hb dX7_library_61 (by decide) ?_
      exact ih _ _ _ _ _ _ _ hf hS (lv_sub hl [1, 0] rfl)
theorem wX7_library_0 {N : Nat} {r : Int32} (cx : jCx p s m args meth c cX7_library "WornSkinModel" 2 (Option.some Jvm.ClassFile.FieldType.int) D dA H0 hs.2.2.2.2) (e1 : h'.2.2.1 = hs.2.2.1 + mc) (e2 : h'.2.2.2.1 = hs.2.2.2.1 + ms) (a0 : Nat) (hth : jTh hs a0 7) : ∀ (h : jH) (H : Heap) (locs : List Loc) (cells slots : Nat) (ls : Array Slot), (fX7_library N a0).1 h = some (r, h') → jS D dA H0 hs h H locs cells slots → lv_has ls 2 [(0, .ref a0)] → W p l e { frames := 6, cells := mc, slots := ms, locals := 130 } s m args below meth c H locs cells slots (jQ D dA H0 below s (.returned (some (.int r))) h' mc ms) (F0 m 0 ls []) := by
  have hx := cx.1
  have hb := cx.2.1
  have hown := cx.2.2.2.1
  have hts := cx.2.2.2.2.1
  have hm : h'.2.2.1 ≤ hs.2.2.1 + mc ∧ h'.2.2.2.1 ≤ hs.2.2.2.1 + ms := ⟨Nat.le_of_eq e1, Nat.le_of_eq e2⟩
  intro h H locs cells slots ls hf hS hl
  unfold fX7_library at hf
  refine lv_aload_n (pc := 0) hx hb dX7_library_0 rfl (lv_at hl 0 rfl) ?_
  refine lv_iconst (pc := 1) (v := 0) hx hb dX7_library_1 rfl ?_
  refine j_pI (pc := 2) cx hS hf fp_WornSkinModel_thrown (Or.inl rfl) q1684 dX7_library_2 (fun h H locs hf hS => ?_)
  refine lv_aload_n (pc := 5) hx hb dX7_library_5 rfl (lv_at hl 0 rfl) ?_
  obtain ⟨y1, h1, e9, hf⟩ := jB_some hf
  refine j_callV (pc := 6) (st1 := [.int y1]) (As := []) (rest := []) cx hS rfl hl.1 hm (metX7_readsAll l _ _ _ _ _ (hth.at hS) e9) (jle hf) (hth.at hS) rfl (lw_V q1876 q1878 qs52 q123 q1879) pdX7_readsAll rfl rfl (Nat.le_of_ble_eq_true rfl) ⟨Nat.le_of_ble_eq_true rfl, Nat.le_of_ble_eq_true rfl⟩ dX7_library_6 rfl (fun H locs cells slots hS => ?_)
  refine lv_if_ne (pc := 9) (tgt := 17) hx hb dX7_library_9 (by decide) (fun hc => ?_) (fun hc => ?_)
  · have hf := jI_f hf hc
    refine lv_aload_n (pc := 17) hx hb dX7_library_17 rfl (lv_at hl 0 rfl) ?_
    obtain ⟨_, h1, e9, hf⟩ := jB_some hf
    refine j_callV (pc := 18) (st1 := []) (As := []) (rest := []) cx hS rfl hl.1 hm (metX7_lays l _ _ _ _ _ (hth.at hS) e9) (jle hf) (hth.at hS) rfl (lw_V q1997 q1999 qs75 q123 q2000) pdX7_lays rfl rfl (Nat.le_of_ble_eq_true rfl) ⟨Nat.le_of_ble_eq_true rfl, Nat.le_of_ble_eq_true rfl⟩ dX7_library_18 rfl (fun H locs cells slots hS => ?_)
    refine lv_aload_n (pc := 21) hx hb dX7_library_21 rfl (lv_at hl 0 rfl) ?_
    obtain ⟨_, h1, e9, hf⟩ := jB_some hf
    refine j_callV (pc := 22) (st1 := []) (As := []) (rest := []) cx hS rfl hl.1 hm (metX7_fresh0 l _ _ _ _ _ (hth.at hS) e9) (jle hf) (hth.at hS) rfl (lw_V q2007 q2009 qs76 q123 q2010) pdX7_fresh0 rfl rfl (Nat.le_of_ble_eq_true rfl) ⟨Nat.le_of_ble_eq_true rfl, Nat.le_of_ble_eq_true rfl⟩ dX7_library_22 rfl (fun H locs cells slots hS => ?_)
    refine lv_aload_n (pc := 25) hx hb dX7_library_25 rfl (lv_at hl 0 rfl) ?_
    refine j_gR (pc := 26) cx hS hf fd_WornSkinModel_lines q1722 dX7_library_26 (fun y4 hf => ?_)
    refine lv_iconst (pc := 29) (v := 0) hx hb dX7_library_29 rfl ?_
    refine lv_iconst (pc := 30) (v := 0) hx hb dX7_library_30 rfl ?_
    refine j_sI (pc := 31) cx hS hf rfl dX7_library_31 (fun h H locs hf hS => ?_)
    refine lv_aload_n (pc := 32) hx hb dX7_library_32 rfl (lv_at hl 0 rfl) ?_
    refine j_gR (pc := 33) cx hS hf fd_WornSkinModel_seens q1727 dX7_library_33 (fun y5 hf => ?_)
    refine lv_iconst (pc := 36) (v := 0) hx hb dX7_library_36 rfl ?_
    refine lv_iconst (pc := 37) (v := 0) hx hb dX7_library_37 rfl ?_
    refine j_sI (pc := 38) cx hS hf rfl dX7_library_38 (fun h H locs hf hS => ?_)
    refine lv_aload_n (pc := 39) hx hb dX7_library_39 rfl (lv_at hl 0 rfl) ?_
    refine lv_iconst (pc := 40) (v := 0) hx hb dX7_library_40 rfl ?_
    refine j_pI (pc := 41) cx hS hf fp_WornSkinModel_done (Or.inl rfl) q1738 dX7_library_41 (fun h H locs hf hS => ?_)
    refine lv_iconst (pc := 44) (v := 0) hx hb dX7_library_44 rfl ?_
    refine lv_istore_n (pc := 45) (i := 1) (lv' := [(1, .int 0), (0, .ref a0)]) hx hb dX7_library_45 rfl hl (Nat.le_of_ble_eq_true rfl) rfl (fun ls hl => ?_)
    exact wX7_library_46 cx e1 e2 a0 hth N _ _ _ _ _ _ _ hf hS (lv_sub hl [1, 0] rfl)
  · have hf := jI_t hf hc
    refine lv_aload_n (pc := 12) hx hb dX7_library_12 rfl (lv_at hl 0 rfl) ?_
    refine j_gI (pc := 13) cx hS hf fd_WornSkinModel_wrong q1693 dX7_library_13 (fun y6 hf => ?_)
    exact j_iret (pc := 16) cx hS hf e1 e2 dX7_library_16
theorem metX7_library (l : Launch) (N : Nat) (a0 : Nat) (h h' : jH) (r : Int32) (hth : jcd h a0 = some 7) (hf : (fX7_library N a0).1 h = some (r, h')) : jMet l yX7_library (ws_ yX7_library cX7_library 2 (Option.some Jvm.ClassFile.FieldType.int)) (6) (130) [.ref a0] h h' (.returned (some (.int r))) := by
  refine jStart rfl (jle hf) (Nat.le_of_ble_eq_true rfl) ?_
  intro p e s m below meth c D dA H0 mc ms ls cx hnm e1 e2 hS hl
  have hth := jTh.mk hS hth
  exact wX7_library_0 cx e1 e2 a0 hth  _ _ _ _ _ _ hf hS hl
def fX7_needsText (N : Nat) (a0 : Nat) : jM Int32 := jB (fX7_isKept a0) fun y1 => if y1 = 0 then (jB (fX7_textNamed N a0 0) fun y2 => jB (jpI [7] 36 (some a0) y2) fun _ => jB (jgI [7] 36 (some a0)) fun y3 => if 0 ≤ y3 then (jB (fX7_nextToken N a0) fun _ => jRn .boolean 1) else (jB (fX7_fails a0 2) fun y5 => jRn .boolean y5)) else (jB (fX7_fails a0 1) fun y6 => jRn .boolean y6)
theorem wX7_needsText_0 {N : Nat} {r : Int32} (cx : jCx p s m args meth c cX7_needsText "WornSkinModel" 1 (Option.some Jvm.ClassFile.FieldType.boolean) D dA H0 hs.2.2.2.2) (e1 : h'.2.2.1 = hs.2.2.1 + mc) (e2 : h'.2.2.2.1 = hs.2.2.2.1 + ms) (a0 : Nat) (hth : jTh hs a0 7) : ∀ (h : jH) (H : Heap) (locs : List Loc) (cells slots : Nat) (ls : Array Slot), (fX7_needsText N a0).1 h = some (r, h') → jS D dA H0 hs h H locs cells slots → lv_has ls 1 [(0, .ref a0)] → W p l e { frames := 2, cells := mc, slots := ms, locals := 42 } s m args below meth c H locs cells slots (jQ D dA H0 below s (.returned (some (.int r))) h' mc ms) (F0 m 0 ls []) := by
  have hx := cx.1
  have hb := cx.2.1
  have hown := cx.2.2.2.1
  have hts := cx.2.2.2.2.1
  have hm : h'.2.2.1 ≤ hs.2.2.1 + mc ∧ h'.2.2.2.1 ≤ hs.2.2.2.1 + ms := ⟨Nat.le_of_eq e1, Nat.le_of_eq e2⟩
  intro h H locs cells slots ls hf hS hl
  unfold fX7_needsText at hf
  refine lv_aload_n (pc := 0) hx hb dX7_needsText_0 rfl (lv_at hl 0 rfl) ?_
  obtain ⟨y1, h1, e9, hf⟩ := jB_some hf
  refine j_callV (pc := 1) (st1 := [.int y1]) (As := []) (rest := []) cx hS rfl hl.1 hm (metX7_isKept l _ _ _ _ (hth.at hS) e9) (jle hf) (hth.at hS) rfl (lw_V q1911 q1913 qs60 q123 q1914) pdX7_isKept rfl rfl (Nat.le_of_ble_eq_true rfl) ⟨Nat.le_of_ble_eq_true rfl, Nat.le_of_ble_eq_true rfl⟩ dX7_needsText_1 rfl (fun H locs cells slots hS => ?_)
  refine lv_if_eq (pc := 4) (tgt := 13) hx hb dX7_needsText_4 (by decide) (fun hc => ?_) (fun hc => ?_)
  · have hf := jI_t hf hc
    refine lv_aload_n (pc := 13) hx hb dX7_needsText_13 rfl (lv_at hl 0 rfl) ?_
    refine lv_aload_n (pc := 14) hx hb dX7_needsText_14 rfl (lv_at hl 0 rfl) ?_
    refine lv_iconst (pc := 15) (v := 0) hx hb dX7_needsText_15 rfl ?_
    obtain ⟨y2, h1, e9, hf⟩ := jB_some hf
    refine j_callV (pc := 16) (st1 := [.int y2, .ref a0]) (As := [.int 0]) (rest := [.ref a0]) cx hS rfl hl.1 hm (metX7_textNamed l _ _ _ _ _ _ (hth.at hS) e9) (jle hf) (hth.at hS) rfl (lw_V q1938 q1940 qs62 q123 q1941) pdX7_textNamed rfl rfl (Nat.le_of_ble_eq_true rfl) ⟨Nat.le_of_ble_eq_true rfl, Nat.le_of_ble_eq_true rfl⟩ dX7_needsText_16 rfl (fun H locs cells slots hS => ?_)
    refine j_pI (pc := 19) cx hS hf fp_WornSkinModel_given (Or.inl rfl) q1720 dX7_needsText_19 (fun h H locs hf hS => ?_)
    refine lv_aload_n (pc := 22) hx hb dX7_needsText_22 rfl (lv_at hl 0 rfl) ?_
    refine j_gI (pc := 23) cx hS hf fd_WornSkinModel_given q1720 dX7_needsText_23 (fun y3 hf => ?_)
    refine lv_if_ge (pc := 26) (tgt := 35) hx hb dX7_needsText_26 (by decide) (fun hc => ?_) (fun hc => ?_)
    · have hf := jI_t hf hc
      refine lv_aload_n (pc := 35) hx hb dX7_needsText_35 rfl (lv_at hl 0 rfl) ?_
      obtain ⟨_, h1, e9, hf⟩ := jB_some hf
      refine j_callV (pc := 36) (st1 := []) (As := []) (rest := []) cx hS rfl hl.1 hm (metX7_nextToken l _ _ _ _ _ (hth.at hS) e9) (jle hf) (hth.at hS) rfl (lw_V q1884 q1886 qs54 q123 q1887) pdX7_nextToken rfl rfl (Nat.le_of_ble_eq_true rfl) ⟨Nat.le_of_ble_eq_true rfl, Nat.le_of_ble_eq_true rfl⟩ dX7_needsText_36 rfl (fun H locs cells slots hS => ?_)
      refine lv_iconst (pc := 39) (v := 1) hx hb dX7_needsText_39 rfl ?_
      exact j_zret (pc := 40) cx (Or.inl rfl) hS hf e1 e2 dX7_needsText_40
    · have hf := jI_f hf hc
      refine lv_aload_n (pc := 29) hx hb dX7_needsText_29 rfl (lv_at hl 0 rfl) ?_
      refine lv_iconst (pc := 30) (v := 2) hx hb dX7_needsText_30 rfl ?_
      obtain ⟨y5, h1, e9, hf⟩ := jB_some hf
      refine j_callV (pc := 31) (st1 := [.int y5]) (As := [.int 2]) (rest := []) cx hS rfl hl.1 hm (metX7_fails l _ _ _ _ _ (hth.at hS) e9) (jle hf) (hth.at hS) rfl (lw_V q1903 q1905 qs58 q123 q1906) pdX7_fails rfl rfl (Nat.le_of_ble_eq_true rfl) ⟨Nat.le_of_ble_eq_true rfl, Nat.le_of_ble_eq_true rfl⟩ dX7_needsText_31 rfl (fun H locs cells slots hS => ?_)
      exact j_zret (pc := 34) cx (Or.inl rfl) hS hf e1 e2 dX7_needsText_34
  · have hf := jI_f hf hc
    refine lv_aload_n (pc := 7) hx hb dX7_needsText_7 rfl (lv_at hl 0 rfl) ?_
    refine lv_iconst (pc := 8) (v := 1) hx hb dX7_needsText_8 rfl ?_
    obtain ⟨y6, h1, e9, hf⟩ := jB_some hf
    refine j_callV (pc := 9) (st1 := [.int y6]) (As := [.int 1]) (rest := []) cx hS rfl hl.1 hm (metX7_fails l _ _ _ _ _ (hth.at hS) e9) (jle hf) (hth.at hS) rfl (lw_V q1903 q1905 qs58 q123 q1906) pdX7_fails rfl rfl (Nat.le_of_ble_eq_true rfl) ⟨Nat.le_of_ble_eq_true rfl, Nat.le_of_ble_eq_true rfl⟩ dX7_needsText_9 rfl (fun H locs cells slots hS => ?_)
    exact j_zret (pc := 12) cx (Or.inl rfl) hS hf e1 e2 dX7_needsText_12
theorem metX7_needsText (l : Launch) (N : Nat) (a0 : Nat) (h h' : jH) (r : Int32) (hth : jcd h a0 = some 7) (hf : (fX7_needsText N a0).1 h = some (r, h')) : jMet l yX7_needsText (ws_ yX7_needsText cX7_needsText 1 (Option.some Jvm.ClassFile.FieldType.boolean)) (2) (42) [.ref a0] h h' (.returned (some (.int r))) := by
  refine jStart rfl (jle hf) (Nat.le_of_ble_eq_true rfl) ?_
  intro p e s m below meth c D dA H0 mc ms ls cx hnm e1 e2 hS hl
  have hth := jTh.mk hS hth
  exact wX7_needsText_0 cx e1 e2 a0 hth  _ _ _ _ _ _ hf hS hl
def fX7_readsLine_180 (N : Nat) (a0 : Nat) : jM Int32 := jB (jgR [7] 38 (some a0)) fun y1 => jB (jaI 0 y1 5) fun y2 => jB (jsI 0 y1 5 (y2 + 1)) fun _ => jB (fX7_closes N a0) fun y3 => jRn .boolean y3
def fX7_readsLine_155 (N : Nat) (a0 : Nat) (x1 : Int32) (x2 : Int32) : jM Int32 := if x1 = 0 then (jB (fX7_needsNumber N a0 0 5) fun y1 => if y1 = 0 then (jRn .boolean 0) else (jB (jgR [7] 42 (some a0)) fun y2 => jB (jgI [7] 36 (some a0)) fun y3 => jB (jsI 0 y2 x2 y3) fun _ => fX7_readsLine_180 N a0)) else (fX7_readsLine_180 N a0)
def fX7_readsLine_130 (N : Nat) (a0 : Nat) (x1 : Int32) (x2 : Int32) : jM Int32 := if x1 = 3 then (fX7_readsLine_155 N a0 x1 x2) else (jB (fX7_needsSkin N a0 0) fun y1 => if y1 = 0 then (jRn .boolean 0) else (jB (jgR [7] 41 (some a0)) fun y2 => jB (jgI [7] 36 (some a0)) fun y3 => jB (jsI 0 y2 x2 y3) fun _ => fX7_readsLine_155 N a0 x1 x2))
def fX7_readsLine_57 (N : Nat) (a0 : Nat) (v0 : Int32) : jM Int32 := if 0 ≤ v0 then (jB (jgR [7] 38 (some a0)) fun y1 => jB (jaI 0 y1 5) fun y2 => if y2 = 40 then (jB (fX7_fails a0 5) fun y10 => jRn .boolean y10) else (jB (fX7_nextToken N a0) fun _ => jB (jgR [7] 38 (some a0)) fun y4 => jB (jaI 0 y4 5) fun y5 => jB (jgR [7] 39 (some a0)) fun y6 => jB (jsI 0 y6 (200 + y5) v0) fun _ => if v0 = 0 then (jB (fX7_needsText N a0) fun y7 => if y7 = 0 then (jRn .boolean 0) else (jB (jgR [7] 40 (some a0)) fun y8 => jB (jgI [7] 36 (some a0)) fun y9 => jB (jsI 0 y8 (200 + y5) y9) fun _ => fX7_readsLine_130 N a0 v0 (200 + y5))) else (fX7_readsLine_130 N a0 v0 (200 + y5)))) else (jB (fX7_fails a0 1) fun y11 => jRn .boolean y11)
def fX7_readsLine (N : Nat) (a0 : Nat) : jM Int32 := jB (fX7_isWord a0 12584543) fun y1 => if y1 = 0 then (jB (fX7_isWord a0 274579016) fun y2 => if y2 = 0 then (jB (fX7_isWord a0 10793335) fun y3 => if y3 = 0 then (jB (fX7_isWord a0 456500) fun y4 => if y4 = 0 then (fX7_readsLine_57 N a0 (-1)) else (fX7_readsLine_57 N a0 3)) else (fX7_readsLine_57 N a0 2)) else (fX7_readsLine_57 N a0 1)) else (fX7_readsLine_57 N a0 0)
theorem wX7_readsLine_180 {N : Nat} {r : Int32} (cx : jCx p s m args meth c cX7_readsLine "WornSkinModel" 3 (Option.some Jvm.ClassFile.FieldType.boolean) D dA H0 hs.2.2.2.2) (e1 : h'.2.2.1 = hs.2.2.1 + mc) (e2 : h'.2.2.2.1 = hs.2.2.2.1 + ms) (a0 : Nat) (hth : jTh hs a0 7) : ∀ (h : jH) (H : Heap) (locs : List Loc) (cells slots : Nat) (ls : Array Slot), (fX7_readsLine_180 N a0).1 h = some (r, h') → jS D dA H0 hs h H locs cells slots → lv_has ls 3 [(0, .ref a0)] → W p l e { frames := 3, cells := mc, slots := ms, locals := 64 } s m args below meth c H locs cells slots (jQ D dA H0 below s (.returned (some (.int r))) h' mc ms) (F0 m 180 ls []) := by
  have hx := cx.1
  have hb := cx.2.1
  have hown := cx.2.2.2.1
  have hts := cx.2.2.2.2.1
  have hm : h'.2.2.1 ≤ hs.2.2.1 + mc ∧ h'.2.2.2.1 ≤ hs.2.2.2.1 + ms := ⟨Nat.le_of_eq e1, Nat.le_of_eq e2⟩
  intro h H locs cells slots ls hf hS hl
  unfold fX7_readsLine_180 at hf
  refine lv_aload_n (pc := 180) hx hb dX7_readsLine_180 rfl (lv_at hl 0 rfl) ?_
  refine j_gR (pc := 181) cx hS hf fd_WornSkinModel_lines q1722 dX7_readsLine_181 (fun y1 hf => ?_)
  refine lv_iconst (pc := 184) (v := 5) hx hb dX7_readsLine_184 rfl ?_
  refine lv_dup2_11 (pc := 185) hx hb dX7_readsLine_185 rfl (jrfc _) ?_
  refine j_aI (pc := 186) cx hS hf rfl dX7_readsLine_186 (fun y2 hf => ?_)
  refine lv_iconst (pc := 187) (v := 1) hx hb dX7_readsLine_187 rfl ?_
  refine lv_iadd (pc := 188) hx hb dX7_readsLine_188 ?_
  refine j_sI (pc := 189) cx hS hf rfl dX7_readsLine_189 (fun h H locs hf hS => ?_)
  refine lv_aload_n (pc := 190) hx hb dX7_readsLine_190 rfl (lv_at hl 0 rfl) ?_
  obtain ⟨y3, h1, e9, hf⟩ := jB_some hf
  refine j_callV (pc := 191) (st1 := [.int y3]) (As := []) (rest := []) cx hS rfl hl.1 hm (metX7_closes l _ _ _ _ _ (hth.at hS) e9) (jle hf) (hth.at hS) rfl (lw_V q1953 q1955 qs65 q123 q1956) pdX7_closes rfl rfl (Nat.le_of_ble_eq_true rfl) ⟨Nat.le_of_ble_eq_true rfl, Nat.le_of_ble_eq_true rfl⟩ dX7_readsLine_191 rfl (fun H locs cells slots hS => ?_)
  exact j_zret (pc := 194) cx (Or.inl rfl) hS hf e1 e2 dX7_readsLine_194
theorem wX7_readsLine_155 {N : Nat} {r : Int32} (cx : jCx p s m args meth c cX7_readsLine "WornSkinModel" 3 (Option.some Jvm.ClassFile.FieldType.boolean) D dA H0 hs.2.2.2.2) (e1 : h'.2.2.1 = hs.2.2.1 + mc) (e2 : h'.2.2.2.1 = hs.2.2.2.1 + ms) (a0 : Nat) (hth : jTh hs a0 7) : ∀ (x1 : Int32) (x2 : Int32), ∀ (h : jH) (H : Heap) (locs : List Loc) (cells slots : Nat) (ls : Array Slot), (fX7_readsLine_155 N a0 x1 x2).1 h = some (r, h') → jS D dA H0 hs h H locs cells slots → lv_has ls 3 [(0, .ref a0), (1, .int x1), (2, .int x2)] → W p l e { frames := 3, cells := mc, slots := ms, locals := 64 } s m args below meth c H locs cells slots (jQ D dA H0 below s (.returned (some (.int r))) h' mc ms) (F0 m 155 ls []) := by
  have hx := cx.1
  have hb := cx.2.1
  have hown := cx.2.2.2.1
  have hts := cx.2.2.2.2.1
  have hm : h'.2.2.1 ≤ hs.2.2.1 + mc ∧ h'.2.2.2.1 ≤ hs.2.2.2.1 + ms := ⟨Nat.le_of_eq e1, Nat.le_of_eq e2⟩
  intro x1 x2 h H locs cells slots ls hf hS hl
  unfold fX7_readsLine_155 at hf
  refine lv_iload_n (pc := 155) hx hb dX7_readsLine_155 rfl (lv_at hl 1 rfl) ?_
  refine lv_if_ne (pc := 156) (tgt := 180) hx hb dX7_readsLine_156 (by decide) (fun hc => ?_) (fun hc => ?_)
  · have hf := jI_f hf hc
    exact wX7_readsLine_180 cx e1 e2 a0 hth _ _ _ _ _ _ hf hS (lv_sub hl [0] rfl)
  · have hf := jI_t hf hc
    refine lv_aload_n (pc := 159) hx hb dX7_readsLine_159 rfl (lv_at hl 0 rfl) ?_
    refine lv_iconst (pc := 160) (v := 0) hx hb dX7_readsLine_160 rfl ?_
    refine lv_iconst (pc := 161) (v := 5) hx hb dX7_readsLine_161 rfl ?_
    obtain ⟨y1, h1, e9, hf⟩ := jB_some hf
    refine j_callV (pc := 162) (st1 := [.int y1]) (As := [.int 0, .int 5]) (rest := []) cx hS rfl hl.1 hm (metX7_needsNumber l _ _ _ _ _ _ _ (hth.at hS) e9) (jle hf) (hth.at hS) rfl (lw_V q1946 q1948 qs64 q123 q1949) pdX7_needsNumber rfl rfl (Nat.le_of_ble_eq_true rfl) ⟨Nat.le_of_ble_eq_true rfl, Nat.le_of_ble_eq_true rfl⟩ dX7_readsLine_162 rfl (fun H locs cells slots hS => ?_)
    refine lv_if_ne (pc := 165) (tgt := 170) hx hb dX7_readsLine_165 (by decide) (fun hc => ?_) (fun hc => ?_)
    · have hf := jI_f hf hc
      refine lv_aload_n (pc := 170) hx hb dX7_readsLine_170 rfl (lv_at hl 0 rfl) ?_
      refine j_gR (pc := 171) cx hS hf fd_WornSkinModel_lineC q1726 dX7_readsLine_171 (fun y2 hf => ?_)
      refine lv_iload_n (pc := 174) hx hb dX7_readsLine_174 rfl (lv_at hl 2 rfl) ?_
      refine lv_aload_n (pc := 175) hx hb dX7_readsLine_175 rfl (lv_at hl 0 rfl) ?_
      refine j_gI (pc := 176) cx hS hf fd_WornSkinModel_given q1720 dX7_readsLine_176 (fun y3 hf => ?_)
      refine j_sI (pc := 179) cx hS hf rfl dX7_readsLine_179 (fun h H locs hf hS => ?_)
      exact wX7_readsLine_180 cx e1 e2 a0 hth _ _ _ _ _ _ hf hS (lv_sub hl [0] rfl)
    · have hf := jI_t hf hc
      refine lv_iconst (pc := 168) (v := 0) hx hb dX7_readsLine_168 rfl ?_
      exact j_zret (pc := 169) cx (Or.inl rfl) hS hf e1 e2 dX7_readsLine_169
theorem wX7_readsLine_130 {N : Nat} {r : Int32} (cx : jCx p s m args meth c cX7_readsLine "WornSkinModel" 3 (Option.some Jvm.ClassFile.FieldType.boolean) D dA H0 hs.2.2.2.2) (e1 : h'.2.2.1 = hs.2.2.1 + mc) (e2 : h'.2.2.2.1 = hs.2.2.2.1 + ms) (a0 : Nat) (hth : jTh hs a0 7) : ∀ (x1 : Int32) (x2 : Int32), ∀ (h : jH) (H : Heap) (locs : List Loc) (cells slots : Nat) (ls : Array Slot), (fX7_readsLine_130 N a0 x1 x2).1 h = some (r, h') → jS D dA H0 hs h H locs cells slots → lv_has ls 3 [(0, .ref a0), (1, .int x1), (2, .int x2)] → W p l e { frames := 3, cells := mc, slots := ms, locals := 64 } s m args below meth c H locs cells slots (jQ D dA H0 below s (.returned (some (.int r))) h' mc ms) (F0 m 130 ls []) := by
  have hx := cx.1
  have hb := cx.2.1
  have hown := cx.2.2.2.1
  have hts := cx.2.2.2.2.1
  have hm : h'.2.2.1 ≤ hs.2.2.1 + mc ∧ h'.2.2.2.1 ≤ hs.2.2.2.1 + ms := ⟨Nat.le_of_eq e1, Nat.le_of_eq e2⟩
  intro x1 x2 h H locs cells slots ls hf hS hl
  unfold fX7_readsLine_130 at hf
  refine lv_iload_n (pc := 130) hx hb dX7_readsLine_130 rfl (lv_at hl 1 rfl) ?_
  refine lv_iconst (pc := 131) (v := 3) hx hb dX7_readsLine_131 rfl ?_
  refine lv_icmp_eq (pc := 132) (tgt := 155) hx hb dX7_readsLine_132 (by decide) (fun hc => ?_) (fun hc => ?_)
  · have hf := jI_t hf hc
    exact wX7_readsLine_155 cx e1 e2 a0 hth _ _ _ _ _ _ _ _ hf hS hl
  · have hf := jI_f hf hc
    refine lv_aload_n (pc := 135) hx hb dX7_readsLine_135 rfl (lv_at hl 0 rfl) ?_
    refine lv_iconst (pc := 136) (v := 0) hx hb dX7_readsLine_136 rfl ?_
    obtain ⟨y1, h1, e9, hf⟩ := jB_some hf
    refine j_callV (pc := 137) (st1 := [.int y1]) (As := [.int 0]) (rest := []) cx hS rfl hl.1 hm (metX7_needsSkin l _ _ _ _ _ _ (hth.at hS) e9) (jle hf) (hth.at hS) rfl (lw_V q1965 q1967 qs68 q123 q1968) pdX7_needsSkin rfl rfl (Nat.le_of_ble_eq_true rfl) ⟨Nat.le_of_ble_eq_true rfl, Nat.le_of_ble_eq_true rfl⟩ dX7_readsLine_137 rfl (fun H locs cells slots hS => ?_)
    refine lv_if_ne (pc := 140) (tgt := 145) hx hb dX7_readsLine_140 (by decide) (fun hc => ?_) (fun hc => ?_)
    · have hf := jI_f hf hc
      refine lv_aload_n (pc := 145) hx hb dX7_readsLine_145 rfl (lv_at hl 0 rfl) ?_
      refine j_gR (pc := 146) cx hS hf fd_WornSkinModel_lineB q1725 dX7_readsLine_146 (fun y2 hf => ?_)
      refine lv_iload_n (pc := 149) hx hb dX7_readsLine_149 rfl (lv_at hl 2 rfl) ?_
      refine lv_aload_n (pc := 150) hx hb dX7_readsLine_150 rfl (lv_at hl 0 rfl) ?_
      refine j_gI (pc := 151) cx hS hf fd_WornSkinModel_given q1720 dX7_readsLine_151 (fun y3 hf => ?_)
      refine j_sI (pc := 154) cx hS hf rfl dX7_readsLine_154 (fun h H locs hf hS => ?_)
      exact wX7_readsLine_155 cx e1 e2 a0 hth _ _ _ _ _ _ _ _ hf hS hl
    · have hf := jI_t hf hc
      refine lv_iconst (pc := 143) (v := 0) hx hb dX7_readsLine_143 rfl ?_
      exact j_zret (pc := 144) cx (Or.inl rfl) hS hf e1 e2 dX7_readsLine_144
theorem wX7_readsLine_57 {N : Nat} {r : Int32} (cx : jCx p s m args meth c cX7_readsLine "WornSkinModel" 3 (Option.some Jvm.ClassFile.FieldType.boolean) D dA H0 hs.2.2.2.2) (e1 : h'.2.2.1 = hs.2.2.1 + mc) (e2 : h'.2.2.2.1 = hs.2.2.2.1 + ms) (a0 : Nat) (hth : jTh hs a0 7) : ∀ (v0 : Int32), ∀ (h : jH) (H : Heap) (locs : List Loc) (cells slots : Nat) (ls : Array Slot), (fX7_readsLine_57 N a0 v0).1 h = some (r, h') → jS D dA H0 hs h H locs cells slots → lv_has ls 3 [(0, .ref a0)] → W p l e { frames := 3, cells := mc, slots := ms, locals := 64 } s m args below meth c H locs cells slots (jQ D dA H0 below s (.returned (some (.int r))) h' mc ms) (F0 m 57 ls [.int v0]) := by
  have hx := cx.1
  have hb := cx.2.1
  have hown := cx.2.2.2.1
  have hts := cx.2.2.2.2.1
  have hm : h'.2.2.1 ≤ hs.2.2.1 + mc ∧ h'.2.2.2.1 ≤ hs.2.2.2.1 + ms := ⟨Nat.le_of_eq e1, Nat.le_of_eq e2⟩
  intro v0 h H locs cells slots ls hf hS hl
  unfold fX7_readsLine_57 at hf
  refine lv_istore_n (pc := 57) (i := 1) (lv' := [(1, .int v0), (0, .ref a0)]) hx hb dX7_readsLine_57 rfl hl (Nat.le_of_ble_eq_true rfl) rfl (fun ls hl => ?_)
  refine lv_iload_n (pc := 58) hx hb dX7_readsLine_58 rfl (lv_at hl 0 rfl) ?_
  refine lv_if_ge (pc := 59) (tgt := 68) hx hb dX7_readsLine_59 (by decide) (fun hc => ?_) (fun hc => ?_)
  · have hf := jI_t hf hc
    refine lv_aload_n (pc := 68) hx hb dX7_readsLine_68 rfl (lv_at hl 1 rfl) ?_
    refine j_gR (pc := 69) cx hS hf fd_WornSkinModel_lines q1722 dX7_readsLine_69 (fun y1 hf => ?_)
    refine lv_iconst (pc := 72) (v := 5) hx hb dX7_readsLine_72 rfl ?_
    refine j_aI (pc := 73) cx hS hf rfl dX7_readsLine_73 (fun y2 hf => ?_)
    refine lv_bipush (pc := 74) (v := 40) hx hb dX7_readsLine_74 rfl ?_
    refine lv_icmp_ne (pc := 76) (tgt := 85) hx hb dX7_readsLine_76 (by decide) (fun hc => ?_) (fun hc => ?_)
    · have hf := jI_f hf hc
      refine lv_aload_n (pc := 85) hx hb dX7_readsLine_85 rfl (lv_at hl 1 rfl) ?_
      obtain ⟨_, h1, e9, hf⟩ := jB_some hf
      refine j_callV (pc := 86) (st1 := []) (As := []) (rest := []) cx hS rfl hl.1 hm (metX7_nextToken l _ _ _ _ _ (hth.at hS) e9) (jle hf) (hth.at hS) rfl (lw_V q1884 q1886 qs54 q123 q1887) pdX7_nextToken rfl rfl (Nat.le_of_ble_eq_true rfl) ⟨Nat.le_of_ble_eq_true rfl, Nat.le_of_ble_eq_true rfl⟩ dX7_readsLine_86 rfl (fun H locs cells slots hS => ?_)
      refine lv_sipush (pc := 89) (v := 200) hx hb dX7_readsLine_89 rfl ?_
      refine lv_aload_n (pc := 92) hx hb dX7_readsLine_92 rfl (lv_at hl 1 rfl) ?_
      refine j_gR (pc := 93) cx hS hf fd_WornSkinModel_lines q1722 dX7_readsLine_93 (fun y4 hf => ?_)
      refine lv_iconst (pc := 96) (v := 5) hx hb dX7_readsLine_96 rfl ?_
      refine j_aI (pc := 97) cx hS hf rfl dX7_readsLine_97 (fun y5 hf => ?_)
      refine lv_iadd (pc := 98) hx hb dX7_readsLine_98 ?_
      refine lv_istore_n (pc := 99) (i := 2) (lv' := [(2, .int (200 + y5)), (1, .int v0), (0, .ref a0)]) hx hb dX7_readsLine_99 rfl hl (Nat.le_of_ble_eq_true rfl) rfl (fun ls hl => ?_)
      refine lv_aload_n (pc := 100) hx hb dX7_readsLine_100 rfl (lv_at hl 2 rfl) ?_
      refine j_gR (pc := 101) cx hS hf fd_WornSkinModel_lineWhat q1723 dX7_readsLine_101 (fun y6 hf => ?_)
      refine lv_iload_n (pc := 104) hx hb dX7_readsLine_104 rfl (lv_at hl 0 rfl) ?_
      refine lv_iload_n (pc := 105) hx hb dX7_readsLine_105 rfl (lv_at hl 1 rfl) ?_
      refine j_sI (pc := 106) cx hS hf rfl dX7_readsLine_106 (fun h H locs hf hS => ?_)
      refine lv_iload_n (pc := 107) hx hb dX7_readsLine_107 rfl (lv_at hl 1 rfl) ?_
      refine lv_if_ne (pc := 108) (tgt := 130) hx hb dX7_readsLine_108 (by decide) (fun hc => ?_) (fun hc => ?_)
      · have hf := jI_f hf hc
        exact wX7_readsLine_130 cx e1 e2 a0 hth _ _ _ _ _ _ _ _ hf hS (lv_sub hl [2, 1, 0] rfl)
      · have hf := jI_t hf hc
        refine lv_aload_n (pc := 111) hx hb dX7_readsLine_111 rfl (lv_at hl 2 rfl) ?_
        obtain ⟨y7, h1, e9, hf⟩ := jB_some hf
        refine j_callV (pc := 112) (st1 := [.int y7]) (As := []) (rest := []) cx hS rfl hl.1 hm (metX7_needsText l _ _ _ _ _ (hth.at hS) e9) (jle hf) (hth.at hS) rfl (lw_V q2019 q2021 qs78 q123 q2022) pdX7_needsText rfl rfl (Nat.le_of_ble_eq_true rfl) ⟨Nat.le_of_ble_eq_true rfl, Nat.le_of_ble_eq_true rfl⟩ dX7_readsLine_112 rfl (fun H locs cells slots hS => ?_)
        refine lv_if_ne (pc := 115) (tgt := 120) hx hb dX7_readsLine_115 (by decide) (fun hc => ?_) (fun hc => ?_)
        · have hf := jI_f hf hc
          refine lv_aload_n (pc := 120) hx hb dX7_readsLine_120 rfl (lv_at hl 2 rfl) ?_
          refine j_gR (pc := 121) cx hS hf fd_WornSkinModel_lineA q1724 dX7_readsLine_121 (fun y8 hf => ?_)
          refine lv_iload_n (pc := 124) hx hb dX7_readsLine_124 rfl (lv_at hl 0 rfl) ?_
          refine lv_aload_n (pc := 125) hx hb dX7_readsLine_125 rfl (lv_at hl 2 rfl) ?_
          refine j_gI (pc := 126) cx hS hf fd_WornSkinModel_given q1720 dX7_readsLine_126 (fun y9 hf => ?_)
          refine j_sI (pc := 129) cx hS hf rfl dX7_readsLine_129 (fun h H locs hf hS => ?_)
          exact wX7_readsLine_130 cx e1 e2 a0 hth _ _ _ _ _ _ _ _ hf hS (lv_sub hl [2, 1, 0] rfl)
        · have hf := jI_t hf hc
          refine lv_iconst (pc := 118) (v := 0) hx hb dX7_readsLine_118 rfl ?_
          exact j_zret (pc := 119) cx (Or.inl rfl) hS hf e1 e2 dX7_readsLine_119
    · have hf := jI_t hf hc
      refine lv_aload_n (pc := 79) hx hb dX7_readsLine_79 rfl (lv_at hl 1 rfl) ?_
      refine lv_iconst (pc := 80) (v := 5) hx hb dX7_readsLine_80 rfl ?_
      obtain ⟨y10, h1, e9, hf⟩ := jB_some hf
      refine j_callV (pc := 81) (st1 := [.int y10]) (As := [.int 5]) (rest := []) cx hS rfl hl.1 hm (metX7_fails l _ _ _ _ _ (hth.at hS) e9) (jle hf) (hth.at hS) rfl (lw_V q1903 q1905 qs58 q123 q1906) pdX7_fails rfl rfl (Nat.le_of_ble_eq_true rfl) ⟨Nat.le_of_ble_eq_true rfl, Nat.le_of_ble_eq_true rfl⟩ dX7_readsLine_81 rfl (fun H locs cells slots hS => ?_)
      exact j_zret (pc := 84) cx (Or.inl rfl) hS hf e1 e2 dX7_readsLine_84
  · have hf := jI_f hf hc
    refine lv_aload_n (pc := 62) hx hb dX7_readsLine_62 rfl (lv_at hl 1 rfl) ?_
    refine lv_iconst (pc := 63) (v := 1) hx hb dX7_readsLine_63 rfl ?_
    obtain ⟨y11, h1, e9, hf⟩ := jB_some hf
    refine j_callV (pc := 64) (st1 := [.int y11]) (As := [.int 1]) (rest := []) cx hS rfl hl.1 hm (metX7_fails l _ _ _ _ _ (hth.at hS) e9) (jle hf) (hth.at hS) rfl (lw_V q1903 q1905 qs58 q123 q1906) pdX7_fails rfl rfl (Nat.le_of_ble_eq_true rfl) ⟨Nat.le_of_ble_eq_true rfl, Nat.le_of_ble_eq_true rfl⟩ dX7_readsLine_64 rfl (fun H locs cells slots hS => ?_)
    exact j_zret (pc := 67) cx (Or.inl rfl) hS hf e1 e2 dX7_readsLine_67
theorem wX7_readsLine_0 {N : Nat} {r : Int32} (cx : jCx p s m args meth c cX7_readsLine "WornSkinModel" 3 (Option.some Jvm.ClassFile.FieldType.boolean) D dA H0 hs.2.2.2.2) (e1 : h'.2.2.1 = hs.2.2.1 + mc) (e2 : h'.2.2.2.1 = hs.2.2.2.1 + ms) (a0 : Nat) (hth : jTh hs a0 7) : ∀ (h : jH) (H : Heap) (locs : List Loc) (cells slots : Nat) (ls : Array Slot), (fX7_readsLine N a0).1 h = some (r, h') → jS D dA H0 hs h H locs cells slots → lv_has ls 3 [(0, .ref a0)] → W p l e { frames := 3, cells := mc, slots := ms, locals := 64 } s m args below meth c H locs cells slots (jQ D dA H0 below s (.returned (some (.int r))) h' mc ms) (F0 m 0 ls []) := by
  have hx := cx.1
  have hb := cx.2.1
  have hown := cx.2.2.2.1
  have hts := cx.2.2.2.2.1
  have hm : h'.2.2.1 ≤ hs.2.2.1 + mc ∧ h'.2.2.2.1 ≤ hs.2.2.2.1 + ms := ⟨Nat.le_of_eq e1, Nat.le_of_eq e2⟩
  intro h H locs cells slots ls hf hS hl
  unfold fX7_readsLine at hf
  refine lv_aload_n (pc := 0) hx hb dX7_readsLine_0 rfl (lv_at hl 0 rfl) ?_
  refine lv_ldc2 (pc := 1) (v := 12584543) hx hb hown (hts _ q1921) dX7_readsLine_1 ?_
  obtain ⟨y1, h1, e9, hf⟩ := jB_some hf
  refine j_callV (pc := 4) (st1 := [.int y1]) (As := [.long 12584543]) (rest := []) cx hS rfl hl.1 hm (metX7_isWord l _ _ _ _ _ (hth.at hS) e9) (jle hf) (hth.at hS) rfl (lw_V q1895 q1897 qs56 q123 q1898) pdX7_isWord rfl rfl (Nat.le_of_ble_eq_true rfl) ⟨Nat.le_of_ble_eq_true rfl, Nat.le_of_ble_eq_true rfl⟩ dX7_readsLine_4 rfl (fun H locs cells slots hS => ?_)
  refine lv_if_eq (pc := 7) (tgt := 14) hx hb dX7_readsLine_7 (by decide) (fun hc => ?_) (fun hc => ?_)
  · have hf := jI_t hf hc
    refine lv_aload_n (pc := 14) hx hb dX7_readsLine_14 rfl (lv_at hl 0 rfl) ?_
    refine lv_ldc2 (pc := 15) (v := 274579016) hx hb hown (hts _ q1922) dX7_readsLine_15 ?_
    obtain ⟨y2, h1, e9, hf⟩ := jB_some hf
    refine j_callV (pc := 18) (st1 := [.int y2]) (As := [.long 274579016]) (rest := []) cx hS rfl hl.1 hm (metX7_isWord l _ _ _ _ _ (hth.at hS) e9) (jle hf) (hth.at hS) rfl (lw_V q1895 q1897 qs56 q123 q1898) pdX7_isWord rfl rfl (Nat.le_of_ble_eq_true rfl) ⟨Nat.le_of_ble_eq_true rfl, Nat.le_of_ble_eq_true rfl⟩ dX7_readsLine_18 rfl (fun H locs cells slots hS => ?_)
    refine lv_if_eq (pc := 21) (tgt := 28) hx hb dX7_readsLine_21 (by decide) (fun hc => ?_) (fun hc => ?_)
    · have hf := jI_t hf hc
      refine lv_aload_n (pc := 28) hx hb dX7_readsLine_28 rfl (lv_at hl 0 rfl) ?_
      refine lv_ldc2 (pc := 29) (v := 10793335) hx hb hown (hts _ q1923) dX7_readsLine_29 ?_
      obtain ⟨y3, h1, e9, hf⟩ := jB_some hf
      refine j_callV (pc := 32) (st1 := [.int y3]) (As := [.long 10793335]) (rest := []) cx hS rfl hl.1 hm (metX7_isWord l _ _ _ _ _ (hth.at hS) e9) (jle hf) (hth.at hS) rfl (lw_V q1895 q1897 qs56 q123 q1898) pdX7_isWord rfl rfl (Nat.le_of_ble_eq_true rfl) ⟨Nat.le_of_ble_eq_true rfl, Nat.le_of_ble_eq_true rfl⟩ dX7_readsLine_32 rfl (fun H locs cells slots hS => ?_)
      refine lv_if_eq (pc := 35) (tgt := 42) hx hb dX7_readsLine_35 (by decide) (fun hc => ?_) (fun hc => ?_)
      · have hf := jI_t hf hc
        refine lv_aload_n (pc := 42) hx hb dX7_readsLine_42 rfl (lv_at hl 0 rfl) ?_
        refine lv_ldc2 (pc := 43) (v := 456500) hx hb hown (hts _ q1924) dX7_readsLine_43 ?_
        obtain ⟨y4, h1, e9, hf⟩ := jB_some hf
        refine j_callV (pc := 46) (st1 := [.int y4]) (As := [.long 456500]) (rest := []) cx hS rfl hl.1 hm (metX7_isWord l _ _ _ _ _ (hth.at hS) e9) (jle hf) (hth.at hS) rfl (lw_V q1895 q1897 qs56 q123 q1898) pdX7_isWord rfl rfl (Nat.le_of_ble_eq_true rfl) ⟨Nat.le_of_ble_eq_true rfl, Nat.le_of_ble_eq_true rfl⟩ dX7_readsLine_46 rfl (fun H locs cells slots hS => ?_)
        refine lv_if_eq (pc := 49) (tgt := 56) hx hb dX7_readsLine_49 (by decide) (fun hc => ?_) (fun hc => ?_)
        · have hf := jI_t hf hc
          refine lv_iconst (pc := 56) (v := (-1)) hx hb dX7_readsLine_56 rfl ?_
          exact wX7_readsLine_57 cx e1 e2 a0 hth _ _ _ _ _ _ _ hf hS hl
        · have hf := jI_f hf hc
          refine lv_iconst (pc := 52) (v := 3) hx hb dX7_readsLine_52 rfl ?_
          refine lv_goto (pc := 53) (tgt := 57) hx hb dX7_readsLine_53 (by decide) ?_
          exact wX7_readsLine_57 cx e1 e2 a0 hth _ _ _ _ _ _ _ hf hS hl
      · have hf := jI_f hf hc
        refine lv_iconst (pc := 38) (v := 2) hx hb dX7_readsLine_38 rfl ?_
        refine lv_goto (pc := 39) (tgt := 57) hx hb dX7_readsLine_39 (by decide) ?_
        exact wX7_readsLine_57 cx e1 e2 a0 hth _ _ _ _ _ _ _ hf hS hl
    · have hf := jI_f hf hc
      refine lv_iconst (pc := 24) (v := 1) hx hb dX7_readsLine_24 rfl ?_
      refine lv_goto (pc := 25) (tgt := 57) hx hb dX7_readsLine_25 (by decide) ?_
      exact wX7_readsLine_57 cx e1 e2 a0 hth _ _ _ _ _ _ _ hf hS hl
  · have hf := jI_f hf hc
    refine lv_iconst (pc := 10) (v := 0) hx hb dX7_readsLine_10 rfl ?_
    refine lv_goto (pc := 11) (tgt := 57) hx hb dX7_readsLine_11 (by decide) ?_
    exact wX7_readsLine_57 cx e1 e2 a0 hth _ _ _ _ _ _ _ hf hS hl
theorem metX7_readsLine (l : Launch) (N : Nat) (a0 : Nat) (h h' : jH) (r : Int32) (hth : jcd h a0 = some 7) (hf : (fX7_readsLine N a0).1 h = some (r, h')) : jMet l yX7_readsLine (ws_ yX7_readsLine cX7_readsLine 3 (Option.some Jvm.ClassFile.FieldType.boolean)) (3) (64) [.ref a0] h h' (.returned (some (.int r))) := by
  refine jStart rfl (jle hf) (Nat.le_of_ble_eq_true rfl) ?_
  intro p e s m below meth c D dA H0 mc ms ls cx hnm e1 e2 hS hl
  have hth := jTh.mk hS hth
  exact wX7_readsLine_0 cx e1 e2 a0 hth  _ _ _ _ _ _ hf hS hl
def fX7_laysLines_114 (N : Nat) (a0 : Nat) : jM Unit := jR ()
def fX7_laysLines_14 (N : Nat) (a0 : Nat) : Nat → Int32 → Int32 → Int32 → jM Unit
  | 0, _, _, _ => jE
  | n + 1, x1, x2, x3 => if 40 ≤ x3 then (fX7_laysLines_114 N a0) else (jB (jgR [7] 39 (some a0)) fun y1 => jB (jgR [7] 39 (some a0)) fun y2 => jB (jaI 0 y2 ((40 * x1) + x3)) fun y3 => jB (jsI 0 y1 ((40 * x2) + x3) y3) fun _ => jB (jgR [7] 40 (some a0)) fun y4 => jB (jgR [7] 40 (some a0)) fun y5 => jB (jaI 0 y5 ((40 * x1) + x3)) fun y6 => jB (jsI 0 y4 ((40 * x2) + x3) y6) fun _ => jB (jgR [7] 41 (some a0)) fun y7 => jB (jgR [7] 41 (some a0)) fun y8 => jB (jaI 0 y8 ((40 * x1) + x3)) fun y9 => jB (jsI 0 y7 ((40 * x2) + x3) y9) fun _ => jB (jgR [7] 42 (some a0)) fun y10 => jB (jgR [7] 42 (some a0)) fun y11 => jB (jaI 0 y11 ((40 * x1) + x3)) fun y12 => jB (jsI 0 y10 ((40 * x2) + x3) y12) fun _ => fX7_laysLines_14 N a0 n x1 x2 (x3 + 1))
def fX7_laysLines (N : Nat) (a0 : Nat) (x1 : Int32) (x2 : Int32) : jM Unit := jB (jgR [7] 38 (some a0)) fun y1 => jB (jgR [7] 38 (some a0)) fun y2 => jB (jaI 0 y2 x1) fun y3 => jB (jsI 0 y1 x2 y3) fun _ => fX7_laysLines_14 N a0 N x1 x2 0
theorem wX7_laysLines_114 {N : Nat} {r : Unit} (cx : jCx p s m args meth c cX7_laysLines "WornSkinModel" 4 (Option.none : Option Jvm.ClassFile.FieldType) D dA H0 hs.2.2.2.2) (e1 : h'.2.2.1 = hs.2.2.1 + mc) (e2 : h'.2.2.2.1 = hs.2.2.2.1 + ms) (a0 : Nat) (hth : jTh hs a0 7) : ∀ (h : jH) (H : Heap) (locs : List Loc) (cells slots : Nat) (ls : Array Slot), (fX7_laysLines_114 N a0).1 h = some (r, h') → jS D dA H0 hs h H locs cells slots → lv_has ls 4 [(0, .ref a0)] → W p l e { frames := 0, cells := mc, slots := ms, locals := 0 } s m args below meth c H locs cells slots (jQ D dA H0 below s (.returned none) h' mc ms) (F0 m 114 ls []) := by
  have hx := cx.1
  have hb := cx.2.1
  have hown := cx.2.2.2.1
  have hts := cx.2.2.2.2.1
  have hm : h'.2.2.1 ≤ hs.2.2.1 + mc ∧ h'.2.2.2.1 ≤ hs.2.2.2.1 + ms := ⟨Nat.le_of_eq e1, Nat.le_of_eq e2⟩
  intro h H locs cells slots ls hf hS hl
  unfold fX7_laysLines_114 at hf
  exact j_vret (pc := 114) cx hS hf e1 e2 dX7_laysLines_114
theorem wX7_laysLines_14 {N : Nat} {r : Unit} (cx : jCx p s m args meth c cX7_laysLines "WornSkinModel" 4 (Option.none : Option Jvm.ClassFile.FieldType) D dA H0 hs.2.2.2.2) (e1 : h'.2.2.1 = hs.2.2.1 + mc) (e2 : h'.2.2.2.1 = hs.2.2.2.1 + ms) (a0 : Nat) (hth : jTh hs a0 7) : ∀ (n : Nat) (x1 : Int32) (x2 : Int32) (x3 : Int32), ∀ (h : jH) (H : Heap) (locs : List Loc) (cells slots : Nat) (ls : Array Slot), (fX7_laysLines_14 N a0 n x1 x2 x3).1 h = some (r, h') → jS D dA H0 hs h H locs cells slots → lv_has ls 4 [(0, .ref a0), (1, .int x1), (2, .int x2), (3, .int x3)] → W p l e { frames := 0, cells := mc, slots := ms, locals := 0 } s m args below meth c H locs cells slots (jQ D dA H0 below s (.returned none) h' mc ms) (F0 m 14 ls []) := by
  have hx := cx.1
  have hb := cx.2.1
  have hown := cx.2.2.2.1
  have hts := cx.2.2.2.2.1
  have hm : h'.2.2.1 ≤ hs.2.2.1 + mc ∧ h'.2.2.2.1 ≤ hs.2.2.2.1 + ms := ⟨Nat.le_of_eq e1, Nat.le_of_eq e2⟩
  intro n
  induction n with
  | zero =>
    intro x1 x2 x3 h H locs cells slots ls hf hS hl
    exact jE_f hf
  | succ n ih =>
    intro x1 x2 x3 h H locs cells slots ls hf hS hl
    unfold fX7_laysLines_14 at hf
    refine lv_iload_n (pc := 14) hx hb dX7_laysLines_14 rfl (lv_at hl 3 rfl) ?_
    refine lv_bipush (pc := 15) (v := 40) hx hb dX7_laysLines_15 rfl ?_
    refine lv_icmp_ge (pc := 17) (tgt := 114) hx hb dX7_laysLines_17 (by decide) (fun hc => ?_) (fun hc => ?_)
    · have hf := jI_t hf hc
      exact wX7_laysLines_114 cx e1 e2 a0 hth _ _ _ _ _ _ hf hS (lv_sub hl [0] rfl)
    · have hf := jI_f hf hc
      refine lv_aload_n (pc := 20) hx hb dX7_laysLines_20 rfl (lv_at hl 0 rfl) ?_
      refine j_gR (pc := 21) cx hS hf fd_WornSkinModel_lineWhat q1723 dX7_laysLines_21 (fun y1 hf => ?_)
      refine lv_bipush (pc := 24) (v := 40) hx hb dX7_laysLines_24 rfl ?_
      refine lv_iload_n (pc := 26) hx hb dX7_laysLines_26 rfl (lv_at hl 2 rfl) ?_
      refine lv_imul (pc := 27) hx hb dX7_laysLines_27 ?_
      refine lv_iload_n (pc := 28) hx hb dX7_laysLines_28 rfl (lv_at hl 3 rfl) ?_
      refine lv_iadd (pc := 29) hx hb dX7_laysLines_29 ?_
      refine lv_aload_n (pc := 30) hx hb dX7_laysLines_30 rfl (lv_at hl 0 rfl) ?_
      refine j_gR (pc := 31) cx hS hf fd_WornSkinModel_lineWhat q1723 dX7_laysLines_31 (fun y2 hf => ?_)
      refine lv_bipush (pc := 34) (v := 40) hx hb dX7_laysLines_34 rfl ?_
      refine lv_iload_n (pc := 36) hx hb dX7_laysLines_36 rfl (lv_at hl 1 rfl) ?_
      refine lv_imul (pc := 37) hx hb dX7_laysLines_37 ?_
      refine lv_iload_n (pc := 38) hx hb dX7_laysLines_38 rfl (lv_at hl 3 rfl) ?_
      refine lv_iadd (pc := 39) hx hb dX7_laysLines_39 ?_
      refine j_aI (pc := 40) cx hS hf rfl dX7_laysLines_40 (fun y3 hf => ?_)
      refine j_sI (pc := 41) cx hS hf rfl dX7_laysLines_41 (fun h H locs hf hS => ?_)
      refine lv_aload_n (pc := 42) hx hb dX7_laysLines_42 rfl (lv_at hl 0 rfl) ?_
      refine j_gR (pc := 43) cx hS hf fd_WornSkinModel_lineA q1724 dX7_laysLines_43 (fun y4 hf => ?_)
      refine lv_bipush (pc := 46) (v := 40) hx hb dX7_laysLines_46 rfl ?_
      refine lv_iload_n (pc := 48) hx hb dX7_laysLines_48 rfl (lv_at hl 2 rfl) ?_
      refine lv_imul (pc := 49) hx hb dX7_laysLines_49 ?_
      refine lv_iload_n (pc := 50) hx hb dX7_laysLines_50 rfl (lv_at hl 3 rfl) ?_
      refine lv_iadd (pc := 51) hx hb dX7_laysLines_51 ?_
      refine lv_aload_n (pc := 52) hx hb dX7_laysLines_52 rfl (lv_at hl 0 rfl) ?_
      refine j_gR (pc := 53) cx hS hf fd_WornSkinModel_lineA q1724 dX7_laysLines_53 (fun y5 hf => ?_)
      refine lv_bipush (pc := 56) (v := 40) hx hb dX7_laysLines_56 rfl ?_
      refine lv_iload_n (pc := 58) hx hb dX7_laysLines_58 rfl (lv_at hl 1 rfl) ?_
      refine lv_imul (pc := 59) hx hb dX7_laysLines_59 ?_
      refine lv_iload_n (pc := 60) hx hb dX7_laysLines_60 rfl (lv_at hl 3 rfl) ?_
      refine lv_iadd (pc := 61) hx hb dX7_laysLines_61 ?_
      refine j_aI (pc := 62) cx hS hf rfl dX7_laysLines_62 (fun y6 hf => ?_)
      refine j_sI (pc := 63) cx hS hf rfl dX7_laysLines_63 (fun h H locs hf hS => ?_)
      refine lv_aload_n (pc := 64) hx hb dX7_laysLines_64 rfl (lv_at hl 0 rfl) ?_
      refine j_gR (pc := 65) cx hS hf fd_WornSkinModel_lineB q1725 dX7_laysLines_65 (fun y7 hf => ?_)
      refine lv_bipush (pc := 68) (v := 40) hx hb dX7_laysLines_68 rfl ?_
      refine lv_iload_n (pc := 70) hx hb dX7_laysLines_70 rfl (lv_at hl 2 rfl) ?_
      refine lv_imul (pc := 71) hx hb dX7_laysLines_71 ?_
      refine lv_iload_n (pc := 72) hx hb dX7_laysLines_72 rfl (lv_at hl 3 rfl) ?_
      refine lv_iadd (pc := 73) hx hb dX7_laysLines_73 ?_
      refine lv_aload_n (pc := 74) hx hb dX7_laysLines_74 rfl (lv_at hl 0 rfl) ?_
      refine j_gR (pc := 75) cx hS hf fd_WornSkinModel_lineB q1725 dX7_laysLines_75 (fun y8 hf => ?_)
      refine lv_bipush (pc := 78) (v := 40) hx hb dX7_laysLines_78 rfl ?_
      refine lv_iload_n (pc := 80) hx hb dX7_laysLines_80 rfl (lv_at hl 1 rfl) ?_
      refine lv_imul (pc := 81) hx hb dX7_laysLines_81 ?_
      refine lv_iload_n (pc := 82) hx hb dX7_laysLines_82 rfl (lv_at hl 3 rfl) ?_
      refine lv_iadd (pc := 83) hx hb dX7_laysLines_83 ?_
      refine j_aI (pc := 84) cx hS hf rfl dX7_laysLines_84 (fun y9 hf => ?_)
      refine j_sI (pc := 85) cx hS hf rfl dX7_laysLines_85 (fun h H locs hf hS => ?_)
      refine lv_aload_n (pc := 86) hx hb dX7_laysLines_86 rfl (lv_at hl 0 rfl) ?_
      refine j_gR (pc := 87) cx hS hf fd_WornSkinModel_lineC q1726 dX7_laysLines_87 (fun y10 hf => ?_)
      refine lv_bipush (pc := 90) (v := 40) hx hb dX7_laysLines_90 rfl ?_
      refine lv_iload_n (pc := 92) hx hb dX7_laysLines_92 rfl (lv_at hl 2 rfl) ?_
      refine lv_imul (pc := 93) hx hb dX7_laysLines_93 ?_
      refine lv_iload_n (pc := 94) hx hb dX7_laysLines_94 rfl (lv_at hl 3 rfl) ?_
      refine lv_iadd (pc := 95) hx hb dX7_laysLines_95 ?_
      refine lv_aload_n (pc := 96) hx hb dX7_laysLines_96 rfl (lv_at hl 0 rfl) ?_
      refine j_gR (pc := 97) cx hS hf fd_WornSkinModel_lineC q1726 dX7_laysLines_97 (fun y11 hf => ?_)
      refine lv_bipush (pc := 100) (v := 40) hx hb dX7_laysLines_100 rfl ?_
      refine lv_iload_n (pc := 102) hx hb dX7_laysLines_102 rfl (lv_at hl 1 rfl) ?_
      refine lv_imul (pc := 103) hx hb dX7_laysLines_103 ?_
      refine lv_iload_n (pc := 104) hx hb dX7_laysLines_104 rfl (lv_at hl 3 rfl) ?_
      refine lv_iadd (pc := 105) hx hb dX7_laysLines_105 ?_
      refine j_aI (pc := 106) cx hS hf rfl dX7_laysLines_106 (fun y12 hf => ?_)
      refine j_sI (pc := 107) cx hS hf rfl dX7_laysLines_107 (fun h H locs hf hS => ?_)
      refine lv_iinc (pc := 108) (v := (x3 + 1)) (lv' := [(3, .int (x3 + 1)), (0, .ref a0), (1, .int x1), (2, .int x2)]) hx hb dX7_laysLines_108 hl (k := 3) rfl rfl (Nat.le_of_ble_eq_true rfl) rfl (fun ls hl => ?_)
      refine lv_goto (pc := 111) (tgt := 14) hx hb dX7_laysLines_111 (by decide) ?_
      exact ih _ _ _ _ _ _ _ _ _ hf hS (lv_sub hl [1, 2, 3, 0] rfl)
theorem wX7_laysLines_0 {N : Nat} {r : Unit} (cx : jCx p s m args meth c cX7_laysLines "WornSkinModel" 4 (Option.none : Option Jvm.ClassFile.FieldType) D dA H0 hs.2.2.2.2) (e1 : h'.2.2.1 = hs.2.2.1 + mc) (e2 : h'.2.2.2.1 = hs.2.2.2.1 + ms) (a0 : Nat) (hth : jTh hs a0 7) : ∀ (x1 : Int32) (x2 : Int32), ∀ (h : jH) (H : Heap) (locs : List Loc) (cells slots : Nat) (ls : Array Slot), (fX7_laysLines N a0 x1 x2).1 h = some (r, h') → jS D dA H0 hs h H locs cells slots → lv_has ls 4 [(0, .ref a0), (1, .int x1), (2, .int x2)] → W p l e { frames := 0, cells := mc, slots := ms, locals := 0 } s m args below meth c H locs cells slots (jQ D dA H0 below s (.returned none) h' mc ms) (F0 m 0 ls []) := by
  have hx := cx.1
  have hb := cx.2.1
  have hown := cx.2.2.2.1
  have hts := cx.2.2.2.2.1
  have hm : h'.2.2.1 ≤ hs.2.2.1 + mc ∧ h'.2.2.2.1 ≤ hs.2.2.2.1 + ms := ⟨Nat.le_of_eq e1, Nat.le_of_eq e2⟩
  intro x1 x2 h H locs cells slots ls hf hS hl
  unfold fX7_laysLines at hf
  refine lv_aload_n (pc := 0) hx hb dX7_laysLines_0 rfl (lv_at hl 0 rfl) ?_
  refine j_gR (pc := 1) cx hS hf fd_WornSkinModel_lines q1722 dX7_laysLines_1 (fun y1 hf => ?_)
  refine lv_iload_n (pc := 4) hx hb dX7_laysLines_4 rfl (lv_at hl 2 rfl) ?_
  refine lv_aload_n (pc := 5) hx hb dX7_laysLines_5 rfl (lv_at hl 0 rfl) ?_
  refine j_gR (pc := 6) cx hS hf fd_WornSkinModel_lines q1722 dX7_laysLines_6 (fun y2 hf => ?_)
  refine lv_iload_n (pc := 9) hx hb dX7_laysLines_9 rfl (lv_at hl 1 rfl) ?_
  refine j_aI (pc := 10) cx hS hf rfl dX7_laysLines_10 (fun y3 hf => ?_)
  refine j_sI (pc := 11) cx hS hf rfl dX7_laysLines_11 (fun h H locs hf hS => ?_)
  refine lv_iconst (pc := 12) (v := 0) hx hb dX7_laysLines_12 rfl ?_
  refine lv_istore_n (pc := 13) (i := 3) (lv' := [(3, .int 0), (0, .ref a0), (1, .int x1), (2, .int x2)]) hx hb dX7_laysLines_13 rfl hl (Nat.le_of_ble_eq_true rfl) rfl (fun ls hl => ?_)
  exact wX7_laysLines_14 cx e1 e2 a0 hth N _ _ _ _ _ _ _ _ _ hf hS (lv_sub hl [1, 2, 3, 0] rfl)
theorem metX7_laysLines (l : Launch) (N : Nat) (a0 : Nat) (x1 : Int32) (x2 : Int32) (h h' : jH) (r : Unit) (hth : jcd h a0 = some 7) (hf : (fX7_laysLines N a0 x1 x2).1 h = some (r, h')) : jMet l yX7_laysLines (ws_ yX7_laysLines cX7_laysLines 4 (Option.none : Option Jvm.ClassFile.FieldType)) (0) (0) [.ref a0, .int x1, .int x2] h h' (.returned none) := by
  refine jStart rfl (jle hf) (Nat.le_of_ble_eq_true rfl) ?_
  intro p e s m below meth c D dA H0 mc ms ls cx hnm e1 e2 hS hl
  have hth := jTh.mk hS hth
  exact wX7_laysLines_0 cx e1 e2 a0 hth _ _ _ _ _ _ _ _ hf hS hl
end
