set_option maxRecDepth 100000
section
variable {p : Program} {l : Launch} {e : Env} {s : State} {m : MethodId} {args : Array Value} {below : List Frame} {meth : Method} {c : Code} {D : va_G} {dA : Nat → ClassId → Prop} {H0 : Heap} {hs h' : jH} {mc ms : Nat}
def fX7_draws (a0 : Nat) (x1 : Int32) : jM Int32 := jB (jgL [7] 58 (some a0)) fun y1 => jB (jnzL 2147483648) fun _ => jB (jpL [7] 58 (some a0) (((y1 * 1103515245) + 12345) - ((y1 * 1103515245) + 12345) / 2147483648 * 2147483648)) fun _ => jB (jgL [7] 58 (some a0)) fun y2 => jB (jnzL 65536) fun _ => jB (jnzL (x1.toInt64)) fun _ => jR (((y2 / 65536) - (y2 / 65536) / (x1.toInt64) * (x1.toInt64)).toInt32)
theorem wX7_draws_0 {r : Int32} (cx : jCx p s m args meth c cX7_draws "WornSkinModel" 2 (Option.some Jvm.ClassFile.FieldType.int) D dA H0 hs.2.2.2.2) (e1 : h'.2.2.1 = hs.2.2.1 + mc) (e2 : h'.2.2.2.1 = hs.2.2.2.1 + ms) (a0 : Nat) (hth : jTh hs a0 7) : ∀ (x1 : Int32), ∀ (h : jH) (H : Heap) (locs : List Loc) (cells slots : Nat) (ls : Array Slot), (fX7_draws a0 x1).1 h = some (r, h') → jS D dA H0 hs h H locs cells slots → lv_has ls 2 [(0, .ref a0), (1, .int x1)] → W p l e { frames := 0, cells := mc, slots := ms, locals := 0 } s m args below meth c H locs cells slots (jQ D dA H0 below s (.returned (some (.int r))) h' mc ms) (F0 m 0 ls []) := by
  have hx := cx.1
  have hb := cx.2.1
  have hown := cx.2.2.2.1
  have hts := cx.2.2.2.2.1
  have hm : h'.2.2.1 ≤ hs.2.2.1 + mc ∧ h'.2.2.2.1 ≤ hs.2.2.2.1 + ms := ⟨Nat.le_of_eq e1, Nat.le_of_eq e2⟩
  intro x1 h H locs cells slots ls hf hS hl
  unfold fX7_draws at hf
  refine lv_aload_n (pc := 0) hx hb dX7_draws_0 rfl (lv_at hl 0 rfl) ?_
  refine lv_aload_n (pc := 1) hx hb dX7_draws_1 rfl (lv_at hl 0 rfl) ?_
  refine j_gL (pc := 2) cx hS hf fd_WornSkinModel_g q1742 dX7_draws_2 (fun y1 hf => ?_)
  refine lv_ldc2 (pc := 5) (v := 1103515245) hx hb hown (hts _ q2284) dX7_draws_5 ?_
  refine lv_lmul (pc := 8) hx hb dX7_draws_8 ?_
  refine lv_ldc2 (pc := 9) (v := 12345) hx hb hown (hts _ q2285) dX7_draws_9 ?_
  refine lv_ladd (pc := 12) hx hb dX7_draws_12 ?_
  refine lv_ldc2 (pc := 13) (v := 2147483648) hx hb hown (hts _ q2286) dX7_draws_13 ?_
  obtain ⟨hne, hf⟩ := jnzL_s hf
  refine lv_lrem (pc := 16) hx hb dX7_draws_16 hne ?_
  refine j_pL (pc := 17) cx hS hf fp_WornSkinModel_g (Or.inl rfl) q1742 dX7_draws_17 (fun h H locs hf hS => ?_)
  refine lv_aload_n (pc := 20) hx hb dX7_draws_20 rfl (lv_at hl 0 rfl) ?_
  refine j_gL (pc := 21) cx hS hf fd_WornSkinModel_g q1742 dX7_draws_21 (fun y2 hf => ?_)
  refine lv_ldc2 (pc := 24) (v := 65536) hx hb hown (hts _ q2287) dX7_draws_24 ?_
  obtain ⟨hne, hf⟩ := jnzL_s hf
  refine lv_ldiv (pc := 27) hx hb dX7_draws_27 hne ?_
  refine lv_iload_n (pc := 28) hx hb dX7_draws_28 rfl (lv_at hl 1 rfl) ?_
  refine lv_i2l (pc := 29) (v := x1.toInt64) hx hb dX7_draws_29 rfl ?_
  obtain ⟨hne, hf⟩ := jnzL_s hf
  refine lv_lrem (pc := 30) hx hb dX7_draws_30 hne ?_
  refine lv_l2i (pc := 31) (v := ((y2 / 65536) - (y2 / 65536) / (x1.toInt64) * (x1.toInt64)).toInt32) hx hb dX7_draws_31 rfl ?_
  exact j_iret (pc := 32) cx hS hf e1 e2 dX7_draws_32
theorem metX7_draws (l : Launch) (a0 : Nat) (x1 : Int32) (h h' : jH) (r : Int32) (hth : jcd h a0 = some 7) (hf : (fX7_draws a0 x1).1 h = some (r, h')) : jMet l yX7_draws (ws_ yX7_draws cX7_draws 2 (Option.some Jvm.ClassFile.FieldType.int)) (0) (0) [.ref a0, .int x1] h h' (.returned (some (.int r))) := by
  refine jStart rfl (jle hf) (Nat.le_of_ble_eq_true rfl) ?_
  intro p e s m below meth c D dA H0 mc ms ls cx hnm e1 e2 hS hl
  have hth := jTh.mk hS hth
  exact wX7_draws_0 cx e1 e2 a0 hth _ _ _ _ _ _ _ hf hS hl
def fX7_livesWeek_129 (N : Nat) (a0 : Nat) (x1 : Int32) : jM Int32 := jB (jgR [7] 48 (some a0)) fun y1 => jB (jaI 0 y1 0) fun y2 => jB (jsI 0 y1 0 (y2 + 1)) fun _ => jRn .boolean x1
def fX7_livesWeek_126 (N : Nat) (a0 : Nat) (x1 : Int32) (v1 : Int32) (v2 : Int32) : jM Int32 := jB (fX7_scrapes N a0 v1 v2) fun _ => fX7_livesWeek_129 N a0 x1
def fX7_livesWeek_106 (N : Nat) (a0 : Nat) (x1 : Int32) (x3 : Int32) (x5 : Int32) (v1 : Int32) (v2 : Int32) : jM Int32 := jB (fX7_scrapedBy N a0 v1 v2) fun y1 => if y1 ≤ 0 then (fX7_livesWeek_129 N a0 x1) else (if x5 = 0 then (fX7_livesWeek_126 N a0 x1 x3 63) else (fX7_livesWeek_126 N a0 x1 x3 9))
def fX7_livesWeek_86 (N : Nat) (a0 : Nat) (x1 : Int32) (x3 : Int32) (x5 : Int32) : jM Int32 := if 2 ≤ x5 then (fX7_livesWeek_129 N a0 x1) else (if x5 = 0 then (fX7_livesWeek_106 N a0 x1 x3 x5 x3 63) else (fX7_livesWeek_106 N a0 x1 x3 x5 x3 9))
def fX7_livesWeek_72 (N : Nat) (a0 : Nat) (x1 : Int32) (x2 : Int32) (x3 : Int32) (x4 : Int32) (v0 : Int32) : jM Int32 := if x1 = 0 then (fX7_livesWeek_86 N a0 x1 x3 v0) else (jB (fX7_writes N a0 x2 x3 x4) fun _ => fX7_livesWeek_86 N a0 x1 x3 v0)
def fX7_livesWeek (N : Nat) (a0 : Nat) : jM Int32 := jB (jgR [7] 10 (some a0)) fun y1 => jB (jaI 0 y1 1) fun y2 => if y2 ≤ 0 then (fX7_livesWeek_129 N a0 0) else (jB (jgR [7] 10 (some a0)) fun y3 => jB (jaI 0 y3 0) fun y4 => if y4 ≤ 0 then (fX7_livesWeek_129 N a0 0) else (jB (jgR [7] 10 (some a0)) fun y5 => jB (jaI 0 y5 1) fun y6 => jB (fX7_draws a0 y6) fun y7 => jB (jgR [7] 10 (some a0)) fun y8 => jB (jaI 0 y8 0) fun y9 => jB (fX7_draws a0 y9) fun y10 => jB (fX7_draws a0 6) fun y11 => jB (fX7_canWrite N a0 y7 y10 y11) fun y12 => if y12 = 0 then (jB (fX7_draws a0 3) fun y13 => fX7_livesWeek_72 N a0 y12 y7 y10 y11 y13) else (fX7_livesWeek_72 N a0 y12 y7 y10 y11 2)))
theorem wX7_livesWeek_129 {N : Nat} {r : Int32} (cx : jCx p s m args meth c cX7_livesWeek "WornSkinModel" 6 (Option.some Jvm.ClassFile.FieldType.boolean) D dA H0 hs.2.2.2.2) (e1 : h'.2.2.1 = hs.2.2.1 + mc) (e2 : h'.2.2.2.1 = hs.2.2.2.1 + ms) (a0 : Nat) (hth : jTh hs a0 7) : ∀ (x1 : Int32), ∀ (h : jH) (H : Heap) (locs : List Loc) (cells slots : Nat) (ls : Array Slot), (fX7_livesWeek_129 N a0 x1).1 h = some (r, h') → jS D dA H0 hs h H locs cells slots → lv_has ls 6 [(0, .ref a0), (1, .int x1)] → W p l e { frames := 2, cells := mc, slots := ms, locals := 50 } s m args below meth c H locs cells slots (jQ D dA H0 below s (.returned (some (.int r))) h' mc ms) (F0 m 129 ls []) := by
  have hx := cx.1
  have hb := cx.2.1
  have hown := cx.2.2.2.1
  have hts := cx.2.2.2.2.1
  have hm : h'.2.2.1 ≤ hs.2.2.1 + mc ∧ h'.2.2.2.1 ≤ hs.2.2.2.1 + ms := ⟨Nat.le_of_eq e1, Nat.le_of_eq e2⟩
  intro x1 h H locs cells slots ls hf hS hl
  unfold fX7_livesWeek_129 at hf
  refine lv_aload_n (pc := 129) hx hb dX7_livesWeek_129 rfl (lv_at hl 0 rfl) ?_
  refine j_gR (pc := 130) cx hS hf fd_WornSkinModel_s q1732 dX7_livesWeek_130 (fun y1 hf => ?_)
  refine lv_iconst (pc := 133) (v := 0) hx hb dX7_livesWeek_133 rfl ?_
  refine lv_dup2_11 (pc := 134) hx hb dX7_livesWeek_134 rfl (jrfc _) ?_
  refine j_aI (pc := 135) cx hS hf rfl dX7_livesWeek_135 (fun y2 hf => ?_)
  refine lv_iconst (pc := 136) (v := 1) hx hb dX7_livesWeek_136 rfl ?_
  refine lv_iadd (pc := 137) hx hb dX7_livesWeek_137 ?_
  refine j_sI (pc := 138) cx hS hf rfl dX7_livesWeek_138 (fun h H locs hf hS => ?_)
  refine lv_iload_n (pc := 139) hx hb dX7_livesWeek_139 rfl (lv_at hl 1 rfl) ?_
  exact j_zret (pc := 140) cx (Or.inl rfl) hS hf e1 e2 dX7_livesWeek_140
theorem wX7_livesWeek_126 {N : Nat} {r : Int32} (cx : jCx p s m args meth c cX7_livesWeek "WornSkinModel" 6 (Option.some Jvm.ClassFile.FieldType.boolean) D dA H0 hs.2.2.2.2) (e1 : h'.2.2.1 = hs.2.2.1 + mc) (e2 : h'.2.2.2.1 = hs.2.2.2.1 + ms) (a0 : Nat) (hth : jTh hs a0 7) : ∀ (x1 : Int32) (v1 : Int32) (v2 : Int32), ∀ (h : jH) (H : Heap) (locs : List Loc) (cells slots : Nat) (ls : Array Slot), (fX7_livesWeek_126 N a0 x1 v1 v2).1 h = some (r, h') → jS D dA H0 hs h H locs cells slots → lv_has ls 6 [(0, .ref a0), (1, .int x1)] → W p l e { frames := 2, cells := mc, slots := ms, locals := 50 } s m args below meth c H locs cells slots (jQ D dA H0 below s (.returned (some (.int r))) h' mc ms) (F0 m 126 ls [.int v2, .int v1, .ref a0]) := by
  have hx := cx.1
  have hb := cx.2.1
  have hown := cx.2.2.2.1
  have hts := cx.2.2.2.2.1
  have hm : h'.2.2.1 ≤ hs.2.2.1 + mc ∧ h'.2.2.2.1 ≤ hs.2.2.2.1 + ms := ⟨Nat.le_of_eq e1, Nat.le_of_eq e2⟩
  intro x1 v1 v2 h H locs cells slots ls hf hS hl
  unfold fX7_livesWeek_126 at hf
  obtain ⟨_, h1, e9, hf⟩ := jB_some hf
  refine j_callV (pc := 126) (st1 := []) (As := [.int v1, .int v2]) (rest := []) cx hS rfl hl.1 hm (metX7_scrapes l _ _ _ _ _ _ _ (hth.at hS) e9) (jle hf) (hth.at hS) rfl (lw_V q2144 q2146 qs99 q123 q2147) pdX7_scrapes rfl rfl (Nat.le_of_ble_eq_true rfl) ⟨Nat.le_of_ble_eq_true rfl, Nat.le_of_ble_eq_true rfl⟩ dX7_livesWeek_126 rfl (fun H locs cells slots hS => ?_)
  exact wX7_livesWeek_129 cx e1 e2 a0 hth _ _ _ _ _ _ _ hf hS hl
theorem wX7_livesWeek_106 {N : Nat} {r : Int32} (cx : jCx p s m args meth c cX7_livesWeek "WornSkinModel" 6 (Option.some Jvm.ClassFile.FieldType.boolean) D dA H0 hs.2.2.2.2) (e1 : h'.2.2.1 = hs.2.2.1 + mc) (e2 : h'.2.2.2.1 = hs.2.2.2.1 + ms) (a0 : Nat) (hth : jTh hs a0 7) : ∀ (x1 : Int32) (x3 : Int32) (x5 : Int32) (v1 : Int32) (v2 : Int32), ∀ (h : jH) (H : Heap) (locs : List Loc) (cells slots : Nat) (ls : Array Slot), (fX7_livesWeek_106 N a0 x1 x3 x5 v1 v2).1 h = some (r, h') → jS D dA H0 hs h H locs cells slots → lv_has ls 6 [(0, .ref a0), (1, .int x1), (3, .int x3), (5, .int x5)] → W p l e { frames := 2, cells := mc, slots := ms, locals := 50 } s m args below meth c H locs cells slots (jQ D dA H0 below s (.returned (some (.int r))) h' mc ms) (F0 m 106 ls [.int v2, .int v1, .ref a0]) := by
  have hx := cx.1
  have hb := cx.2.1
  have hown := cx.2.2.2.1
  have hts := cx.2.2.2.2.1
  have hm : h'.2.2.1 ≤ hs.2.2.1 + mc ∧ h'.2.2.2.1 ≤ hs.2.2.2.1 + ms := ⟨Nat.le_of_eq e1, Nat.le_of_eq e2⟩
  intro x1 x3 x5 v1 v2 h H locs cells slots ls hf hS hl
  unfold fX7_livesWeek_106 at hf
  obtain ⟨y1, h1, e9, hf⟩ := jB_some hf
  refine j_callV (pc := 106) (st1 := [.int y1]) (As := [.int v1, .int v2]) (rest := []) cx hS rfl hl.1 hm (metX7_scrapedBy l _ _ _ _ _ _ _ (hth.at hS) e9) (jle hf) (hth.at hS) rfl (lw_V q2140 q2142 qs98 q123 q2143) pdX7_scrapedBy rfl rfl (Nat.le_of_ble_eq_true rfl) ⟨Nat.le_of_ble_eq_true rfl, Nat.le_of_ble_eq_true rfl⟩ dX7_livesWeek_106 rfl (fun H locs cells slots hS => ?_)
  refine lv_if_le (pc := 109) (tgt := 129) hx hb dX7_livesWeek_109 (by decide) (fun hc => ?_) (fun hc => ?_)
  · have hf := jI_t hf hc
    exact wX7_livesWeek_129 cx e1 e2 a0 hth _ _ _ _ _ _ _ hf hS (lv_sub hl [0, 1] rfl)
  · have hf := jI_f hf hc
    refine lv_aload_n (pc := 112) hx hb dX7_livesWeek_112 rfl (lv_at hl 0 rfl) ?_
    refine lv_iload_n (pc := 113) hx hb dX7_livesWeek_113 rfl (lv_at hl 2 rfl) ?_
    refine lv_iload (pc := 114) hx hb dX7_livesWeek_114 (lv_at hl 3 rfl) ?_
    refine lv_if_ne (pc := 116) (tgt := 124) hx hb dX7_livesWeek_116 (by decide) (fun hc => ?_) (fun hc => ?_)
    · have hf := jI_f hf hc
      refine lv_bipush (pc := 124) (v := 9) hx hb dX7_livesWeek_124 rfl ?_
      exact wX7_livesWeek_126 cx e1 e2 a0 hth _ _ _ _ _ _ _ _ _ hf hS (lv_sub hl [0, 1] rfl)
    · have hf := jI_t hf hc
      refine lv_bipush (pc := 119) (v := 63) hx hb dX7_livesWeek_119 rfl ?_
      refine lv_goto (pc := 121) (tgt := 126) hx hb dX7_livesWeek_121 (by decide) ?_
      exact wX7_livesWeek_126 cx e1 e2 a0 hth _ _ _ _ _ _ _ _ _ hf hS (lv_sub hl [0, 1] rfl)
theorem wX7_livesWeek_86 {N : Nat} {r : Int32} (cx : jCx p s m args meth c cX7_livesWeek "WornSkinModel" 6 (Option.some Jvm.ClassFile.FieldType.boolean) D dA H0 hs.2.2.2.2) (e1 : h'.2.2.1 = hs.2.2.1 + mc) (e2 : h'.2.2.2.1 = hs.2.2.2.1 + ms) (a0 : Nat) (hth : jTh hs a0 7) : ∀ (x1 : Int32) (x3 : Int32) (x5 : Int32), ∀ (h : jH) (H : Heap) (locs : List Loc) (cells slots : Nat) (ls : Array Slot), (fX7_livesWeek_86 N a0 x1 x3 x5).1 h = some (r, h') → jS D dA H0 hs h H locs cells slots → lv_has ls 6 [(0, .ref a0), (1, .int x1), (3, .int x3), (5, .int x5)] → W p l e { frames := 2, cells := mc, slots := ms, locals := 50 } s m args below meth c H locs cells slots (jQ D dA H0 below s (.returned (some (.int r))) h' mc ms) (F0 m 86 ls []) := by
  have hx := cx.1
  have hb := cx.2.1
  have hown := cx.2.2.2.1
  have hts := cx.2.2.2.2.1
  have hm : h'.2.2.1 ≤ hs.2.2.1 + mc ∧ h'.2.2.2.1 ≤ hs.2.2.2.1 + ms := ⟨Nat.le_of_eq e1, Nat.le_of_eq e2⟩
  intro x1 x3 x5 h H locs cells slots ls hf hS hl
  unfold fX7_livesWeek_86 at hf
  refine lv_iload (pc := 86) hx hb dX7_livesWeek_86 (lv_at hl 3 rfl) ?_
  refine lv_iconst (pc := 88) (v := 2) hx hb dX7_livesWeek_88 rfl ?_
  refine lv_icmp_ge (pc := 89) (tgt := 129) hx hb dX7_livesWeek_89 (by decide) (fun hc => ?_) (fun hc => ?_)
  · have hf := jI_t hf hc
    exact wX7_livesWeek_129 cx e1 e2 a0 hth _ _ _ _ _ _ _ hf hS (lv_sub hl [0, 1] rfl)
  · have hf := jI_f hf hc
    refine lv_aload_n (pc := 92) hx hb dX7_livesWeek_92 rfl (lv_at hl 0 rfl) ?_
    refine lv_iload_n (pc := 93) hx hb dX7_livesWeek_93 rfl (lv_at hl 2 rfl) ?_
    refine lv_iload (pc := 94) hx hb dX7_livesWeek_94 (lv_at hl 3 rfl) ?_
    refine lv_if_ne (pc := 96) (tgt := 104) hx hb dX7_livesWeek_96 (by decide) (fun hc => ?_) (fun hc => ?_)
    · have hf := jI_f hf hc
      refine lv_bipush (pc := 104) (v := 9) hx hb dX7_livesWeek_104 rfl ?_
      exact wX7_livesWeek_106 cx e1 e2 a0 hth _ _ _ _ _ _ _ _ _ _ _ hf hS hl
    · have hf := jI_t hf hc
      refine lv_bipush (pc := 99) (v := 63) hx hb dX7_livesWeek_99 rfl ?_
      refine lv_goto (pc := 101) (tgt := 106) hx hb dX7_livesWeek_101 (by decide) ?_
      exact wX7_livesWeek_106 cx e1 e2 a0 hth _ _ _ _ _ _ _ _ _ _ _ hf hS hl
theorem wX7_livesWeek_72 {N : Nat} {r : Int32} (cx : jCx p s m args meth c cX7_livesWeek "WornSkinModel" 6 (Option.some Jvm.ClassFile.FieldType.boolean) D dA H0 hs.2.2.2.2) (e1 : h'.2.2.1 = hs.2.2.1 + mc) (e2 : h'.2.2.2.1 = hs.2.2.2.1 + ms) (a0 : Nat) (hth : jTh hs a0 7) : ∀ (x1 : Int32) (x2 : Int32) (x3 : Int32) (x4 : Int32) (v0 : Int32), ∀ (h : jH) (H : Heap) (locs : List Loc) (cells slots : Nat) (ls : Array Slot), (fX7_livesWeek_72 N a0 x1 x2 x3 x4 v0).1 h = some (r, h') → jS D dA H0 hs h H locs cells slots → lv_has ls 6 [(0, .ref a0), (1, .int x1), (2, .int x2), (3, .int x3), (4, .int x4)] → W p l e { frames := 2, cells := mc, slots := ms, locals := 50 } s m args below meth c H locs cells slots (jQ D dA H0 below s (.returned (some (.int r))) h' mc ms) (F0 m 72 ls [.int v0]) := by
  have hx := cx.1
  have hb := cx.2.1
  have hown := cx.2.2.2.1
  have hts := cx.2.2.2.2.1
  have hm : h'.2.2.1 ≤ hs.2.2.1 + mc ∧ h'.2.2.2.1 ≤ hs.2.2.2.1 + ms := ⟨Nat.le_of_eq e1, Nat.le_of_eq e2⟩
  intro x1 x2 x3 x4 v0 h H locs cells slots ls hf hS hl
  unfold fX7_livesWeek_72 at hf
  refine lv_istore (pc := 72) (i := 5) (lv' := [(5, .int v0), (0, .ref a0), (1, .int x1), (2, .int x2), (3, .int x3), (4, .int x4)]) hx hb dX7_livesWeek_72 hl (Nat.le_of_ble_eq_true rfl) rfl (fun ls hl => ?_)
  refine lv_iload_n (pc := 74) hx hb dX7_livesWeek_74 rfl (lv_at hl 2 rfl) ?_
  refine lv_if_eq (pc := 75) (tgt := 86) hx hb dX7_livesWeek_75 (by decide) (fun hc => ?_) (fun hc => ?_)
  · have hf := jI_t hf hc
    exact wX7_livesWeek_86 cx e1 e2 a0 hth _ _ _ _ _ _ _ _ _ hf hS (lv_sub hl [1, 2, 4, 0] rfl)
  · have hf := jI_f hf hc
    refine lv_aload_n (pc := 78) hx hb dX7_livesWeek_78 rfl (lv_at hl 1 rfl) ?_
    refine lv_iload_n (pc := 79) hx hb dX7_livesWeek_79 rfl (lv_at hl 3 rfl) ?_
    refine lv_iload_n (pc := 80) hx hb dX7_livesWeek_80 rfl (lv_at hl 4 rfl) ?_
    refine lv_iload (pc := 81) hx hb dX7_livesWeek_81 (lv_at hl 5 rfl) ?_
    obtain ⟨_, h1, e9, hf⟩ := jB_some hf
    refine j_callV (pc := 83) (st1 := []) (As := [.int x2, .int x3, .int x4]) (rest := []) cx hS rfl hl.1 hm (metX7_writes l _ _ _ _ _ _ _ _ (hth.at hS) e9) (jle hf) (hth.at hS) rfl (lw_V q2128 q2130 qs96 q123 q2131) pdX7_writes rfl rfl (Nat.le_of_ble_eq_true rfl) ⟨Nat.le_of_ble_eq_true rfl, Nat.le_of_ble_eq_true rfl⟩ dX7_livesWeek_83 rfl (fun H locs cells slots hS => ?_)
    exact wX7_livesWeek_86 cx e1 e2 a0 hth _ _ _ _ _ _ _ _ _ hf hS (lv_sub hl [1, 2, 4, 0] rfl)
theorem wX7_livesWeek_0 {N : Nat} {r : Int32} (cx : jCx p s m args meth c cX7_livesWeek "WornSkinModel" 6 (Option.some Jvm.ClassFile.FieldType.boolean) D dA H0 hs.2.2.2.2) (e1 : h'.2.2.1 = hs.2.2.1 + mc) (e2 : h'.2.2.2.1 = hs.2.2.2.1 + ms) (a0 : Nat) (hth : jTh hs a0 7) : ∀ (h : jH) (H : Heap) (locs : List Loc) (cells slots : Nat) (ls : Array Slot), (fX7_livesWeek N a0).1 h = some (r, h') → jS D dA H0 hs h H locs cells slots → lv_has ls 6 [(0, .ref a0)] → W p l e { frames := 2, cells := mc, slots := ms, locals := 50 } s m args below meth c H locs cells slots (jQ D dA H0 below s (.returned (some (.int r))) h' mc ms) (F0 m 0 ls []) := by
  have hx := cx.1
  have hb := cx.2.1
  have hown := cx.2.2.2.1
  have hts := cx.2.2.2.2.1
  have hm : h'.2.2.1 ≤ hs.2.2.1 + mc ∧ h'.2.2.2.1 ≤ hs.2.2.2.1 + ms := ⟨Nat.le_of_eq e1, Nat.le_of_eq e2⟩
  intro h H locs cells slots ls hf hS hl
  unfold fX7_livesWeek at hf
  refine lv_iconst (pc := 0) (v := 0) hx hb dX7_livesWeek_0 rfl ?_
  refine lv_istore_n (pc := 1) (i := 1) (lv' := [(1, .int 0), (0, .ref a0)]) hx hb dX7_livesWeek_1 rfl hl (Nat.le_of_ble_eq_true rfl) rfl (fun ls hl => ?_)
  refine lv_aload_n (pc := 2) hx hb dX7_livesWeek_2 rfl (lv_at hl 1 rfl) ?_
  refine j_gR (pc := 3) cx hS hf fd_WornSkinModel_library q1694 dX7_livesWeek_3 (fun y1 hf => ?_)
  refine lv_iconst (pc := 6) (v := 1) hx hb dX7_livesWeek_6 rfl ?_
  refine j_aI (pc := 7) cx hS hf rfl dX7_livesWeek_7 (fun y2 hf => ?_)
  refine lv_if_le (pc := 8) (tgt := 129) hx hb dX7_livesWeek_8 (by decide) (fun hc => ?_) (fun hc => ?_)
  · have hf := jI_t hf hc
    exact wX7_livesWeek_129 cx e1 e2 a0 hth _ _ _ _ _ _ _ hf hS (lv_sub hl [1, 0] rfl)
  · have hf := jI_f hf hc
    refine lv_aload_n (pc := 11) hx hb dX7_livesWeek_11 rfl (lv_at hl 1 rfl) ?_
    refine j_gR (pc := 12) cx hS hf fd_WornSkinModel_library q1694 dX7_livesWeek_12 (fun y3 hf => ?_)
    refine lv_iconst (pc := 15) (v := 0) hx hb dX7_livesWeek_15 rfl ?_
    refine j_aI (pc := 16) cx hS hf rfl dX7_livesWeek_16 (fun y4 hf => ?_)
    refine lv_if_le (pc := 17) (tgt := 129) hx hb dX7_livesWeek_17 (by decide) (fun hc => ?_) (fun hc => ?_)
    · have hf := jI_t hf hc
      exact wX7_livesWeek_129 cx e1 e2 a0 hth _ _ _ _ _ _ _ hf hS (lv_sub hl [1, 0] rfl)
    · have hf := jI_f hf hc
      refine lv_aload_n (pc := 20) hx hb dX7_livesWeek_20 rfl (lv_at hl 1 rfl) ?_
      refine lv_aload_n (pc := 21) hx hb dX7_livesWeek_21 rfl (lv_at hl 1 rfl) ?_
      refine j_gR (pc := 22) cx hS hf fd_WornSkinModel_library q1694 dX7_livesWeek_22 (fun y5 hf => ?_)
      refine lv_iconst (pc := 25) (v := 1) hx hb dX7_livesWeek_25 rfl ?_
      refine j_aI (pc := 26) cx hS hf rfl dX7_livesWeek_26 (fun y6 hf => ?_)
      obtain ⟨y7, h1, e9, hf⟩ := jB_some hf
      refine j_callV (pc := 27) (st1 := [.int y7]) (As := [.int y6]) (rest := []) cx hS rfl hl.1 hm (metX7_draws l _ _ _ _ _ (hth.at hS) e9) (jle hf) (hth.at hS) rfl (lw_V q2280 q2282 qs107 q123 q2283) pdX7_draws rfl rfl (Nat.le_of_ble_eq_true rfl) ⟨Nat.le_of_ble_eq_true rfl, Nat.le_of_ble_eq_true rfl⟩ dX7_livesWeek_27 rfl (fun H locs cells slots hS => ?_)
      refine lv_istore_n (pc := 30) (i := 2) (lv' := [(2, .int y7), (1, .int 0), (0, .ref a0)]) hx hb dX7_livesWeek_30 rfl hl (Nat.le_of_ble_eq_true rfl) rfl (fun ls hl => ?_)
      refine lv_aload_n (pc := 31) hx hb dX7_livesWeek_31 rfl (lv_at hl 2 rfl) ?_
      refine lv_aload_n (pc := 32) hx hb dX7_livesWeek_32 rfl (lv_at hl 2 rfl) ?_
      refine j_gR (pc := 33) cx hS hf fd_WornSkinModel_library q1694 dX7_livesWeek_33 (fun y8 hf => ?_)
      refine lv_iconst (pc := 36) (v := 0) hx hb dX7_livesWeek_36 rfl ?_
      refine j_aI (pc := 37) cx hS hf rfl dX7_livesWeek_37 (fun y9 hf => ?_)
      obtain ⟨y10, h1, e9, hf⟩ := jB_some hf
      refine j_callV (pc := 38) (st1 := [.int y10]) (As := [.int y9]) (rest := []) cx hS rfl hl.1 hm (metX7_draws l _ _ _ _ _ (hth.at hS) e9) (jle hf) (hth.at hS) rfl (lw_V q2280 q2282 qs107 q123 q2283) pdX7_draws rfl rfl (Nat.le_of_ble_eq_true rfl) ⟨Nat.le_of_ble_eq_true rfl, Nat.le_of_ble_eq_true rfl⟩ dX7_livesWeek_38 rfl (fun H locs cells slots hS => ?_)
      refine lv_istore_n (pc := 41) (i := 3) (lv' := [(3, .int y10), (2, .int y7), (1, .int 0), (0, .ref a0)]) hx hb dX7_livesWeek_41 rfl hl (Nat.le_of_ble_eq_true rfl) rfl (fun ls hl => ?_)
      refine lv_aload_n (pc := 42) hx hb dX7_livesWeek_42 rfl (lv_at hl 3 rfl) ?_
      refine lv_bipush (pc := 43) (v := 6) hx hb dX7_livesWeek_43 rfl ?_
      obtain ⟨y11, h1, e9, hf⟩ := jB_some hf
      refine j_callV (pc := 45) (st1 := [.int y11]) (As := [.int 6]) (rest := []) cx hS rfl hl.1 hm (metX7_draws l _ _ _ _ _ (hth.at hS) e9) (jle hf) (hth.at hS) rfl (lw_V q2280 q2282 qs107 q123 q2283) pdX7_draws rfl rfl (Nat.le_of_ble_eq_true rfl) ⟨Nat.le_of_ble_eq_true rfl, Nat.le_of_ble_eq_true rfl⟩ dX7_livesWeek_45 rfl (fun H locs cells slots hS => ?_)
      refine lv_istore (pc := 48) (i := 4) (lv' := [(4, .int y11), (3, .int y10), (2, .int y7), (1, .int 0), (0, .ref a0)]) hx hb dX7_livesWeek_48 hl (Nat.le_of_ble_eq_true rfl) rfl (fun ls hl => ?_)
      refine lv_aload_n (pc := 50) hx hb dX7_livesWeek_50 rfl (lv_at hl 4 rfl) ?_
      refine lv_iload_n (pc := 51) hx hb dX7_livesWeek_51 rfl (lv_at hl 2 rfl) ?_
      refine lv_iload_n (pc := 52) hx hb dX7_livesWeek_52 rfl (lv_at hl 1 rfl) ?_
      refine lv_iload (pc := 53) hx hb dX7_livesWeek_53 (lv_at hl 0 rfl) ?_
      obtain ⟨y12, h1, e9, hf⟩ := jB_some hf
      refine j_callV (pc := 55) (st1 := [.int y12]) (As := [.int y7, .int y10, .int y11]) (rest := []) cx hS rfl hl.1 hm (metX7_canWrite l _ _ _ _ _ _ _ _ (hth.at hS) e9) (jle hf) (hth.at hS) rfl (lw_V q2116 q2118 qs94 q123 q2119) pdX7_canWrite rfl rfl (Nat.le_of_ble_eq_true rfl) ⟨Nat.le_of_ble_eq_true rfl, Nat.le_of_ble_eq_true rfl⟩ dX7_livesWeek_55 rfl (fun H locs cells slots hS => ?_)
      refine lv_istore_n (pc := 58) (i := 1) (lv' := [(1, .int y12), (4, .int y11), (3, .int y10), (2, .int y7), (0, .ref a0)]) hx hb dX7_livesWeek_58 rfl hl (Nat.le_of_ble_eq_true rfl) rfl (fun ls hl => ?_)
      refine lv_iload_n (pc := 59) hx hb dX7_livesWeek_59 rfl (lv_at hl 0 rfl) ?_
      refine lv_if_eq (pc := 60) (tgt := 67) hx hb dX7_livesWeek_60 (by decide) (fun hc => ?_) (fun hc => ?_)
      · have hf := jI_t hf hc
        refine lv_aload_n (pc := 67) hx hb dX7_livesWeek_67 rfl (lv_at hl 4 rfl) ?_
        refine lv_iconst (pc := 68) (v := 3) hx hb dX7_livesWeek_68 rfl ?_
        obtain ⟨y13, h1, e9, hf⟩ := jB_some hf
        refine j_callV (pc := 69) (st1 := [.int y13]) (As := [.int 3]) (rest := []) cx hS rfl hl.1 hm (metX7_draws l _ _ _ _ _ (hth.at hS) e9) (jle hf) (hth.at hS) rfl (lw_V q2280 q2282 qs107 q123 q2283) pdX7_draws rfl rfl (Nat.le_of_ble_eq_true rfl) ⟨Nat.le_of_ble_eq_true rfl, Nat.le_of_ble_eq_true rfl⟩ dX7_livesWeek_69 rfl (fun H locs cells slots hS => ?_)
        exact wX7_livesWeek_72 cx e1 e2 a0 hth _ _ _ _ _ _ _ _ _ _ _ hf hS (lv_sub hl [4, 0, 3, 2, 1] rfl)
      · have hf := jI_f hf hc
        refine lv_iconst (pc := 63) (v := 2) hx hb dX7_livesWeek_63 rfl ?_
        refine lv_goto (pc := 64) (tgt := 72) hx hb dX7_livesWeek_64 (by decide) ?_
        exact wX7_livesWeek_72 cx e1 e2 a0 hth _ _ _ _ _ _ _ _ _ _ _ hf hS (lv_sub hl [4, 0, 3, 2, 1] rfl)
theorem metX7_livesWeek (l : Launch) (N : Nat) (a0 : Nat) (h h' : jH) (r : Int32) (hth : jcd h a0 = some 7) (hf : (fX7_livesWeek N a0).1 h = some (r, h')) : jMet l yX7_livesWeek (ws_ yX7_livesWeek cX7_livesWeek 6 (Option.some Jvm.ClassFile.FieldType.boolean)) (2) (50) [.ref a0] h h' (.returned (some (.int r))) := by
  refine jStart rfl (jle hf) (Nat.le_of_ble_eq_true rfl) ?_
  intro p e s m below meth c D dA H0 mc ms ls cx hnm e1 e2 hS hl
  have hth := jTh.mk hS hth
  exact wX7_livesWeek_0 cx e1 e2 a0 hth  _ _ _ _ _ _ hf hS hl
def fX7_allThick (a0 : Nat) : jM Int32 := jB (jgR [7] 48 (some a0)) fun y1 => jB (jaI 0 y1 1) fun y2 => jB (jgR [7] 48 (some a0)) fun y3 => jB (jaI 0 y3 2) fun y4 => jB (jgR [7] 48 (some a0)) fun y5 => jB (jaI 0 y5 3) fun y6 => jR ((y2 + y4) + y6)
theorem wX7_allThick_0 {r : Int32} (cx : jCx p s m args meth c cX7_allThick "WornSkinModel" 1 (Option.some Jvm.ClassFile.FieldType.int) D dA H0 hs.2.2.2.2) (e1 : h'.2.2.1 = hs.2.2.1 + mc) (e2 : h'.2.2.2.1 = hs.2.2.2.1 + ms) (a0 : Nat) (hth : jTh hs a0 7) : ∀ (h : jH) (H : Heap) (locs : List Loc) (cells slots : Nat) (ls : Array Slot), (fX7_allThick a0).1 h = some (r, h') → jS D dA H0 hs h H locs cells slots → lv_has ls 1 [(0, .ref a0)] → W p l e { frames := 0, cells := mc, slots := ms, locals := 0 } s m args below meth c H locs cells slots (jQ D dA H0 below s (.returned (some (.int r))) h' mc ms) (F0 m 0 ls []) := by
  have hx := cx.1
  have hb := cx.2.1
  have hown := cx.2.2.2.1
  have hts := cx.2.2.2.2.1
  have hm : h'.2.2.1 ≤ hs.2.2.1 + mc ∧ h'.2.2.2.1 ≤ hs.2.2.2.1 + ms := ⟨Nat.le_of_eq e1, Nat.le_of_eq e2⟩
  intro h H locs cells slots ls hf hS hl
  unfold fX7_allThick at hf
  refine lv_aload_n (pc := 0) hx hb dX7_allThick_0 rfl (lv_at hl 0 rfl) ?_
  refine j_gR (pc := 1) cx hS hf fd_WornSkinModel_s q1732 dX7_allThick_1 (fun y1 hf => ?_)
  refine lv_iconst (pc := 4) (v := 1) hx hb dX7_allThick_4 rfl ?_
  refine j_aI (pc := 5) cx hS hf rfl dX7_allThick_5 (fun y2 hf => ?_)
  refine lv_aload_n (pc := 6) hx hb dX7_allThick_6 rfl (lv_at hl 0 rfl) ?_
  refine j_gR (pc := 7) cx hS hf fd_WornSkinModel_s q1732 dX7_allThick_7 (fun y3 hf => ?_)
  refine lv_iconst (pc := 10) (v := 2) hx hb dX7_allThick_10 rfl ?_
  refine j_aI (pc := 11) cx hS hf rfl dX7_allThick_11 (fun y4 hf => ?_)
  refine lv_iadd (pc := 12) hx hb dX7_allThick_12 ?_
  refine lv_aload_n (pc := 13) hx hb dX7_allThick_13 rfl (lv_at hl 0 rfl) ?_
  refine j_gR (pc := 14) cx hS hf fd_WornSkinModel_s q1732 dX7_allThick_14 (fun y5 hf => ?_)
  refine lv_iconst (pc := 17) (v := 3) hx hb dX7_allThick_17 rfl ?_
  refine j_aI (pc := 18) cx hS hf rfl dX7_allThick_18 (fun y6 hf => ?_)
  refine lv_iadd (pc := 19) hx hb dX7_allThick_19 ?_
  exact j_iret (pc := 20) cx hS hf e1 e2 dX7_allThick_20
theorem metX7_allThick (l : Launch) (a0 : Nat) (h h' : jH) (r : Int32) (hth : jcd h a0 = some 7) (hf : (fX7_allThick a0).1 h = some (r, h')) : jMet l yX7_allThick (ws_ yX7_allThick cX7_allThick 1 (Option.some Jvm.ClassFile.FieldType.int)) (0) (0) [.ref a0] h h' (.returned (some (.int r))) := by
  refine jStart rfl (jle hf) (Nat.le_of_ble_eq_true rfl) ?_
  intro p e s m below meth c D dA H0 mc ms ls cx hnm e1 e2 hS hl
  have hth := jTh.mk hS hth
  exact wX7_allThick_0 cx e1 e2 a0 hth  _ _ _ _ _ _ hf hS hl
def fX7_years_137 (N : Nat) (a0 : Nat) (v0 : Int32) : jM Int32 := jR v0
def fX7_years_91 (N : Nat) (a0 : Nat) (x3 : Int32) (x4 : Int32) : jM Int32 := jB (fX7_wholeNow N a0) fun y1 => jB (fX7_allThick a0) fun y2 => jB (jgR [7] 49 (some a0)) fun y3 => jB (jgR [7] 48 (some a0)) fun y4 => jB (fX7_copies N y3 0 y4 0) fun _ => if x3 = 0 then (fX7_years_137 N a0 x4) else (if x3 = 1 then (fX7_years_137 N a0 y1) else (fX7_years_137 N a0 y2))
def fX7_years_82 (N : Nat) (k62 : Int32 → Int32 → Int32 → Int32 → jM Int32) (a0 : Nat) (x2 : Int32) (x3 : Int32) (x5 : Int32) (v0 : Int32) (v1 : Int32) : jM Int32 := k62 x2 x3 (v0 + v1) (x5 + 1)
def fX7_years_62 (N : Nat) (a0 : Nat) : Nat → Int32 → Int32 → Int32 → Int32 → jM Int32
  | 0, _, _, _, _ => jE
  | n + 1, x2, x3, x4, x5 => if x2 ≤ x5 then (fX7_years_91 N a0 x3 x4) else (jB (fX7_livesWeek N a0) fun y1 => if y1 = 0 then (fX7_years_82 N (fX7_years_62 N a0 n) a0 x2 x3 x5 x4 0) else (fX7_years_82 N (fX7_years_62 N a0 n) a0 x2 x3 x5 x4 1))
def fX7_years_35 (N : Nat) (a0 : Nat) : jM Int32 := jR (-1)
def fX7_years (N : Nat) (a0 : Nat) (x1 : Int32) (x2 : Int32) (x3 : Int32) : jM Int32 := jB (jpI [7] 0 (some a0) 0) fun _ => jB (fX7_within x1 0 9999) fun y1 => if y1 = 0 then (fX7_years_35 N a0) else (jB (fX7_within x2 1 99) fun y2 => if y2 = 0 then (fX7_years_35 N a0) else (jB (fX7_within x3 0 2) fun y3 => if y3 = 0 then (fX7_years_35 N a0) else (jB (jpL [7] 58 (some a0) (x1.toInt64)) fun _ => jB (jgR [7] 48 (some a0)) fun y4 => jB (jgR [7] 49 (some a0)) fun y5 => jB (fX7_copies N y4 0 y5 0) fun _ => fX7_years_62 N a0 N x2 x3 0 0)))
theorem wX7_years_137 {N : Nat} {r : Int32} (cx : jCx p s m args meth c cX7_years "WornSkinModel" 7 (Option.some Jvm.ClassFile.FieldType.int) D dA H0 hs.2.2.2.2) (e1 : h'.2.2.1 = hs.2.2.1 + mc) (e2 : h'.2.2.2.1 = hs.2.2.2.1 + ms) (a0 : Nat) (hth : jTh hs a0 7) : ∀ (v0 : Int32), ∀ (h : jH) (H : Heap) (locs : List Loc) (cells slots : Nat) (ls : Array Slot), (fX7_years_137 N a0 v0).1 h = some (r, h') → jS D dA H0 hs h H locs cells slots → lv_has ls 7 [(0, .ref a0)] → W p l e { frames := 7, cells := mc, slots := ms, locals := 167 } s m args below meth c H locs cells slots (jQ D dA H0 below s (.returned (some (.int r))) h' mc ms) (F0 m 137 ls [.int v0]) := by
  have hx := cx.1
  have hb := cx.2.1
  have hown := cx.2.2.2.1
  have hts := cx.2.2.2.2.1
  have hm : h'.2.2.1 ≤ hs.2.2.1 + mc ∧ h'.2.2.2.1 ≤ hs.2.2.2.1 + ms := ⟨Nat.le_of_eq e1, Nat.le_of_eq e2⟩
  intro v0 h H locs cells slots ls hf hS hl
  unfold fX7_years_137 at hf
  exact j_iret (pc := 137) cx hS hf e1 e2 dX7_years_137
theorem wX7_years_91 {N : Nat} {r : Int32} (cx : jCx p s m args meth c cX7_years "WornSkinModel" 7 (Option.some Jvm.ClassFile.FieldType.int) D dA H0 hs.2.2.2.2) (e1 : h'.2.2.1 = hs.2.2.1 + mc) (e2 : h'.2.2.2.1 = hs.2.2.2.1 + ms) (a0 : Nat) (hth : jTh hs a0 7) : ∀ (x3 : Int32) (x4 : Int32), ∀ (h : jH) (H : Heap) (locs : List Loc) (cells slots : Nat) (ls : Array Slot), (fX7_years_91 N a0 x3 x4).1 h = some (r, h') → jS D dA H0 hs h H locs cells slots → lv_has ls 7 [(0, .ref a0), (3, .int x3), (4, .int x4)] → W p l e { frames := 7, cells := mc, slots := ms, locals := 167 } s m args below meth c H locs cells slots (jQ D dA H0 below s (.returned (some (.int r))) h' mc ms) (F0 m 91 ls []) := by
  have hx := cx.1
  have hb := cx.2.1
  have hown := cx.2.2.2.1
  have hts := cx.2.2.2.2.1
  have hm : h'.2.2.1 ≤ hs.2.2.1 + mc ∧ h'.2.2.2.1 ≤ hs.2.2.2.1 + ms := ⟨Nat.le_of_eq e1, Nat.le_of_eq e2⟩
  intro x3 x4 h H locs cells slots ls hf hS hl
  unfold fX7_years_91 at hf
  refine lv_aload_n (pc := 91) hx hb dX7_years_91 rfl (lv_at hl 0 rfl) ?_
  obtain ⟨y1, h1, e9, hf⟩ := jB_some hf
  refine j_callV (pc := 92) (st1 := [.int y1]) (As := []) (rest := []) cx hS rfl hl.1 hm (metX7_wholeNow l _ _ _ _ _ (hth.at hS) e9) (jle hf) (hth.at hS) rfl (lw_V q2075 q2077 qs90 q123 q2078) pdX7_wholeNow rfl rfl (Nat.le_of_ble_eq_true rfl) ⟨Nat.le_of_ble_eq_true rfl, Nat.le_of_ble_eq_true rfl⟩ dX7_years_92 rfl (fun H locs cells slots hS => ?_)
  refine lv_istore (pc := 95) (i := 5) (lv' := [(5, .int y1), (0, .ref a0), (3, .int x3), (4, .int x4)]) hx hb dX7_years_95 hl (Nat.le_of_ble_eq_true rfl) rfl (fun ls hl => ?_)
  refine lv_aload_n (pc := 97) hx hb dX7_years_97 rfl (lv_at hl 1 rfl) ?_
  obtain ⟨y2, h1, e9, hf⟩ := jB_some hf
  refine j_callV (pc := 98) (st1 := [.int y2]) (As := []) (rest := []) cx hS rfl hl.1 hm (metX7_allThick l _ _ _ _ (hth.at hS) e9) (jle hf) (hth.at hS) rfl (lw_V q2288 q2290 qs108 q123 q2291) pdX7_allThick rfl rfl (Nat.le_of_ble_eq_true rfl) ⟨Nat.le_of_ble_eq_true rfl, Nat.le_of_ble_eq_true rfl⟩ dX7_years_98 rfl (fun H locs cells slots hS => ?_)
  refine lv_istore (pc := 101) (i := 6) (lv' := [(6, .int y2), (5, .int y1), (0, .ref a0), (3, .int x3), (4, .int x4)]) hx hb dX7_years_101 hl (Nat.le_of_ble_eq_true rfl) rfl (fun ls hl => ?_)
  refine lv_aload_n (pc := 103) hx hb dX7_years_103 rfl (lv_at hl 2 rfl) ?_
  refine j_gR (pc := 104) cx hS hf fd_WornSkinModel_aside q1733 dX7_years_104 (fun y3 hf => ?_)
  refine lv_iconst (pc := 107) (v := 0) hx hb dX7_years_107 rfl ?_
  refine lv_aload_n (pc := 108) hx hb dX7_years_108 rfl (lv_at hl 2 rfl) ?_
  refine j_gR (pc := 109) cx hS hf fd_WornSkinModel_s q1732 dX7_years_109 (fun y4 hf => ?_)
  refine lv_iconst (pc := 112) (v := 0) hx hb dX7_years_112 rfl ?_
  obtain ⟨_, h1, e9, hf⟩ := jB_some hf
  refine j_callS (pc := 113) (st1 := []) (As := [va_rf y3, .int 0, va_rf y4, .int 0]) (rest := []) cx hS rfl hl.1 hm (metX7_copies l _ _ _ _ _ _ _ _ e9) (jle hf) (lw_S q2125 q2126 q123 q2127) pdX7_copies rfl rfl (Nat.le_of_ble_eq_true rfl) ⟨Nat.le_of_ble_eq_true rfl, Nat.le_of_ble_eq_true rfl⟩ dX7_years_113 rfl (fun H locs cells slots hS => ?_)
  refine lv_iload_n (pc := 116) hx hb dX7_years_116 rfl (lv_at hl 3 rfl) ?_
  refine lv_if_ne (pc := 117) (tgt := 125) hx hb dX7_years_117 (by decide) (fun hc => ?_) (fun hc => ?_)
  · have hf := jI_f hf hc
    refine lv_iload_n (pc := 125) hx hb dX7_years_125 rfl (lv_at hl 3 rfl) ?_
    refine lv_iconst (pc := 126) (v := 1) hx hb dX7_years_126 rfl ?_
    refine lv_icmp_ne (pc := 127) (tgt := 135) hx hb dX7_years_127 (by decide) (fun hc => ?_) (fun hc => ?_)
    · have hf := jI_f hf hc
      refine lv_iload (pc := 135) hx hb dX7_years_135 (lv_at hl 0 rfl) ?_
      exact wX7_years_137 cx e1 e2 a0 hth _ _ _ _ _ _ _ hf hS (lv_sub hl [2] rfl)
    · have hf := jI_t hf hc
      refine lv_iload (pc := 130) hx hb dX7_years_130 (lv_at hl 1 rfl) ?_
      refine lv_goto (pc := 132) (tgt := 137) hx hb dX7_years_132 (by decide) ?_
      exact wX7_years_137 cx e1 e2 a0 hth _ _ _ _ _ _ _ hf hS (lv_sub hl [2] rfl)
  · have hf := jI_t hf hc
    refine lv_iload (pc := 120) hx hb dX7_years_120 (lv_at hl 4 rfl) ?_
    refine lv_goto (pc := 122) (tgt := 137) hx hb dX7_years_122 (by decide) ?_
    exact wX7_years_137 cx e1 e2 a0 hth _ _ _ _ _ _ _ hf hS (lv_sub hl [2] rfl)
theorem wX7_years_82 {N : Nat} {k62 : Int32 → Int32 → Int32 → Int32 → jM Int32} {r : Int32} (cx : jCx p s m args meth c cX7_years "WornSkinModel" 7 (Option.some Jvm.ClassFile.FieldType.int) D dA H0 hs.2.2.2.2) (e1 : h'.2.2.1 = hs.2.2.1 + mc) (e2 : h'.2.2.2.1 = hs.2.2.2.1 + ms) (a0 : Nat) (hth : jTh hs a0 7) (hk62 : ∀ (x2 : Int32) (x3 : Int32) (x4 : Int32) (x5 : Int32), ∀ (h : jH) (H : Heap) (locs : List Loc) (cells slots : Nat) (ls : Array Slot), (k62 x2 x3 x4 x5).1 h = some (r, h') → jS D dA H0 hs h H locs cells slots → lv_has ls 7 [(0, .ref a0), (2, .int x2), (3, .int x3), (4, .int x4), (5, .int x5)] → W p l e { frames := 7, cells := mc, slots := ms, locals := 167 } s m args below meth c H locs cells slots (jQ D dA H0 below s (.returned (some (.int r))) h' mc ms) (F0 m 62 ls [])) : ∀ (x2 : Int32) (x3 : Int32) (x5 : Int32) (v0 : Int32) (v1 : Int32), ∀ (h : jH) (H : Heap) (locs : List Loc) (cells slots : Nat) (ls : Array Slot), (fX7_years_82 N k62 a0 x2 x3 x5 v0 v1).1 h = some (r, h') → jS D dA H0 hs h H locs cells slots → lv_has ls 7 [(0, .ref a0), (2, .int x2), (3, .int x3), (5, .int x5)] → W p l e { frames := 7, cells := mc, slots := ms, locals := 167 } s m args below meth c H locs cells slots (jQ D dA H0 below s (.returned (some (.int r))) h' mc ms) (F0 m 82 ls [.int v1, .int v0]) := by
  have hx := cx.1
  have hb := cx.2.1
  have hown := cx.2.2.2.1
  have hts := cx.2.2.2.2.1
  have hm : h'.2.2.1 ≤ hs.2.2.1 + mc ∧ h'.2.2.2.1 ≤ hs.2.2.2.1 + ms := ⟨Nat.le_of_eq e1, Nat.le_of_eq e2⟩
  intro x2 x3 x5 v0 v1 h H locs cells slots ls hf hS hl
  unfold fX7_years_82 at hf
  refine lv_iadd (pc := 82) hx hb dX7_years_82 ?_
  refine lv_istore (pc := 83) (i := 4) (lv' := [(4, .int (v0 + v1)), (0, .ref a0), (2, .int x2), (3, .int x3), (5, .int x5)]) hx hb dX7_years_83 hl (Nat.le_of_ble_eq_true rfl) rfl (fun ls hl => ?_)
  refine lv_iinc (pc := 85) (v := (x5 + 1)) (lv' := [(5, .int (x5 + 1)), (4, .int (v0 + v1)), (0, .ref a0), (2, .int x2), (3, .int x3)]) hx hb dX7_years_85 hl (k := 4) rfl rfl (Nat.le_of_ble_eq_true rfl) rfl (fun ls hl => ?_)
  refine lv_goto (pc := 88) (tgt := 62) hx hb dX7_years_88 (by decide) ?_
  exact hk62 _ _ _ _ _ _ _ _ _ _ hf hS (lv_sub hl [2, 3, 4, 1, 0] rfl)
theorem wX7_years_62 {N : Nat} {r : Int32} (cx : jCx p s m args meth c cX7_years "WornSkinModel" 7 (Option.some Jvm.ClassFile.FieldType.int) D dA H0 hs.2.2.2.2) (e1 : h'.2.2.1 = hs.2.2.1 + mc) (e2 : h'.2.2.2.1 = hs.2.2.2.1 + ms) (a0 : Nat) (hth : jTh hs a0 7) : ∀ (n : Nat) (x2 : Int32) (x3 : Int32) (x4 : Int32) (x5 : Int32), ∀ (h : jH) (H : Heap) (locs : List Loc) (cells slots : Nat) (ls : Array Slot), (fX7_years_62 N a0 n x2 x3 x4 x5).1 h = some (r, h') → jS D dA H0 hs h H locs cells slots → lv_has ls 7 [(0, .ref a0), (2, .int x2), (3, .int x3), (4, .int x4), (5, .int x5)] → W p l e { frames := 7, cells := mc, slots := ms, locals := 167 } s m args below meth c H locs cells slots (jQ D dA H0 below s (.returned (some (.int r))) h' mc ms) (F0 m 62 ls []) := by
  have hx := cx.1
  have hb := cx.2.1
  have hown := cx.2.2.2.1
  have hts := cx.2.2.2.2.1
  have hm : h'.2.2.1 ≤ hs.2.2.1 + mc ∧ h'.2.2.2.1 ≤ hs.2.2.2.1 + ms := ⟨Nat.le_of_eq e1, Nat.le_of_eq e2⟩
  intro n
  induction n with
  | zero =>
    intro x2 x3 x4 x5 h H locs cells slots ls hf hS hl
    exact jE_f hf
  | succ n ih =>
    intro x2 x3 x4 x5 h H locs cells slots ls hf hS hl
    unfold fX7_years_62 at hf
    refine lv_iload (pc := 62) hx hb dX7_years_62 (lv_at hl 4 rfl) ?_
    refine lv_iload_n (pc := 64) hx hb dX7_years_64 rfl (lv_at hl 1 rfl) ?_
    refine lv_icmp_ge (pc := 65) (tgt := 91) hx hb dX7_years_65 (by decide) (fun hc => ?_) (fun hc => ?_)
    · have hf := jI_t hf hc
      exact wX7_years_91 cx e1 e2 a0 hth _ _ _ _ _ _ _ _ hf hS (lv_sub hl [0, 2, 3] rfl)
    · have hf := jI_f hf hc
      refine lv_iload (pc := 68) hx hb dX7_years_68 (lv_at hl 3 rfl) ?_
      refine lv_aload_n (pc := 70) hx hb dX7_years_70 rfl (lv_at hl 0 rfl) ?_
      obtain ⟨y1, h1, e9, hf⟩ := jB_some hf
      refine j_callV (pc := 71) (st1 := [.int y1, .int x4]) (As := []) (rest := [.int x4]) cx hS rfl hl.1 hm (metX7_livesWeek l _ _ _ _ _ (hth.at hS) e9) (jle hf) (hth.at hS) rfl (lw_V q2276 q2278 qs106 q123 q2279) pdX7_livesWeek rfl rfl (Nat.le_of_ble_eq_true rfl) ⟨Nat.le_of_ble_eq_true rfl, Nat.le_of_ble_eq_true rfl⟩ dX7_years_71 rfl (fun H locs cells slots hS => ?_)
      refine lv_if_eq (pc := 74) (tgt := 81) hx hb dX7_years_74 (by decide) (fun hc => ?_) (fun hc => ?_)
      · have hf := jI_t hf hc
        refine lv_iconst (pc := 81) (v := 0) hx hb dX7_years_81 rfl ?_
        exact wX7_years_82 cx e1 e2 a0 hth ih _ _ _ _ _ _ _ _ _ _ _ hf hS (lv_sub hl [0, 1, 2, 4] rfl)
      · have hf := jI_f hf hc
        refine lv_iconst (pc := 77) (v := 1) hx hb dX7_years_77 rfl ?_
        refine lv_goto (pc := 78) (tgt := 82) hx hb dX7_years_78 (by decide) ?_
        exact wX7_years_82 cx e1 e2 a0 hth ih _ _ _ _ _ _ _ _ _ _ _ hf hS (lv_sub hl [0, 1, 2, 4] rfl)
theorem wX7_years_35 {N : Nat} {r : Int32} (cx : jCx p s m args meth c cX7_years "WornSkinModel" 7 (Option.some Jvm.ClassFile.FieldType.int) D dA H0 hs.2.2.2.2) (e1 : h'.2.2.1 = hs.2.2.1 + mc) (e2 : h'.2.2.2.1 = hs.2.2.2.1 + ms) (a0 : Nat) (hth : jTh hs a0 7) : ∀ (h : jH) (H : Heap) (locs : List Loc) (cells slots : Nat) (ls : Array Slot), (fX7_years_35 N a0).1 h = some (r, h') → jS D dA H0 hs h H locs cells slots → lv_has ls 7 [(0, .ref a0)] → W p l e { frames := 7, cells := mc, slots := ms, locals := 167 } s m args below meth c H locs cells slots (jQ D dA H0 below s (.returned (some (.int r))) h' mc ms) (F0 m 35 ls []) := by
  have hx := cx.1
  have hb := cx.2.1
  have hown := cx.2.2.2.1
  have hts := cx.2.2.2.2.1
  have hm : h'.2.2.1 ≤ hs.2.2.1 + mc ∧ h'.2.2.2.1 ≤ hs.2.2.2.1 + ms := ⟨Nat.le_of_eq e1, Nat.le_of_eq e2⟩
  intro h H locs cells slots ls hf hS hl
  unfold fX7_years_35 at hf
  refine lv_iconst (pc := 35) (v := (-1)) hx hb dX7_years_35 rfl ?_
  exact j_iret (pc := 36) cx hS hf e1 e2 dX7_years_36
theorem wX7_years_0 {N : Nat} {r : Int32} (cx : jCx p s m args meth c cX7_years "WornSkinModel" 7 (Option.some Jvm.ClassFile.FieldType.int) D dA H0 hs.2.2.2.2) (e1 : h'.2.2.1 = hs.2.2.1 + mc) (e2 : h'.2.2.2.1 = hs.2.2.2.1 + ms) (a0 : Nat) (hth : jTh hs a0 7) : ∀ (x1 : Int32) (x2 : Int32) (x3 : Int32), ∀ (h : jH) (H : Heap) (locs : List Loc) (cells slots : Nat) (ls : Array Slot), (fX7_years N a0 x1 x2 x3).1 h = some (r, h') → jS D dA H0 hs h H locs cells slots → lv_has ls 7 [(0, .ref a0), (1, .int x1), (2, .int x2), (3, .int x3)] → W p l e { frames := 7, cells := mc, slots := ms, locals := 167 } s m args below meth c H locs cells slots (jQ D dA H0 below s (.returned (some (.int r))) h' mc ms) (F0 m 0 ls []) := by
  have hx := cx.1
  have hb := cx.2.1
  have hown := cx.2.2.2.1
  have hts := cx.2.2.2.2.1
  have hm : h'.2.2.1 ≤ hs.2.2.1 + mc ∧ h'.2.2.2.1 ≤ hs.2.2.2.1 + ms := ⟨Nat.le_of_eq e1, Nat.le_of_eq e2⟩
  intro x1 x2 x3 h H locs cells slots ls hf hS hl
  unfold fX7_years at hf
  refine lv_aload_n (pc := 0) hx hb dX7_years_0 rfl (lv_at hl 0 rfl) ?_
  refine lv_iconst (pc := 1) (v := 0) hx hb dX7_years_1 rfl ?_
  refine j_pI (pc := 2) cx hS hf fp_WornSkinModel_thrown (Or.inl rfl) q1684 dX7_years_2 (fun h H locs hf hS => ?_)
  refine lv_iload_n (pc := 5) hx hb dX7_years_5 rfl (lv_at hl 1 rfl) ?_
  refine lv_iconst (pc := 6) (v := 0) hx hb dX7_years_6 rfl ?_
  refine lv_sipush (pc := 7) (v := 9999) hx hb dX7_years_7 rfl ?_
  obtain ⟨y1, h1, e9, hf⟩ := jB_some hf
  refine j_callS (pc := 10) (st1 := [.int y1]) (As := [.int x1, .int 0, .int 9999]) (rest := []) cx hS rfl hl.1 hm (metX7_within l _ _ _ _ _ _ e9) (jle hf) (lw_S q1950 q1951 q123 q1952) pdX7_within rfl rfl (Nat.le_of_ble_eq_true rfl) ⟨Nat.le_of_ble_eq_true rfl, Nat.le_of_ble_eq_true rfl⟩ dX7_years_10 rfl (fun H locs cells slots hS => ?_)
  refine lv_if_eq (pc := 13) (tgt := 35) hx hb dX7_years_13 (by decide) (fun hc => ?_) (fun hc => ?_)
  · have hf := jI_t hf hc
    exact wX7_years_35 cx e1 e2 a0 hth _ _ _ _ _ _ hf hS (lv_sub hl [0] rfl)
  · have hf := jI_f hf hc
    refine lv_iload_n (pc := 16) hx hb dX7_years_16 rfl (lv_at hl 2 rfl) ?_
    refine lv_iconst (pc := 17) (v := 1) hx hb dX7_years_17 rfl ?_
    refine lv_bipush (pc := 18) (v := 99) hx hb dX7_years_18 rfl ?_
    obtain ⟨y2, h1, e9, hf⟩ := jB_some hf
    refine j_callS (pc := 20) (st1 := [.int y2]) (As := [.int x2, .int 1, .int 99]) (rest := []) cx hS rfl hl.1 hm (metX7_within l _ _ _ _ _ _ e9) (jle hf) (lw_S q1950 q1951 q123 q1952) pdX7_within rfl rfl (Nat.le_of_ble_eq_true rfl) ⟨Nat.le_of_ble_eq_true rfl, Nat.le_of_ble_eq_true rfl⟩ dX7_years_20 rfl (fun H locs cells slots hS => ?_)
    refine lv_if_eq (pc := 23) (tgt := 35) hx hb dX7_years_23 (by decide) (fun hc => ?_) (fun hc => ?_)
    · have hf := jI_t hf hc
      exact wX7_years_35 cx e1 e2 a0 hth _ _ _ _ _ _ hf hS (lv_sub hl [0] rfl)
    · have hf := jI_f hf hc
      refine lv_iload_n (pc := 26) hx hb dX7_years_26 rfl (lv_at hl 3 rfl) ?_
      refine lv_iconst (pc := 27) (v := 0) hx hb dX7_years_27 rfl ?_
      refine lv_iconst (pc := 28) (v := 2) hx hb dX7_years_28 rfl ?_
      obtain ⟨y3, h1, e9, hf⟩ := jB_some hf
      refine j_callS (pc := 29) (st1 := [.int y3]) (As := [.int x3, .int 0, .int 2]) (rest := []) cx hS rfl hl.1 hm (metX7_within l _ _ _ _ _ _ e9) (jle hf) (lw_S q1950 q1951 q123 q1952) pdX7_within rfl rfl (Nat.le_of_ble_eq_true rfl) ⟨Nat.le_of_ble_eq_true rfl, Nat.le_of_ble_eq_true rfl⟩ dX7_years_29 rfl (fun H locs cells slots hS => ?_)
      refine lv_if_ne (pc := 32) (tgt := 37) hx hb dX7_years_32 (by decide) (fun hc => ?_) (fun hc => ?_)
      · have hf := jI_f hf hc
        refine lv_aload_n (pc := 37) hx hb dX7_years_37 rfl (lv_at hl 0 rfl) ?_
        refine lv_iload_n (pc := 38) hx hb dX7_years_38 rfl (lv_at hl 1 rfl) ?_
        refine lv_i2l (pc := 39) (v := x1.toInt64) hx hb dX7_years_39 rfl ?_
        refine j_pL (pc := 40) cx hS hf fp_WornSkinModel_g (Or.inl rfl) q1742 dX7_years_40 (fun h H locs hf hS => ?_)
        refine lv_aload_n (pc := 43) hx hb dX7_years_43 rfl (lv_at hl 0 rfl) ?_
        refine j_gR (pc := 44) cx hS hf fd_WornSkinModel_s q1732 dX7_years_44 (fun y4 hf => ?_)
        refine lv_iconst (pc := 47) (v := 0) hx hb dX7_years_47 rfl ?_
        refine lv_aload_n (pc := 48) hx hb dX7_years_48 rfl (lv_at hl 0 rfl) ?_
        refine j_gR (pc := 49) cx hS hf fd_WornSkinModel_aside q1733 dX7_years_49 (fun y5 hf => ?_)
        refine lv_iconst (pc := 52) (v := 0) hx hb dX7_years_52 rfl ?_
        obtain ⟨_, h1, e9, hf⟩ := jB_some hf
        refine j_callS (pc := 53) (st1 := []) (As := [va_rf y4, .int 0, va_rf y5, .int 0]) (rest := []) cx hS rfl hl.1 hm (metX7_copies l _ _ _ _ _ _ _ _ e9) (jle hf) (lw_S q2125 q2126 q123 q2127) pdX7_copies rfl rfl (Nat.le_of_ble_eq_true rfl) ⟨Nat.le_of_ble_eq_true rfl, Nat.le_of_ble_eq_true rfl⟩ dX7_years_53 rfl (fun H locs cells slots hS => ?_)
        refine lv_iconst (pc := 56) (v := 0) hx hb dX7_years_56 rfl ?_
        refine lv_istore (pc := 57) (i := 4) (lv' := [(4, .int 0), (0, .ref a0), (1, .int x1), (2, .int x2), (3, .int x3)]) hx hb dX7_years_57 hl (Nat.le_of_ble_eq_true rfl) rfl (fun ls hl => ?_)
        refine lv_iconst (pc := 59) (v := 0) hx hb dX7_years_59 rfl ?_
        refine lv_istore (pc := 60) (i := 5) (lv' := [(5, .int 0), (4, .int 0), (0, .ref a0), (1, .int x1), (2, .int x2), (3, .int x3)]) hx hb dX7_years_60 hl (Nat.le_of_ble_eq_true rfl) rfl (fun ls hl => ?_)
        exact wX7_years_62 cx e1 e2 a0 hth N _ _ _ _ _ _ _ _ _ _ hf hS (lv_sub hl [2, 4, 5, 1, 0] rfl)
      · have hf := jI_t hf hc
        exact wX7_years_35 cx e1 e2 a0 hth _ _ _ _ _ _ hf hS (lv_sub hl [0] rfl)
theorem metX7_years (l : Launch) (N : Nat) (a0 : Nat) (x1 : Int32) (x2 : Int32) (x3 : Int32) (h h' : jH) (r : Int32) (hth : jcd h a0 = some 7) (hf : (fX7_years N a0 x1 x2 x3).1 h = some (r, h')) : jMet l yX7_years (ws_ yX7_years cX7_years 7 (Option.some Jvm.ClassFile.FieldType.int)) (7) (167) [.ref a0, .int x1, .int x2, .int x3] h h' (.returned (some (.int r))) := by
  refine jStart rfl (jle hf) (Nat.le_of_ble_eq_true rfl) ?_
  intro p e s m below meth c D dA H0 mc ms ls cx hnm e1 e2 hS hl
  have hth := jTh.mk hS hth
  exact wX7_years_0 cx e1 e2 a0 hth _ _ _ _ _ _ _ _ _ hf hS hl
def fX7_laysSeen_114 (N : Nat) (a0 : Nat) : jM Unit := jR ()
def fX7_laysSeen_14 (N : Nat) (a0 : Nat) : Nat → Int32 → Int32 → Int32 → jM Unit
  | 0, _, _, _ => jE
  | n + 1, x1, x2, x3 => if 8 ≤ x3 then (fX7_laysSeen_114 N a0) else (jB (jgR [7] 44 (some a0)) fun y1 => jB (jgR [7] 44 (some a0)) fun y2 => jB (jaI 0 y2 ((8 * x1) + x3)) fun y3 => jB (jsI 0 y1 ((8 * x2) + x3) y3) fun _ => jB (jgR [7] 45 (some a0)) fun y4 => jB (jgR [7] 45 (some a0)) fun y5 => jB (jaI 0 y5 ((8 * x1) + x3)) fun y6 => jB (jsI 0 y4 ((8 * x2) + x3) y6) fun _ => jB (jgR [7] 46 (some a0)) fun y7 => jB (jgR [7] 46 (some a0)) fun y8 => jB (jaI 0 y8 ((8 * x1) + x3)) fun y9 => jB (jsI 0 y7 ((8 * x2) + x3) y9) fun _ => jB (jgR [7] 47 (some a0)) fun y10 => jB (jgR [7] 47 (some a0)) fun y11 => jB (jaI 2 y11 ((8 * x1) + x3)) fun y12 => jB (jsZ 2 y10 ((8 * x2) + x3) y12) fun _ => fX7_laysSeen_14 N a0 n x1 x2 (x3 + 1))
def fX7_laysSeen (N : Nat) (a0 : Nat) (x1 : Int32) (x2 : Int32) : jM Unit := jB (jgR [7] 43 (some a0)) fun y1 => jB (jgR [7] 43 (some a0)) fun y2 => jB (jaI 0 y2 x1) fun y3 => jB (jsI 0 y1 x2 y3) fun _ => fX7_laysSeen_14 N a0 N x1 x2 0
theorem wX7_laysSeen_114 {N : Nat} {r : Unit} (cx : jCx p s m args meth c cX7_laysSeen "WornSkinModel" 4 (Option.none : Option Jvm.ClassFile.FieldType) D dA H0 hs.2.2.2.2) (e1 : h'.2.2.1 = hs.2.2.1 + mc) (e2 : h'.2.2.2.1 = hs.2.2.2.1 + ms) (a0 : Nat) (hth : jTh hs a0 7) : ∀ (h : jH) (H : Heap) (locs : List Loc) (cells slots : Nat) (ls : Array Slot), (fX7_laysSeen_114 N a0).1 h = some (r, h') → jS D dA H0 hs h H locs cells slots → lv_has ls 4 [(0, .ref a0)] → W p l e { frames := 0, cells := mc, slots := ms, locals := 0 } s m args below meth c H locs cells slots (jQ D dA H0 below s (.returned none) h' mc ms) (F0 m 114 ls []) := by
  have hx := cx.1
  have hb := cx.2.1
  have hown := cx.2.2.2.1
  have hts := cx.2.2.2.2.1
  have hm : h'.2.2.1 ≤ hs.2.2.1 + mc ∧ h'.2.2.2.1 ≤ hs.2.2.2.1 + ms := ⟨Nat.le_of_eq e1, Nat.le_of_eq e2⟩
  intro h H locs cells slots ls hf hS hl
  unfold fX7_laysSeen_114 at hf
  exact j_vret (pc := 114) cx hS hf e1 e2 dX7_laysSeen_114
theorem wX7_laysSeen_14 {N : Nat} {r : Unit} (cx : jCx p s m args meth c cX7_laysSeen "WornSkinModel" 4 (Option.none : Option Jvm.ClassFile.FieldType) D dA H0 hs.2.2.2.2) (e1 : h'.2.2.1 = hs.2.2.1 + mc) (e2 : h'.2.2.2.1 = hs.2.2.2.1 + ms) (a0 : Nat) (hth : jTh hs a0 7) : ∀ (n : Nat) (x1 : Int32) (x2 : Int32) (x3 : Int32), ∀ (h : jH) (H : Heap) (locs : List Loc) (cells slots : Nat) (ls : Array Slot), (fX7_laysSeen_14 N a0 n x1 x2 x3).1 h = some (r, h') → jS D dA H0 hs h H locs cells slots → lv_has ls 4 [(0, .ref a0), (1, .int x1), (2, .int x2), (3, .int x3)] → W p l e { frames := 0, cells := mc, slots := ms, locals := 0 } s m args below meth c H locs cells slots (jQ D dA H0 below s (.returned none) h' mc ms) (F0 m 14 ls []) := by
  have hx := cx.1
  have hb := cx.2.1
  have hown := cx.2.2.2.1
  have hts := cx.2.2.2.2.1
  have hm : h'.2.2.1 ≤ hs.2.2.1 + mc ∧ h'.2.2.2.1 ≤ hs.2.2.2.1 + ms := ⟨Nat.le_of_eq e1, Nat.le_of_eq e2⟩
  intro n
  induction n with
  | zero =>
    intro x1 x2 x3 h H locs cells slots ls hf hS hl
    exact jE_f hf
  | succ n ih =>
    intro x1 x2 x3 h H locs cells slots ls hf hS hl
    unfold fX7_laysSeen_14 at hf
    refine lv_iload_n (pc := 14) hx hb dX7_laysSeen_14 rfl (lv_at hl 3 rfl) ?_
    refine lv_bipush (pc := 15) (v := 8) hx hb dX7_laysSeen_15 rfl ?_
    refine lv_icmp_ge (pc := 17) (tgt := 114) hx hb dX7_laysSeen_17 (by decide) (fun hc => ?_) (fun hc => ?_)
    · have hf := jI_t hf hc
      exact wX7_laysSeen_114 cx e1 e2 a0 hth _ _ _ _ _ _ hf hS (lv_sub hl [0] rfl)
    · have hf := jI_f hf hc
      refine lv_aload_n (pc := 20) hx hb dX7_laysSeen_20 rfl (lv_at hl 0 rfl) ?_
      refine j_gR (pc := 21) cx hS hf fd_WornSkinModel_seenSkin q1728 dX7_laysSeen_21 (fun y1 hf => ?_)
      refine lv_bipush (pc := 24) (v := 8) hx hb dX7_laysSeen_24 rfl ?_
      refine lv_iload_n (pc := 26) hx hb dX7_laysSeen_26 rfl (lv_at hl 2 rfl) ?_
      refine lv_imul (pc := 27) hx hb dX7_laysSeen_27 ?_
      refine lv_iload_n (pc := 28) hx hb dX7_laysSeen_28 rfl (lv_at hl 3 rfl) ?_
      refine lv_iadd (pc := 29) hx hb dX7_laysSeen_29 ?_
      refine lv_aload_n (pc := 30) hx hb dX7_laysSeen_30 rfl (lv_at hl 0 rfl) ?_
      refine j_gR (pc := 31) cx hS hf fd_WornSkinModel_seenSkin q1728 dX7_laysSeen_31 (fun y2 hf => ?_)
      refine lv_bipush (pc := 34) (v := 8) hx hb dX7_laysSeen_34 rfl ?_
      refine lv_iload_n (pc := 36) hx hb dX7_laysSeen_36 rfl (lv_at hl 1 rfl) ?_
      refine lv_imul (pc := 37) hx hb dX7_laysSeen_37 ?_
      refine lv_iload_n (pc := 38) hx hb dX7_laysSeen_38 rfl (lv_at hl 3 rfl) ?_
      refine lv_iadd (pc := 39) hx hb dX7_laysSeen_39 ?_
      refine j_aI (pc := 40) cx hS hf rfl dX7_laysSeen_40 (fun y3 hf => ?_)
      refine j_sI (pc := 41) cx hS hf rfl dX7_laysSeen_41 (fun h H locs hf hS => ?_)
      refine lv_aload_n (pc := 42) hx hb dX7_laysSeen_42 rfl (lv_at hl 0 rfl) ?_
      refine j_gR (pc := 43) cx hS hf fd_WornSkinModel_seenDeep q1729 dX7_laysSeen_43 (fun y4 hf => ?_)
      refine lv_bipush (pc := 46) (v := 8) hx hb dX7_laysSeen_46 rfl ?_
      refine lv_iload_n (pc := 48) hx hb dX7_laysSeen_48 rfl (lv_at hl 2 rfl) ?_
      refine lv_imul (pc := 49) hx hb dX7_laysSeen_49 ?_
      refine lv_iload_n (pc := 50) hx hb dX7_laysSeen_50 rfl (lv_at hl 3 rfl) ?_
      refine lv_iadd (pc := 51) hx hb dX7_laysSeen_51 ?_
      refine lv_aload_n (pc := 52) hx hb dX7_laysSeen_52 rfl (lv_at hl 0 rfl) ?_
      refine j_gR (pc := 53) cx hS hf fd_WornSkinModel_seenDeep q1729 dX7_laysSeen_53 (fun y5 hf => ?_)
      refine lv_bipush (pc := 56) (v := 8) hx hb dX7_laysSeen_56 rfl ?_
      refine lv_iload_n (pc := 58) hx hb dX7_laysSeen_58 rfl (lv_at hl 1 rfl) ?_
      refine lv_imul (pc := 59) hx hb dX7_laysSeen_59 ?_
      refine lv_iload_n (pc := 60) hx hb dX7_laysSeen_60 rfl (lv_at hl 3 rfl) ?_
      refine lv_iadd (pc := 61) hx hb dX7_laysSeen_61 ?_
      refine j_aI (pc := 62) cx hS hf rfl dX7_laysSeen_62 (fun y6 hf => ?_)
      refine j_sI (pc := 63) cx hS hf rfl dX7_laysSeen_63 (fun h H locs hf hS => ?_)
      refine lv_aload_n (pc := 64) hx hb dX7_laysSeen_64 rfl (lv_at hl 0 rfl) ?_
      refine j_gR (pc := 65) cx hS hf fd_WornSkinModel_seenDamp q1730 dX7_laysSeen_65 (fun y7 hf => ?_)
      refine lv_bipush (pc := 68) (v := 8) hx hb dX7_laysSeen_68 rfl ?_
      refine lv_iload_n (pc := 70) hx hb dX7_laysSeen_70 rfl (lv_at hl 2 rfl) ?_
      refine lv_imul (pc := 71) hx hb dX7_laysSeen_71 ?_
      refine lv_iload_n (pc := 72) hx hb dX7_laysSeen_72 rfl (lv_at hl 3 rfl) ?_
      refine lv_iadd (pc := 73) hx hb dX7_laysSeen_73 ?_
      refine lv_aload_n (pc := 74) hx hb dX7_laysSeen_74 rfl (lv_at hl 0 rfl) ?_
      refine j_gR (pc := 75) cx hS hf fd_WornSkinModel_seenDamp q1730 dX7_laysSeen_75 (fun y8 hf => ?_)
      refine lv_bipush (pc := 78) (v := 8) hx hb dX7_laysSeen_78 rfl ?_
      refine lv_iload_n (pc := 80) hx hb dX7_laysSeen_80 rfl (lv_at hl 1 rfl) ?_
      refine lv_imul (pc := 81) hx hb dX7_laysSeen_81 ?_
      refine lv_iload_n (pc := 82) hx hb dX7_laysSeen_82 rfl (lv_at hl 3 rfl) ?_
      refine lv_iadd (pc := 83) hx hb dX7_laysSeen_83 ?_
      refine j_aI (pc := 84) cx hS hf rfl dX7_laysSeen_84 (fun y9 hf => ?_)
      refine j_sI (pc := 85) cx hS hf rfl dX7_laysSeen_85 (fun h H locs hf hS => ?_)
      refine lv_aload_n (pc := 86) hx hb dX7_laysSeen_86 rfl (lv_at hl 0 rfl) ?_
      refine j_gR (pc := 87) cx hS hf fd_WornSkinModel_seenShows q1731 dX7_laysSeen_87 (fun y10 hf => ?_)
      refine lv_bipush (pc := 90) (v := 8) hx hb dX7_laysSeen_90 rfl ?_
      refine lv_iload_n (pc := 92) hx hb dX7_laysSeen_92 rfl (lv_at hl 2 rfl) ?_
      refine lv_imul (pc := 93) hx hb dX7_laysSeen_93 ?_
      refine lv_iload_n (pc := 94) hx hb dX7_laysSeen_94 rfl (lv_at hl 3 rfl) ?_
      refine lv_iadd (pc := 95) hx hb dX7_laysSeen_95 ?_
      refine lv_aload_n (pc := 96) hx hb dX7_laysSeen_96 rfl (lv_at hl 0 rfl) ?_
      refine j_gR (pc := 97) cx hS hf fd_WornSkinModel_seenShows q1731 dX7_laysSeen_97 (fun y11 hf => ?_)
      refine lv_bipush (pc := 100) (v := 8) hx hb dX7_laysSeen_100 rfl ?_
      refine lv_iload_n (pc := 102) hx hb dX7_laysSeen_102 rfl (lv_at hl 1 rfl) ?_
      refine lv_imul (pc := 103) hx hb dX7_laysSeen_103 ?_
      refine lv_iload_n (pc := 104) hx hb dX7_laysSeen_104 rfl (lv_at hl 3 rfl) ?_
      refine lv_iadd (pc := 105) hx hb dX7_laysSeen_105 ?_
      refine j_aZ (pc := 106) cx hS hf (Or.inl rfl) dX7_laysSeen_106 (fun y12 hf => ?_)
      refine j_sZ (pc := 107) cx hS hf rfl dX7_laysSeen_107 (fun h H locs hf hS => ?_)
      refine lv_iinc (pc := 108) (v := (x3 + 1)) (lv' := [(3, .int (x3 + 1)), (0, .ref a0), (1, .int x1), (2, .int x2)]) hx hb dX7_laysSeen_108 hl (k := 3) rfl rfl (Nat.le_of_ble_eq_true rfl) rfl (fun ls hl => ?_)
      refine lv_goto (pc := 111) (tgt := 14) hx hb dX7_laysSeen_111 (by decide) ?_
      exact ih _ _ _ _ _ _ _ _ _ hf hS (lv_sub hl [1, 2, 3, 0] rfl)
theorem wX7_laysSeen_0 {N : Nat} {r : Unit} (cx : jCx p s m args meth c cX7_laysSeen "WornSkinModel" 4 (Option.none : Option Jvm.ClassFile.FieldType) D dA H0 hs.2.2.2.2) (e1 : h'.2.2.1 = hs.2.2.1 + mc) (e2 : h'.2.2.2.1 = hs.2.2.2.1 + ms) (a0 : Nat) (hth : jTh hs a0 7) : ∀ (x1 : Int32) (x2 : Int32), ∀ (h : jH) (H : Heap) (locs : List Loc) (cells slots : Nat) (ls : Array Slot), (fX7_laysSeen N a0 x1 x2).1 h = some (r, h') → jS D dA H0 hs h H locs cells slots → lv_has ls 4 [(0, .ref a0), (1, .int x1), (2, .int x2)] → W p l e { frames := 0, cells := mc, slots := ms, locals := 0 } s m args below meth c H locs cells slots (jQ D dA H0 below s (.returned none) h' mc ms) (F0 m 0 ls []) := by
  have hx := cx.1
  have hb := cx.2.1
  have hown := cx.2.2.2.1
  have hts := cx.2.2.2.2.1
  have hm : h'.2.2.1 ≤ hs.2.2.1 + mc ∧ h'.2.2.2.1 ≤ hs.2.2.2.1 + ms := ⟨Nat.le_of_eq e1, Nat.le_of_eq e2⟩
  intro x1 x2 h H locs cells slots ls hf hS hl
  unfold fX7_laysSeen at hf
  refine lv_aload_n (pc := 0) hx hb dX7_laysSeen_0 rfl (lv_at hl 0 rfl) ?_
  refine j_gR (pc := 1) cx hS hf fd_WornSkinModel_seens q1727 dX7_laysSeen_1 (fun y1 hf => ?_)
  refine lv_iload_n (pc := 4) hx hb dX7_laysSeen_4 rfl (lv_at hl 2 rfl) ?_
  refine lv_aload_n (pc := 5) hx hb dX7_laysSeen_5 rfl (lv_at hl 0 rfl) ?_
  refine j_gR (pc := 6) cx hS hf fd_WornSkinModel_seens q1727 dX7_laysSeen_6 (fun y2 hf => ?_)
  refine lv_iload_n (pc := 9) hx hb dX7_laysSeen_9 rfl (lv_at hl 1 rfl) ?_
  refine j_aI (pc := 10) cx hS hf rfl dX7_laysSeen_10 (fun y3 hf => ?_)
  refine j_sI (pc := 11) cx hS hf rfl dX7_laysSeen_11 (fun h H locs hf hS => ?_)
  refine lv_iconst (pc := 12) (v := 0) hx hb dX7_laysSeen_12 rfl ?_
  refine lv_istore_n (pc := 13) (i := 3) (lv' := [(3, .int 0), (0, .ref a0), (1, .int x1), (2, .int x2)]) hx hb dX7_laysSeen_13 rfl hl (Nat.le_of_ble_eq_true rfl) rfl (fun ls hl => ?_)
  exact wX7_laysSeen_14 cx e1 e2 a0 hth N _ _ _ _ _ _ _ _ _ hf hS (lv_sub hl [1, 2, 3, 0] rfl)
theorem metX7_laysSeen (l : Launch) (N : Nat) (a0 : Nat) (x1 : Int32) (x2 : Int32) (h h' : jH) (r : Unit) (hth : jcd h a0 = some 7) (hf : (fX7_laysSeen N a0 x1 x2).1 h = some (r, h')) : jMet l yX7_laysSeen (ws_ yX7_laysSeen cX7_laysSeen 4 (Option.none : Option Jvm.ClassFile.FieldType)) (0) (0) [.ref a0, .int x1, .int x2] h h' (.returned none) := by
  refine jStart rfl (jle hf) (Nat.le_of_ble_eq_true rfl) ?_
  intro p e s m below meth c D dA H0 mc ms ls cx hnm e1 e2 hS hl
  have hth := jTh.mk hS hth
  exact wX7_laysSeen_0 cx e1 e2 a0 hth _ _ _ _ _ _ _ _ hf hS hl
def fX7_mark_119 (N : Nat) (a0 : Nat) : jM Int32 := jRn .boolean 1
def fX7_mark_59 (N : Nat) (a0 : Nat) (x1 : Int32) (x2 : Int32) (x3 : Int32) (v0 : Int32) : jM Int32 := jB (fX7_laysLines N a0 x3 v0) fun _ => jB (fX7_laysSeen N a0 x3 v0) fun _ => if x2 = 0 then (jB (jgR [7] 48 (some a0)) fun y3 => jB (jgR [7] 51 (some a0)) fun y4 => jB (fX7_copies N y3 0 y4 (25 * x1)) fun _ => fX7_mark_119 N a0) else (jB (jgR [7] 51 (some a0)) fun y6 => jB (jgR [7] 48 (some a0)) fun y7 => jB (fX7_copies N y6 (25 * x1) y7 0) fun _ => jB (jpI [7] 54 (some a0) 0) fun _ => fX7_mark_119 N a0)
def fX7_mark_47 (N : Nat) (a0 : Nat) (x1 : Int32) (x2 : Int32) (v0 : Int32) : jM Int32 := if x2 = 0 then (fX7_mark_59 N a0 x1 x2 v0 (1 + x1)) else (fX7_mark_59 N a0 x1 x2 v0 0)
def fX7_mark_29 (N : Nat) (a0 : Nat) (x1 : Int32) (x2 : Int32) : jM Int32 := jB (jgR [7] 53 (some a0)) fun y1 => jB (jsZ 2 y1 x1 1) fun _ => if x2 = 0 then (fX7_mark_47 N a0 x1 x2 0) else (fX7_mark_47 N a0 x1 x2 (1 + x1))
def fX7_mark_27 (N : Nat) (a0 : Nat) : jM Int32 := jRn .boolean 0
def fX7_mark (N : Nat) (a0 : Nat) (x1 : Int32) (x2 : Int32) : jM Int32 := jB (jpI [7] 0 (some a0) 0) fun _ => jB (fX7_within x1 0 3) fun y1 => if y1 = 0 then (fX7_mark_27 N a0) else (if x2 = 0 then (fX7_mark_29 N a0 x1 x2) else (jB (jgR [7] 53 (some a0)) fun y2 => jB (jaI 2 y2 x1) fun y3 => if y3 = 0 then (fX7_mark_27 N a0) else (fX7_mark_29 N a0 x1 x2)))
theorem wX7_mark_119 {N : Nat} {r : Int32} (cx : jCx p s m args meth c cX7_mark "WornSkinModel" 5 (Option.some Jvm.ClassFile.FieldType.boolean) D dA H0 hs.2.2.2.2) (e1 : h'.2.2.1 = hs.2.2.1 + mc) (e2 : h'.2.2.2.1 = hs.2.2.2.1 + ms) (a0 : Nat) (hth : jTh hs a0 7) : ∀ (h : jH) (H : Heap) (locs : List Loc) (cells slots : Nat) (ls : Array Slot), (fX7_mark_119 N a0).1 h = some (r, h') → jS D dA H0 hs h H locs cells slots → lv_has ls 5 [(0, .ref a0)] → W p l e { frames := 1, cells := mc, slots := ms, locals := 24 } s m args below meth c H locs cells slots (jQ D dA H0 below s (.returned (some (.int r))) h' mc ms) (F0 m 119 ls []) := by
  have hx := cx.1
  have hb := cx.2.1
  have hown := cx.2.2.2.1
  have hts := cx.2.2.2.2.1
  have hm : h'.2.2.1 ≤ hs.2.2.1 + mc ∧ h'.2.2.2.1 ≤ hs.2.2.2.1 + ms := ⟨Nat.le_of_eq e1, Nat.le_of_eq e2⟩
  intro h H locs cells slots ls hf hS hl
  unfold fX7_mark_119 at hf
  refine lv_iconst (pc := 119) (v := 1) hx hb dX7_mark_119 rfl ?_
  exact j_zret (pc := 120) cx (Or.inl rfl) hS hf e1 e2 dX7_mark_120
theorem wX7_mark_59 {N : Nat} {r : Int32} (cx : jCx p s m args meth c cX7_mark "WornSkinModel" 5 (Option.some Jvm.ClassFile.FieldType.boolean) D dA H0 hs.2.2.2.2) (e1 : h'.2.2.1 = hs.2.2.1 + mc) (e2 : h'.2.2.2.1 = hs.2.2.2.1 + ms) (a0 : Nat) (hth : jTh hs a0 7) : ∀ (x1 : Int32) (x2 : Int32) (x3 : Int32) (v0 : Int32), ∀ (h : jH) (H : Heap) (locs : List Loc) (cells slots : Nat) (ls : Array Slot), (fX7_mark_59 N a0 x1 x2 x3 v0).1 h = some (r, h') → jS D dA H0 hs h H locs cells slots → lv_has ls 5 [(0, .ref a0), (1, .int x1), (2, .int x2), (3, .int x3)] → W p l e { frames := 1, cells := mc, slots := ms, locals := 24 } s m args below meth c H locs cells slots (jQ D dA H0 below s (.returned (some (.int r))) h' mc ms) (F0 m 59 ls [.int v0]) := by
  have hx := cx.1
  have hb := cx.2.1
  have hown := cx.2.2.2.1
  have hts := cx.2.2.2.2.1
  have hm : h'.2.2.1 ≤ hs.2.2.1 + mc ∧ h'.2.2.2.1 ≤ hs.2.2.2.1 + ms := ⟨Nat.le_of_eq e1, Nat.le_of_eq e2⟩
  intro x1 x2 x3 v0 h H locs cells slots ls hf hS hl
  unfold fX7_mark_59 at hf
  refine lv_istore (pc := 59) (i := 4) (lv' := [(4, .int v0), (0, .ref a0), (1, .int x1), (2, .int x2), (3, .int x3)]) hx hb dX7_mark_59 hl (Nat.le_of_ble_eq_true rfl) rfl (fun ls hl => ?_)
  refine lv_aload_n (pc := 61) hx hb dX7_mark_61 rfl (lv_at hl 1 rfl) ?_
  refine lv_iload_n (pc := 62) hx hb dX7_mark_62 rfl (lv_at hl 4 rfl) ?_
  refine lv_iload (pc := 63) hx hb dX7_mark_63 (lv_at hl 0 rfl) ?_
  obtain ⟨_, h1, e9, hf⟩ := jB_some hf
  refine j_callV (pc := 65) (st1 := []) (As := [.int x3, .int v0]) (rest := []) cx hS rfl hl.1 hm (metX7_laysLines l _ _ _ _ _ _ _ (hth.at hS) e9) (jle hf) (hth.at hS) rfl (lw_V q2023 q2025 qs79 q123 q2026) pdX7_laysLines rfl rfl (Nat.le_of_ble_eq_true rfl) ⟨Nat.le_of_ble_eq_true rfl, Nat.le_of_ble_eq_true rfl⟩ dX7_mark_65 rfl (fun H locs cells slots hS => ?_)
  refine lv_aload_n (pc := 68) hx hb dX7_mark_68 rfl (lv_at hl 1 rfl) ?_
  refine lv_iload_n (pc := 69) hx hb dX7_mark_69 rfl (lv_at hl 4 rfl) ?_
  refine lv_iload (pc := 70) hx hb dX7_mark_70 (lv_at hl 0 rfl) ?_
  obtain ⟨_, h1, e9, hf⟩ := jB_some hf
  refine j_callV (pc := 72) (st1 := []) (As := [.int x3, .int v0]) (rest := []) cx hS rfl hl.1 hm (metX7_laysSeen l _ _ _ _ _ _ _ (hth.at hS) e9) (jle hf) (hth.at hS) rfl (lw_V q2296 q2298 qs109 q123 q2299) pdX7_laysSeen rfl rfl (Nat.le_of_ble_eq_true rfl) ⟨Nat.le_of_ble_eq_true rfl, Nat.le_of_ble_eq_true rfl⟩ dX7_mark_72 rfl (fun H locs cells slots hS => ?_)
  refine lv_iload_n (pc := 75) hx hb dX7_mark_75 rfl (lv_at hl 3 rfl) ?_
  refine lv_if_eq (pc := 76) (tgt := 103) hx hb dX7_mark_76 (by decide) (fun hc => ?_) (fun hc => ?_)
  · have hf := jI_t hf hc
    refine lv_aload_n (pc := 103) hx hb dX7_mark_103 rfl (lv_at hl 1 rfl) ?_
    refine j_gR (pc := 104) cx hS hf fd_WornSkinModel_s q1732 dX7_mark_104 (fun y3 hf => ?_)
    refine lv_iconst (pc := 107) (v := 0) hx hb dX7_mark_107 rfl ?_
    refine lv_aload_n (pc := 108) hx hb dX7_mark_108 rfl (lv_at hl 1 rfl) ?_
    refine j_gR (pc := 109) cx hS hf fd_WornSkinModel_marked q1735 dX7_mark_109 (fun y4 hf => ?_)
    refine lv_bipush (pc := 112) (v := 25) hx hb dX7_mark_112 rfl ?_
    refine lv_iload_n (pc := 114) hx hb dX7_mark_114 rfl (lv_at hl 2 rfl) ?_
    refine lv_imul (pc := 115) hx hb dX7_mark_115 ?_
    obtain ⟨_, h1, e9, hf⟩ := jB_some hf
    refine j_callS (pc := 116) (st1 := []) (As := [va_rf y3, .int 0, va_rf y4, .int (25 * x1)]) (rest := []) cx hS rfl hl.1 hm (metX7_copies l _ _ _ _ _ _ _ _ e9) (jle hf) (lw_S q2125 q2126 q123 q2127) pdX7_copies rfl rfl (Nat.le_of_ble_eq_true rfl) ⟨Nat.le_of_ble_eq_true rfl, Nat.le_of_ble_eq_true rfl⟩ dX7_mark_116 rfl (fun H locs cells slots hS => ?_)
    exact wX7_mark_119 cx e1 e2 a0 hth _ _ _ _ _ _ hf hS (lv_sub hl [1] rfl)
  · have hf := jI_f hf hc
    refine lv_aload_n (pc := 79) hx hb dX7_mark_79 rfl (lv_at hl 1 rfl) ?_
    refine j_gR (pc := 80) cx hS hf fd_WornSkinModel_marked q1735 dX7_mark_80 (fun y6 hf => ?_)
    refine lv_bipush (pc := 83) (v := 25) hx hb dX7_mark_83 rfl ?_
    refine lv_iload_n (pc := 85) hx hb dX7_mark_85 rfl (lv_at hl 2 rfl) ?_
    refine lv_imul (pc := 86) hx hb dX7_mark_86 ?_
    refine lv_aload_n (pc := 87) hx hb dX7_mark_87 rfl (lv_at hl 1 rfl) ?_
    refine j_gR (pc := 88) cx hS hf fd_WornSkinModel_s q1732 dX7_mark_88 (fun y7 hf => ?_)
    refine lv_iconst (pc := 91) (v := 0) hx hb dX7_mark_91 rfl ?_
    obtain ⟨_, h1, e9, hf⟩ := jB_some hf
    refine j_callS (pc := 92) (st1 := []) (As := [va_rf y6, .int (25 * x1), va_rf y7, .int 0]) (rest := []) cx hS rfl hl.1 hm (metX7_copies l _ _ _ _ _ _ _ _ e9) (jle hf) (lw_S q2125 q2126 q123 q2127) pdX7_copies rfl rfl (Nat.le_of_ble_eq_true rfl) ⟨Nat.le_of_ble_eq_true rfl, Nat.le_of_ble_eq_true rfl⟩ dX7_mark_92 rfl (fun H locs cells slots hS => ?_)
    refine lv_aload_n (pc := 95) hx hb dX7_mark_95 rfl (lv_at hl 1 rfl) ?_
    refine lv_iconst (pc := 96) (v := 0) hx hb dX7_mark_96 rfl ?_
    refine j_pI (pc := 97) cx hS hf fp_WornSkinModel_done (Or.inl rfl) q1738 dX7_mark_97 (fun h H locs hf hS => ?_)
    refine lv_goto (pc := 100) (tgt := 119) hx hb dX7_mark_100 (by decide) ?_
    exact wX7_mark_119 cx e1 e2 a0 hth _ _ _ _ _ _ hf hS (lv_sub hl [1] rfl)
theorem wX7_mark_47 {N : Nat} {r : Int32} (cx : jCx p s m args meth c cX7_mark "WornSkinModel" 5 (Option.some Jvm.ClassFile.FieldType.boolean) D dA H0 hs.2.2.2.2) (e1 : h'.2.2.1 = hs.2.2.1 + mc) (e2 : h'.2.2.2.1 = hs.2.2.2.1 + ms) (a0 : Nat) (hth : jTh hs a0 7) : ∀ (x1 : Int32) (x2 : Int32) (v0 : Int32), ∀ (h : jH) (H : Heap) (locs : List Loc) (cells slots : Nat) (ls : Array Slot), (fX7_mark_47 N a0 x1 x2 v0).1 h = some (r, h') → jS D dA H0 hs h H locs cells slots → lv_has ls 5 [(0, .ref a0), (1, .int x1), (2, .int x2)] → W p l e { frames := 1, cells := mc, slots := ms, locals := 24 } s m args below meth c H locs cells slots (jQ D dA H0 below s (.returned (some (.int r))) h' mc ms) (F0 m 47 ls [.int v0]) := by
  have hx := cx.1
  have hb := cx.2.1
  have hown := cx.2.2.2.1
  have hts := cx.2.2.2.2.1
  have hm : h'.2.2.1 ≤ hs.2.2.1 + mc ∧ h'.2.2.2.1 ≤ hs.2.2.2.1 + ms := ⟨Nat.le_of_eq e1, Nat.le_of_eq e2⟩
  intro x1 x2 v0 h H locs cells slots ls hf hS hl
  unfold fX7_mark_47 at hf
  refine lv_istore_n (pc := 47) (i := 3) (lv' := [(3, .int v0), (0, .ref a0), (1, .int x1), (2, .int x2)]) hx hb dX7_mark_47 rfl hl (Nat.le_of_ble_eq_true rfl) rfl (fun ls hl => ?_)
  refine lv_iload_n (pc := 48) hx hb dX7_mark_48 rfl (lv_at hl 3 rfl) ?_
  refine lv_if_eq (pc := 49) (tgt := 56) hx hb dX7_mark_49 (by decide) (fun hc => ?_) (fun hc => ?_)
  · have hf := jI_t hf hc
    refine lv_iconst (pc := 56) (v := 1) hx hb dX7_mark_56 rfl ?_
    refine lv_iload_n (pc := 57) hx hb dX7_mark_57 rfl (lv_at hl 2 rfl) ?_
    refine lv_iadd (pc := 58) hx hb dX7_mark_58 ?_
    exact wX7_mark_59 cx e1 e2 a0 hth _ _ _ _ _ _ _ _ _ _ hf hS (lv_sub hl [1, 2, 3, 0] rfl)
  · have hf := jI_f hf hc
    refine lv_iconst (pc := 52) (v := 0) hx hb dX7_mark_52 rfl ?_
    refine lv_goto (pc := 53) (tgt := 59) hx hb dX7_mark_53 (by decide) ?_
    exact wX7_mark_59 cx e1 e2 a0 hth _ _ _ _ _ _ _ _ _ _ hf hS (lv_sub hl [1, 2, 3, 0] rfl)
theorem wX7_mark_29 {N : Nat} {r : Int32} (cx : jCx p s m args meth c cX7_mark "WornSkinModel" 5 (Option.some Jvm.ClassFile.FieldType.boolean) D dA H0 hs.2.2.2.2) (e1 : h'.2.2.1 = hs.2.2.1 + mc) (e2 : h'.2.2.2.1 = hs.2.2.2.1 + ms) (a0 : Nat) (hth : jTh hs a0 7) : ∀ (x1 : Int32) (x2 : Int32), ∀ (h : jH) (H : Heap) (locs : List Loc) (cells slots : Nat) (ls : Array Slot), (fX7_mark_29 N a0 x1 x2).1 h = some (r, h') → jS D dA H0 hs h H locs cells slots → lv_has ls 5 [(0, .ref a0), (1, .int x1), (2, .int x2)] → W p l e { frames := 1, cells := mc, slots := ms, locals := 24 } s m args below meth c H locs cells slots (jQ D dA H0 below s (.returned (some (.int r))) h' mc ms) (F0 m 29 ls []) := by
  have hx := cx.1
  have hb := cx.2.1
  have hown := cx.2.2.2.1
  have hts := cx.2.2.2.2.1
  have hm : h'.2.2.1 ≤ hs.2.2.1 + mc ∧ h'.2.2.2.1 ≤ hs.2.2.2.1 + ms := ⟨Nat.le_of_eq e1, Nat.le_of_eq e2⟩
  intro x1 x2 h H locs cells slots ls hf hS hl
  unfold fX7_mark_29 at hf
  refine lv_aload_n (pc := 29) hx hb dX7_mark_29 rfl (lv_at hl 0 rfl) ?_
  refine j_gR (pc := 30) cx hS hf fd_WornSkinModel_isLaid q1737 dX7_mark_30 (fun y1 hf => ?_)
  refine lv_iload_n (pc := 33) hx hb dX7_mark_33 rfl (lv_at hl 1 rfl) ?_
  refine lv_iconst (pc := 34) (v := 1) hx hb dX7_mark_34 rfl ?_
  refine j_sZ (pc := 35) cx hS hf rfl dX7_mark_35 (fun h H locs hf hS => ?_)
  refine lv_iload_n (pc := 36) hx hb dX7_mark_36 rfl (lv_at hl 2 rfl) ?_
  refine lv_if_eq (pc := 37) (tgt := 46) hx hb dX7_mark_37 (by decide) (fun hc => ?_) (fun hc => ?_)
  · have hf := jI_t hf hc
    refine lv_iconst (pc := 46) (v := 0) hx hb dX7_mark_46 rfl ?_
    exact wX7_mark_47 cx e1 e2 a0 hth _ _ _ _ _ _ _ _ _ hf hS hl
  · have hf := jI_f hf hc
    refine lv_iconst (pc := 40) (v := 1) hx hb dX7_mark_40 rfl ?_
    refine lv_iload_n (pc := 41) hx hb dX7_mark_41 rfl (lv_at hl 1 rfl) ?_
    refine lv_iadd (pc := 42) hx hb dX7_mark_42 ?_
    refine lv_goto (pc := 43) (tgt := 47) hx hb dX7_mark_43 (by decide) ?_
    exact wX7_mark_47 cx e1 e2 a0 hth _ _ _ _ _ _ _ _ _ hf hS hl
theorem wX7_mark_27 {N : Nat} {r : Int32} (cx : jCx p s m args meth c cX7_mark "WornSkinModel" 5 (Option.some Jvm.ClassFile.FieldType.boolean) D dA H0 hs.2.2.2.2) (e1 : h'.2.2.1 = hs.2.2.1 + mc) (e2 : h'.2.2.2.1 = hs.2.2.2.1 + ms) (a0 : Nat) (hth : jTh hs a0 7) : ∀ (h : jH) (H : Heap) (locs : List Loc) (cells slots : Nat) (ls : Array Slot), (fX7_mark_27 N a0).1 h = some (r, h') → jS D dA H0 hs h H locs cells slots → lv_has ls 5 [(0, .ref a0)] → W p l e { frames := 1, cells := mc, slots := ms, locals := 24 } s m args below meth c H locs cells slots (jQ D dA H0 below s (.returned (some (.int r))) h' mc ms) (F0 m 27 ls []) := by
  have hx := cx.1
  have hb := cx.2.1
  have hown := cx.2.2.2.1
  have hts := cx.2.2.2.2.1
  have hm : h'.2.2.1 ≤ hs.2.2.1 + mc ∧ h'.2.2.2.1 ≤ hs.2.2.2.1 + ms := ⟨Nat.le_of_eq e1, Nat.le_of_eq e2⟩
  intro h H locs cells slots ls hf hS hl
  unfold fX7_mark_27 at hf
  refine lv_iconst (pc := 27) (v := 0) hx hb dX7_mark_27 rfl ?_
  exact j_zret (pc := 28) cx (Or.inl rfl) hS hf e1 e2 dX7_mark_28
theorem wX7_mark_0 {N : Nat} {r : Int32} (cx : jCx p s m args meth c cX7_mark "WornSkinModel" 5 (Option.some Jvm.ClassFile.FieldType.boolean) D dA H0 hs.2.2.2.2) (e1 : h'.2.2.1 = hs.2.2.1 + mc) (e2 : h'.2.2.2.1 = hs.2.2.2.1 + ms) (a0 : Nat) (hth : jTh hs a0 7) : ∀ (x1 : Int32) (x2 : Int32), ∀ (h : jH) (H : Heap) (locs : List Loc) (cells slots : Nat) (ls : Array Slot), (fX7_mark N a0 x1 x2).1 h = some (r, h') → jS D dA H0 hs h H locs cells slots → lv_has ls 5 [(0, .ref a0), (1, .int x1), (2, .int x2)] → W p l e { frames := 1, cells := mc, slots := ms, locals := 24 } s m args below meth c H locs cells slots (jQ D dA H0 below s (.returned (some (.int r))) h' mc ms) (F0 m 0 ls []) := by
  have hx := cx.1
  have hb := cx.2.1
  have hown := cx.2.2.2.1
  have hts := cx.2.2.2.2.1
  have hm : h'.2.2.1 ≤ hs.2.2.1 + mc ∧ h'.2.2.2.1 ≤ hs.2.2.2.1 + ms := ⟨Nat.le_of_eq e1, Nat.le_of_eq e2⟩
  intro x1 x2 h H locs cells slots ls hf hS hl
  unfold fX7_mark at hf
  refine lv_aload_n (pc := 0) hx hb dX7_mark_0 rfl (lv_at hl 0 rfl) ?_
  refine lv_iconst (pc := 1) (v := 0) hx hb dX7_mark_1 rfl ?_
  refine j_pI (pc := 2) cx hS hf fp_WornSkinModel_thrown (Or.inl rfl) q1684 dX7_mark_2 (fun h H locs hf hS => ?_)
  refine lv_iload_n (pc := 5) hx hb dX7_mark_5 rfl (lv_at hl 1 rfl) ?_
  refine lv_iconst (pc := 6) (v := 0) hx hb dX7_mark_6 rfl ?_
  refine lv_iconst (pc := 7) (v := 3) hx hb dX7_mark_7 rfl ?_
  obtain ⟨y1, h1, e9, hf⟩ := jB_some hf
  refine j_callS (pc := 8) (st1 := [.int y1]) (As := [.int x1, .int 0, .int 3]) (rest := []) cx hS rfl hl.1 hm (metX7_within l _ _ _ _ _ _ e9) (jle hf) (lw_S q1950 q1951 q123 q1952) pdX7_within rfl rfl (Nat.le_of_ble_eq_true rfl) ⟨Nat.le_of_ble_eq_true rfl, Nat.le_of_ble_eq_true rfl⟩ dX7_mark_8 rfl (fun H locs cells slots hS => ?_)
  refine lv_if_eq (pc := 11) (tgt := 27) hx hb dX7_mark_11 (by decide) (fun hc => ?_) (fun hc => ?_)
  · have hf := jI_t hf hc
    exact wX7_mark_27 cx e1 e2 a0 hth _ _ _ _ _ _ hf hS (lv_sub hl [0] rfl)
  · have hf := jI_f hf hc
    refine lv_iload_n (pc := 14) hx hb dX7_mark_14 rfl (lv_at hl 2 rfl) ?_
    refine lv_if_eq (pc := 15) (tgt := 29) hx hb dX7_mark_15 (by decide) (fun hc => ?_) (fun hc => ?_)
    · have hf := jI_t hf hc
      exact wX7_mark_29 cx e1 e2 a0 hth _ _ _ _ _ _ _ _ hf hS hl
    · have hf := jI_f hf hc
      refine lv_aload_n (pc := 18) hx hb dX7_mark_18 rfl (lv_at hl 0 rfl) ?_
      refine j_gR (pc := 19) cx hS hf fd_WornSkinModel_isLaid q1737 dX7_mark_19 (fun y2 hf => ?_)
      refine lv_iload_n (pc := 22) hx hb dX7_mark_22 rfl (lv_at hl 1 rfl) ?_
      refine j_aZ (pc := 23) cx hS hf (Or.inl rfl) dX7_mark_23 (fun y3 hf => ?_)
      refine lv_if_ne (pc := 24) (tgt := 29) hx hb dX7_mark_24 (by decide) (fun hc => ?_) (fun hc => ?_)
      · have hf := jI_f hf hc
        exact wX7_mark_29 cx e1 e2 a0 hth _ _ _ _ _ _ _ _ hf hS hl
      · have hf := jI_t hf hc
        exact wX7_mark_27 cx e1 e2 a0 hth _ _ _ _ _ _ hf hS (lv_sub hl [0] rfl)
theorem metX7_mark (l : Launch) (N : Nat) (a0 : Nat) (x1 : Int32) (x2 : Int32) (h h' : jH) (r : Int32) (hth : jcd h a0 = some 7) (hf : (fX7_mark N a0 x1 x2).1 h = some (r, h')) : jMet l yX7_mark (ws_ yX7_mark cX7_mark 5 (Option.some Jvm.ClassFile.FieldType.boolean)) (1) (24) [.ref a0, .int x1, .int x2] h h' (.returned (some (.int r))) := by
  refine jStart rfl (jle hf) (Nat.le_of_ble_eq_true rfl) ?_
  intro p e s m below meth c D dA H0 mc ms ls cx hnm e1 e2 hS hl
  have hth := jTh.mk hS hth
  exact wX7_mark_0 cx e1 e2 a0 hth _ _ _ _ _ _ _ _ hf hS hl
def fX7_allLayers_31 (N : Nat) (a0 : Nat) (x1 : Int32) : jM Int32 := jR x1
def fX7_allLayers_4 (N : Nat) (a0 : Nat) : Nat → Int32 → Int32 → jM Int32
  | 0, _, _ => jE
  | n + 1, x1, x2 => if 18 ≤ x2 then (fX7_allLayers_31 N a0 x1) else (jB (jgR [7] 48 (some a0)) fun y1 => jB (jaI 0 y1 (7 + x2)) fun y2 => jB (fX7_deepOf N y2) fun y3 => fX7_allLayers_4 N a0 n (x1 + y3) (x2 + 1))
def fX7_allLayers (N : Nat) (a0 : Nat) : jM Int32 := fX7_allLayers_4 N a0 N 0 0
theorem wX7_allLayers_31 {N : Nat} {r : Int32} (cx : jCx p s m args meth c cX7_allLayers "WornSkinModel" 3 (Option.some Jvm.ClassFile.FieldType.int) D dA H0 hs.2.2.2.2) (e1 : h'.2.2.1 = hs.2.2.1 + mc) (e2 : h'.2.2.2.1 = hs.2.2.2.1 + ms) (a0 : Nat) (hth : jTh hs a0 7) : ∀ (x1 : Int32), ∀ (h : jH) (H : Heap) (locs : List Loc) (cells slots : Nat) (ls : Array Slot), (fX7_allLayers_31 N a0 x1).1 h = some (r, h') → jS D dA H0 hs h H locs cells slots → lv_has ls 3 [(0, .ref a0), (1, .int x1)] → W p l e { frames := 1, cells := mc, slots := ms, locals := 22 } s m args below meth c H locs cells slots (jQ D dA H0 below s (.returned (some (.int r))) h' mc ms) (F0 m 31 ls []) := by
  have hx := cx.1
  have hb := cx.2.1
  have hown := cx.2.2.2.1
  have hts := cx.2.2.2.2.1
  have hm : h'.2.2.1 ≤ hs.2.2.1 + mc ∧ h'.2.2.2.1 ≤ hs.2.2.2.1 + ms := ⟨Nat.le_of_eq e1, Nat.le_of_eq e2⟩
  intro x1 h H locs cells slots ls hf hS hl
  unfold fX7_allLayers_31 at hf
  refine lv_iload_n (pc := 31) hx hb dX7_allLayers_31 rfl (lv_at hl 1 rfl) ?_
  exact j_iret (pc := 32) cx hS hf e1 e2 dX7_allLayers_32
theorem wX7_allLayers_4 {N : Nat} {r : Int32} (cx : jCx p s m args meth c cX7_allLayers "WornSkinModel" 3 (Option.some Jvm.ClassFile.FieldType.int) D dA H0 hs.2.2.2.2) (e1 : h'.2.2.1 = hs.2.2.1 + mc) (e2 : h'.2.2.2.1 = hs.2.2.2.1 + ms) (a0 : Nat) (hth : jTh hs a0 7) : ∀ (n : Nat) (x1 : Int32) (x2 : Int32), ∀ (h : jH) (H : Heap) (locs : List Loc) (cells slots : Nat) (ls : Array Slot), (fX7_allLayers_4 N a0 n x1 x2).1 h = some (r, h') → jS D dA H0 hs h H locs cells slots → lv_has ls 3 [(0, .ref a0), (1, .int x1), (2, .int x2)] → W p l e { frames := 1, cells := mc, slots := ms, locals := 22 } s m args below meth c H locs cells slots (jQ D dA H0 below s (.returned (some (.int r))) h' mc ms) (F0 m 4 ls []) := by
  have hx := cx.1
  have hb := cx.2.1
  have hown := cx.2.2.2.1
  have hts := cx.2.2.2.2.1
  have hm : h'.2.2.1 ≤ hs.2.2.1 + mc ∧ h'.2.2.2.1 ≤ hs.2.2.2.1 + ms := ⟨Nat.le_of_eq e1, Nat.le_of_eq e2⟩
  intro n
  induction n with
  | zero =>
    intro x1 x2 h H locs cells slots ls hf hS hl
    exact jE_f hf
  | succ n ih =>
    intro x1 x2 h H locs cells slots ls hf hS hl
    unfold fX7_allLayers_4 at hf
    refine lv_iload_n (pc := 4) hx hb dX7_allLayers_4 rfl (lv_at hl 2 rfl) ?_
    refine lv_bipush (pc := 5) (v := 18) hx hb dX7_allLayers_5 rfl ?_
    refine lv_icmp_ge (pc := 7) (tgt := 31) hx hb dX7_allLayers_7 (by decide) (fun hc => ?_) (fun hc => ?_)
    · have hf := jI_t hf hc
      exact wX7_allLayers_31 cx e1 e2 a0 hth _ _ _ _ _ _ _ hf hS (lv_sub hl [0, 1] rfl)
    · have hf := jI_f hf hc
      refine lv_iload_n (pc := 10) hx hb dX7_allLayers_10 rfl (lv_at hl 1 rfl) ?_
      refine lv_aload_n (pc := 11) hx hb dX7_allLayers_11 rfl (lv_at hl 0 rfl) ?_
      refine j_gR (pc := 12) cx hS hf fd_WornSkinModel_s q1732 dX7_allLayers_12 (fun y1 hf => ?_)
      refine lv_bipush (pc := 15) (v := 7) hx hb dX7_allLayers_15 rfl ?_
      refine lv_iload_n (pc := 17) hx hb dX7_allLayers_17 rfl (lv_at hl 2 rfl) ?_
      refine lv_iadd (pc := 18) hx hb dX7_allLayers_18 ?_
      refine j_aI (pc := 19) cx hS hf rfl dX7_allLayers_19 (fun y2 hf => ?_)
      obtain ⟨y3, h1, e9, hf⟩ := jB_some hf
      refine j_callS (pc := 20) (st1 := [.int y3, .int x1]) (As := [.int y2]) (rest := [.int x1]) cx hS rfl hl.1 hm (metX7_deepOf l _ _ _ _ _ e9) (jle hf) (lw_S q2098 q2099 q123 q2100) pdX7_deepOf rfl rfl (Nat.le_of_ble_eq_true rfl) ⟨Nat.le_of_ble_eq_true rfl, Nat.le_of_ble_eq_true rfl⟩ dX7_allLayers_20 rfl (fun H locs cells slots hS => ?_)
      refine lv_iadd (pc := 23) hx hb dX7_allLayers_23 ?_
      refine lv_istore_n (pc := 24) (i := 1) (lv' := [(1, .int (x1 + y3)), (0, .ref a0), (2, .int x2)]) hx hb dX7_allLayers_24 rfl hl (Nat.le_of_ble_eq_true rfl) rfl (fun ls hl => ?_)
      refine lv_iinc (pc := 25) (v := (x2 + 1)) (lv' := [(2, .int (x2 + 1)), (1, .int (x1 + y3)), (0, .ref a0)]) hx hb dX7_allLayers_25 hl (k := 2) rfl rfl (Nat.le_of_ble_eq_true rfl) rfl (fun ls hl => ?_)
      refine lv_goto (pc := 28) (tgt := 4) hx hb dX7_allLayers_28 (by decide) ?_
      exact ih _ _ _ _ _ _ _ _ hf hS (lv_sub hl [2, 1, 0] rfl)
theorem wX7_allLayers_0 {N : Nat} {r : Int32} (cx : jCx p s m args meth c cX7_allLayers "WornSkinModel" 3 (Option.some Jvm.ClassFile.FieldType.int) D dA H0 hs.2.2.2.2) (e1 : h'.2.2.1 = hs.2.2.1 + mc) (e2 : h'.2.2.2.1 = hs.2.2.2.1 + ms) (a0 : Nat) (hth : jTh hs a0 7) : ∀ (h : jH) (H : Heap) (locs : List Loc) (cells slots : Nat) (ls : Array Slot), (fX7_allLayers N a0).1 h = some (r, h') → jS D dA H0 hs h H locs cells slots → lv_has ls 3 [(0, .ref a0)] → W p l e { frames := 1, cells := mc, slots := ms, locals := 22 } s m args below meth c H locs cells slots (jQ D dA H0 below s (.returned (some (.int r))) h' mc ms) (F0 m 0 ls []) := by
  have hx := cx.1
  have hb := cx.2.1
  have hown := cx.2.2.2.1
  have hts := cx.2.2.2.2.1
  have hm : h'.2.2.1 ≤ hs.2.2.1 + mc ∧ h'.2.2.2.1 ≤ hs.2.2.2.1 + ms := ⟨Nat.le_of_eq e1, Nat.le_of_eq e2⟩
  intro h H locs cells slots ls hf hS hl
  unfold fX7_allLayers at hf
  refine lv_iconst (pc := 0) (v := 0) hx hb dX7_allLayers_0 rfl ?_
  refine lv_istore_n (pc := 1) (i := 1) (lv' := [(1, .int 0), (0, .ref a0)]) hx hb dX7_allLayers_1 rfl hl (Nat.le_of_ble_eq_true rfl) rfl (fun ls hl => ?_)
  refine lv_iconst (pc := 2) (v := 0) hx hb dX7_allLayers_2 rfl ?_
  refine lv_istore_n (pc := 3) (i := 2) (lv' := [(2, .int 0), (1, .int 0), (0, .ref a0)]) hx hb dX7_allLayers_3 rfl hl (Nat.le_of_ble_eq_true rfl) rfl (fun ls hl => ?_)
  exact wX7_allLayers_4 cx e1 e2 a0 hth N _ _ _ _ _ _ _ _ hf hS (lv_sub hl [2, 1, 0] rfl)
theorem metX7_allLayers (l : Launch) (N : Nat) (a0 : Nat) (h h' : jH) (r : Int32) (hth : jcd h a0 = some 7) (hf : (fX7_allLayers N a0).1 h = some (r, h')) : jMet l yX7_allLayers (ws_ yX7_allLayers cX7_allLayers 3 (Option.some Jvm.ClassFile.FieldType.int)) (1) (22) [.ref a0] h h' (.returned (some (.int r))) := by
  refine jStart rfl (jle hf) (Nat.le_of_ble_eq_true rfl) ?_
  intro p e s m below meth c D dA H0 mc ms ls cx hnm e1 e2 hS hl
  have hth := jTh.mk hS hth
  exact wX7_allLayers_0 cx e1 e2 a0 hth  _ _ _ _ _ _ hf hS hl
def fX7_count_152 (N : Nat) (a0 : Nat) (v0 : Int32) : jM Int32 := jR v0
def fX7_count_134 (N : Nat) (a0 : Nat) (v0 : Int32) : jM Int32 := jR v0
def fX7_count_106 (N : Nat) (a0 : Nat) (v0 : Int32) : jM Int32 := jR v0
def fX7_count_70 (N : Nat) (a0 : Nat) (v0 : Int32) : jM Int32 := jR v0
def fX7_count (N : Nat) (a0 : Nat) (x1 : Int32) : jM Int32 := jB (jpI [7] 0 (some a0) 0) fun _ => jB (fX7_within x1 0 11) fun y1 => if y1 = 0 then (jR (-1)) else (if 2 ≤ x1 then (if 5 ≤ x1 then (if 8 ≤ x1 then (if 10 ≤ x1 then (if x1 = 10 then (jB (jgI [7] 54 (some a0)) fun y3 => fX7_count_152 N a0 y3) else (jB (jgI [7] 1 (some a0)) fun y2 => fX7_count_152 N a0 y2)) else (if x1 = 8 then (jB (jgR [7] 38 (some a0)) fun y6 => jB (jaI 0 y6 0) fun y7 => fX7_count_134 N a0 y7) else (jB (jgR [7] 43 (some a0)) fun y4 => jB (jaI 0 y4 0) fun y5 => fX7_count_134 N a0 y5))) else (if x1 = 5 then (jB (fX7_gones N a0) fun y10 => fX7_count_106 N a0 y10) else (if x1 = 6 then (jB (fX7_allLayers N a0) fun y9 => fX7_count_106 N a0 y9) else (jB (fX7_wholeNow N a0) fun y8 => fX7_count_106 N a0 y8)))) else (if x1 = 2 then (jB (jgR [7] 48 (some a0)) fun y15 => jB (jaI 0 y15 0) fun y16 => fX7_count_70 N a0 y16) else (if x1 = 3 then (jB (jgR [7] 48 (some a0)) fun y12 => jB (jaI 0 y12 0) fun y13 => jB (fX7_dampOf a0 y13) fun y14 => fX7_count_70 N a0 y14) else (jB (fX7_allThick a0) fun y11 => fX7_count_70 N a0 y11)))) else (jB (jgR [7] 10 (some a0)) fun y17 => jB (jaI 0 y17 x1) fun y18 => jR y18))
theorem wX7_count_152 {N : Nat} {r : Int32} (cx : jCx p s m args meth c cX7_count "WornSkinModel" 2 (Option.some Jvm.ClassFile.FieldType.int) D dA H0 hs.2.2.2.2) (e1 : h'.2.2.1 = hs.2.2.1 + mc) (e2 : h'.2.2.2.1 = hs.2.2.2.1 + ms) (a0 : Nat) (hth : jTh hs a0 7) : ∀ (v0 : Int32), ∀ (h : jH) (H : Heap) (locs : List Loc) (cells slots : Nat) (ls : Array Slot), (fX7_count_152 N a0 v0).1 h = some (r, h') → jS D dA H0 hs h H locs cells slots → lv_has ls 2 [(0, .ref a0)] → W p l e { frames := 7, cells := mc, slots := ms, locals := 167 } s m args below meth c H locs cells slots (jQ D dA H0 below s (.returned (some (.int r))) h' mc ms) (F0 m 152 ls [.int v0]) := by
  have hx := cx.1
  have hb := cx.2.1
  have hown := cx.2.2.2.1
  have hts := cx.2.2.2.2.1
  have hm : h'.2.2.1 ≤ hs.2.2.1 + mc ∧ h'.2.2.2.1 ≤ hs.2.2.2.1 + ms := ⟨Nat.le_of_eq e1, Nat.le_of_eq e2⟩
  intro v0 h H locs cells slots ls hf hS hl
  unfold fX7_count_152 at hf
  exact j_iret (pc := 152) cx hS hf e1 e2 dX7_count_152
theorem wX7_count_134 {N : Nat} {r : Int32} (cx : jCx p s m args meth c cX7_count "WornSkinModel" 2 (Option.some Jvm.ClassFile.FieldType.int) D dA H0 hs.2.2.2.2) (e1 : h'.2.2.1 = hs.2.2.1 + mc) (e2 : h'.2.2.2.1 = hs.2.2.2.1 + ms) (a0 : Nat) (hth : jTh hs a0 7) : ∀ (v0 : Int32), ∀ (h : jH) (H : Heap) (locs : List Loc) (cells slots : Nat) (ls : Array Slot), (fX7_count_134 N a0 v0).1 h = some (r, h') → jS D dA H0 hs h H locs cells slots → lv_has ls 2 [(0, .ref a0)] → W p l e { frames := 7, cells := mc, slots := ms, locals := 167 } s m args below meth c H locs cells slots (jQ D dA H0 below s (.returned (some (.int r))) h' mc ms) (F0 m 134 ls [.int v0]) := by
  have hx := cx.1
  have hb := cx.2.1
  have hown := cx.2.2.2.1
  have hts := cx.2.2.2.2.1
  have hm : h'.2.2.1 ≤ hs.2.2.1 + mc ∧ h'.2.2.2.1 ≤ hs.2.2.2.1 + ms := ⟨Nat.le_of_eq e1, Nat.le_of_eq e2⟩
  intro v0 h H locs cells slots ls hf hS hl
  unfold fX7_count_134 at hf
  exact j_iret (pc := 134) cx hS hf e1 e2 dX7_count_134
theorem wX7_count_106 {N : Nat} {r : Int32} (cx : jCx p s m args meth c cX7_count "WornSkinModel" 2 (Option.some Jvm.ClassFile.FieldType.int) D dA H0 hs.2.2.2.2) (e1 : h'.2.2.1 = hs.2.2.1 + mc) (e2 : h'.2.2.2.1 = hs.2.2.2.1 + ms) (a0 : Nat) (hth : jTh hs a0 7) : ∀ (v0 : Int32), ∀ (h : jH) (H : Heap) (locs : List Loc) (cells slots : Nat) (ls : Array Slot), (fX7_count_106 N a0 v0).1 h = some (r, h') → jS D dA H0 hs h H locs cells slots → lv_has ls 2 [(0, .ref a0)] → W p l e { frames := 7, cells := mc, slots := ms, locals := 167 } s m args below meth c H locs cells slots (jQ D dA H0 below s (.returned (some (.int r))) h' mc ms) (F0 m 106 ls [.int v0]) := by
  have hx := cx.1
  have hb := cx.2.1
  have hown := cx.2.2.2.1
  have hts := cx.2.2.2.2.1
  have hm : h'.2.2.1 ≤ hs.2.2.1 + mc ∧ h'.2.2.2.1 ≤ hs.2.2.2.1 + ms := ⟨Nat.le_of_eq e1, Nat.le_of_eq e2⟩
  intro v0 h H locs cells slots ls hf hS hl
  unfold fX7_count_106 at hf
  exact j_iret (pc := 106) cx hS hf e1 e2 dX7_count_106
theorem wX7_count_70 {N : Nat} {r : Int32} (cx : jCx p s m args meth c cX7_count "WornSkinModel" 2 (Option.some Jvm.ClassFile.FieldType.int) D dA H0 hs.2.2.2.2) (e1 : h'.2.2.1 = hs.2.2.1 + mc) (e2 : h'.2.2.2.1 = hs.2.2.2.1 + ms) (a0 : Nat) (hth : jTh hs a0 7) : ∀ (v0 : Int32), ∀ (h : jH) (H : Heap) (locs : List Loc) (cells slots : Nat) (ls : Array Slot), (fX7_count_70 N a0 v0).1 h = some (r, h') → jS D dA H0 hs h H locs cells slots → lv_has ls 2 [(0, .ref a0)] → W p l e { frames := 7, cells := mc, slots := ms, locals := 167 } s m args below meth c H locs cells slots (jQ D dA H0 below s (.returned (some (.int r))) h' mc ms) (F0 m 70 ls [.int v0]) := by
  have hx := cx.1
  have hb := cx.2.1
  have hown := cx.2.2.2.1
  have hts := cx.2.2.2.2.1
  have hm : h'.2.2.1 ≤ hs.2.2.1 + mc ∧ h'.2.2.2.1 ≤ hs.2.2.2.1 + ms := ⟨Nat.le_of_eq e1, Nat.le_of_eq e2⟩
  intro v0 h H locs cells slots ls hf hS hl
  unfold fX7_count_70 at hf
  exact j_iret (pc := 70) cx hS hf e1 e2 dX7_count_70
theorem wX7_count_0 {N : Nat} {r : Int32} (cx : jCx p s m args meth c cX7_count "WornSkinModel" 2 (Option.some Jvm.ClassFile.FieldType.int) D dA H0 hs.2.2.2.2) (e1 : h'.2.2.1 = hs.2.2.1 + mc) (e2 : h'.2.2.2.1 = hs.2.2.2.1 + ms) (a0 : Nat) (hth : jTh hs a0 7) : ∀ (x1 : Int32), ∀ (h : jH) (H : Heap) (locs : List Loc) (cells slots : Nat) (ls : Array Slot), (fX7_count N a0 x1).1 h = some (r, h') → jS D dA H0 hs h H locs cells slots → lv_has ls 2 [(0, .ref a0), (1, .int x1)] → W p l e { frames := 7, cells := mc, slots := ms, locals := 167 } s m args below meth c H locs cells slots (jQ D dA H0 below s (.returned (some (.int r))) h' mc ms) (F0 m 0 ls []) := by
  have hx := cx.1
  have hb := cx.2.1
  have hown := cx.2.2.2.1
  have hts := cx.2.2.2.2.1
  have hm : h'.2.2.1 ≤ hs.2.2.1 + mc ∧ h'.2.2.2.1 ≤ hs.2.2.2.1 + ms := ⟨Nat.le_of_eq e1, Nat.le_of_eq e2⟩
  intro x1 h H locs cells slots ls hf hS hl
  unfold fX7_count at hf
  refine lv_aload_n (pc := 0) hx hb dX7_count_0 rfl (lv_at hl 0 rfl) ?_
  refine lv_iconst (pc := 1) (v := 0) hx hb dX7_count_1 rfl ?_
  refine j_pI (pc := 2) cx hS hf fp_WornSkinModel_thrown (Or.inl rfl) q1684 dX7_count_2 (fun h H locs hf hS => ?_)
  refine lv_iload_n (pc := 5) hx hb dX7_count_5 rfl (lv_at hl 1 rfl) ?_
  refine lv_iconst (pc := 6) (v := 0) hx hb dX7_count_6 rfl ?_
  refine lv_bipush (pc := 7) (v := 11) hx hb dX7_count_7 rfl ?_
  obtain ⟨y1, h1, e9, hf⟩ := jB_some hf
  refine j_callS (pc := 9) (st1 := [.int y1]) (As := [.int x1, .int 0, .int 11]) (rest := []) cx hS rfl hl.1 hm (metX7_within l _ _ _ _ _ _ e9) (jle hf) (lw_S q1950 q1951 q123 q1952) pdX7_within rfl rfl (Nat.le_of_ble_eq_true rfl) ⟨Nat.le_of_ble_eq_true rfl, Nat.le_of_ble_eq_true rfl⟩ dX7_count_9 rfl (fun H locs cells slots hS => ?_)
  refine lv_if_ne (pc := 12) (tgt := 17) hx hb dX7_count_12 (by decide) (fun hc => ?_) (fun hc => ?_)
  · have hf := jI_f hf hc
    refine lv_iload_n (pc := 17) hx hb dX7_count_17 rfl (lv_at hl 1 rfl) ?_
    refine lv_iconst (pc := 18) (v := 2) hx hb dX7_count_18 rfl ?_
    refine lv_icmp_ge (pc := 19) (tgt := 29) hx hb dX7_count_19 (by decide) (fun hc => ?_) (fun hc => ?_)
    · have hf := jI_t hf hc
      refine lv_iload_n (pc := 29) hx hb dX7_count_29 rfl (lv_at hl 1 rfl) ?_
      refine lv_iconst (pc := 30) (v := 5) hx hb dX7_count_30 rfl ?_
      refine lv_icmp_ge (pc := 31) (tgt := 71) hx hb dX7_count_31 (by decide) (fun hc => ?_) (fun hc => ?_)
      · have hf := jI_t hf hc
        refine lv_iload_n (pc := 71) hx hb dX7_count_71 rfl (lv_at hl 1 rfl) ?_
        refine lv_bipush (pc := 72) (v := 8) hx hb dX7_count_72 rfl ?_
        refine lv_icmp_ge (pc := 74) (tgt := 107) hx hb dX7_count_74 (by decide) (fun hc => ?_) (fun hc => ?_)
        · have hf := jI_t hf hc
          refine lv_iload_n (pc := 107) hx hb dX7_count_107 rfl (lv_at hl 1 rfl) ?_
          refine lv_bipush (pc := 108) (v := 10) hx hb dX7_count_108 rfl ?_
          refine lv_icmp_ge (pc := 110) (tgt := 135) hx hb dX7_count_110 (by decide) (fun hc => ?_) (fun hc => ?_)
          · have hf := jI_t hf hc
            refine lv_iload_n (pc := 135) hx hb dX7_count_135 rfl (lv_at hl 1 rfl) ?_
            refine lv_bipush (pc := 136) (v := 10) hx hb dX7_count_136 rfl ?_
            refine lv_icmp_ne (pc := 138) (tgt := 148) hx hb dX7_count_138 (by decide) (fun hc => ?_) (fun hc => ?_)
            · have hf := jI_f hf hc
              refine lv_aload_n (pc := 148) hx hb dX7_count_148 rfl (lv_at hl 0 rfl) ?_
              refine j_gI (pc := 149) cx hS hf fd_WornSkinModel_taped q1685 dX7_count_149 (fun y2 hf => ?_)
              exact wX7_count_152 cx e1 e2 a0 hth _ _ _ _ _ _ _ hf hS (lv_sub hl [0] rfl)
            · have hf := jI_t hf hc
              refine lv_aload_n (pc := 141) hx hb dX7_count_141 rfl (lv_at hl 0 rfl) ?_
              refine j_gI (pc := 142) cx hS hf fd_WornSkinModel_done q1738 dX7_count_142 (fun y3 hf => ?_)
              refine lv_goto (pc := 145) (tgt := 152) hx hb dX7_count_145 (by decide) ?_
              exact wX7_count_152 cx e1 e2 a0 hth _ _ _ _ _ _ _ hf hS (lv_sub hl [0] rfl)
          · have hf := jI_f hf hc
            refine lv_iload_n (pc := 113) hx hb dX7_count_113 rfl (lv_at hl 1 rfl) ?_
            refine lv_bipush (pc := 114) (v := 8) hx hb dX7_count_114 rfl ?_
            refine lv_icmp_ne (pc := 116) (tgt := 128) hx hb dX7_count_116 (by decide) (fun hc => ?_) (fun hc => ?_)
            · have hf := jI_f hf hc
              refine lv_aload_n (pc := 128) hx hb dX7_count_128 rfl (lv_at hl 0 rfl) ?_
              refine j_gR (pc := 129) cx hS hf fd_WornSkinModel_seens q1727 dX7_count_129 (fun y4 hf => ?_)
              refine lv_iconst (pc := 132) (v := 0) hx hb dX7_count_132 rfl ?_
              refine j_aI (pc := 133) cx hS hf rfl dX7_count_133 (fun y5 hf => ?_)
              exact wX7_count_134 cx e1 e2 a0 hth _ _ _ _ _ _ _ hf hS (lv_sub hl [0] rfl)
            · have hf := jI_t hf hc
              refine lv_aload_n (pc := 119) hx hb dX7_count_119 rfl (lv_at hl 0 rfl) ?_
              refine j_gR (pc := 120) cx hS hf fd_WornSkinModel_lines q1722 dX7_count_120 (fun y6 hf => ?_)
              refine lv_iconst (pc := 123) (v := 0) hx hb dX7_count_123 rfl ?_
              refine j_aI (pc := 124) cx hS hf rfl dX7_count_124 (fun y7 hf => ?_)
              refine lv_goto (pc := 125) (tgt := 134) hx hb dX7_count_125 (by decide) ?_
              exact wX7_count_134 cx e1 e2 a0 hth _ _ _ _ _ _ _ hf hS (lv_sub hl [0] rfl)
        · have hf := jI_f hf hc
          refine lv_iload_n (pc := 77) hx hb dX7_count_77 rfl (lv_at hl 1 rfl) ?_
          refine lv_iconst (pc := 78) (v := 5) hx hb dX7_count_78 rfl ?_
          refine lv_icmp_ne (pc := 79) (tgt := 89) hx hb dX7_count_79 (by decide) (fun hc => ?_) (fun hc => ?_)
          · have hf := jI_f hf hc
            refine lv_iload_n (pc := 89) hx hb dX7_count_89 rfl (lv_at hl 1 rfl) ?_
            refine lv_bipush (pc := 90) (v := 6) hx hb dX7_count_90 rfl ?_
            refine lv_icmp_ne (pc := 92) (tgt := 102) hx hb dX7_count_92 (by decide) (fun hc => ?_) (fun hc => ?_)
            · have hf := jI_f hf hc
              refine lv_aload_n (pc := 102) hx hb dX7_count_102 rfl (lv_at hl 0 rfl) ?_
              obtain ⟨y8, h1, e9, hf⟩ := jB_some hf
              refine j_callV (pc := 103) (st1 := [.int y8]) (As := []) (rest := []) cx hS rfl hl.1 hm (metX7_wholeNow l _ _ _ _ _ (hth.at hS) e9) (jle hf) (hth.at hS) rfl (lw_V q2075 q2077 qs90 q123 q2078) pdX7_wholeNow rfl rfl (Nat.le_of_ble_eq_true rfl) ⟨Nat.le_of_ble_eq_true rfl, Nat.le_of_ble_eq_true rfl⟩ dX7_count_103 rfl (fun H locs cells slots hS => ?_)
              exact wX7_count_106 cx e1 e2 a0 hth _ _ _ _ _ _ _ hf hS (lv_sub hl [0] rfl)
            · have hf := jI_t hf hc
              refine lv_aload_n (pc := 95) hx hb dX7_count_95 rfl (lv_at hl 0 rfl) ?_
              obtain ⟨y9, h1, e9, hf⟩ := jB_some hf
              refine j_callV (pc := 96) (st1 := [.int y9]) (As := []) (rest := []) cx hS rfl hl.1 hm (metX7_allLayers l _ _ _ _ _ (hth.at hS) e9) (jle hf) (hth.at hS) rfl (lw_V q2304 q2306 qs110 q123 q2307) pdX7_allLayers rfl rfl (Nat.le_of_ble_eq_true rfl) ⟨Nat.le_of_ble_eq_true rfl, Nat.le_of_ble_eq_true rfl⟩ dX7_count_96 rfl (fun H locs cells slots hS => ?_)
              refine lv_goto (pc := 99) (tgt := 106) hx hb dX7_count_99 (by decide) ?_
              exact wX7_count_106 cx e1 e2 a0 hth _ _ _ _ _ _ _ hf hS (lv_sub hl [0] rfl)
          · have hf := jI_t hf hc
            refine lv_aload_n (pc := 82) hx hb dX7_count_82 rfl (lv_at hl 0 rfl) ?_
            obtain ⟨y10, h1, e9, hf⟩ := jB_some hf
            refine j_callV (pc := 83) (st1 := [.int y10]) (As := []) (rest := []) cx hS rfl hl.1 hm (metX7_gones l _ _ _ _ _ (hth.at hS) e9) (jle hf) (hth.at hS) rfl (lw_V q2164 q2166 qs100 q123 q2167) pdX7_gones rfl rfl (Nat.le_of_ble_eq_true rfl) ⟨Nat.le_of_ble_eq_true rfl, Nat.le_of_ble_eq_true rfl⟩ dX7_count_83 rfl (fun H locs cells slots hS => ?_)
            refine lv_goto (pc := 86) (tgt := 106) hx hb dX7_count_86 (by decide) ?_
            exact wX7_count_106 cx e1 e2 a0 hth _ _ _ _ _ _ _ hf hS (lv_sub hl [0] rfl)
      · have hf := jI_f hf hc
        refine lv_iload_n (pc := 34) hx hb dX7_count_34 rfl (lv_at hl 1 rfl) ?_
        refine lv_iconst (pc := 35) (v := 2) hx hb dX7_count_35 rfl ?_
        refine lv_icmp_ne (pc := 36) (tgt := 48) hx hb dX7_count_36 (by decide) (fun hc => ?_) (fun hc => ?_)
        · have hf := jI_f hf hc
          refine lv_iload_n (pc := 48) hx hb dX7_count_48 rfl (lv_at hl 1 rfl) ?_
          refine lv_iconst (pc := 49) (v := 3) hx hb dX7_count_49 rfl ?_
          refine lv_icmp_ne (pc := 50) (tgt := 66) hx hb dX7_count_50 (by decide) (fun hc => ?_) (fun hc => ?_)
          · have hf := jI_f hf hc
            refine lv_aload_n (pc := 66) hx hb dX7_count_66 rfl (lv_at hl 0 rfl) ?_
            obtain ⟨y11, h1, e9, hf⟩ := jB_some hf
            refine j_callV (pc := 67) (st1 := [.int y11]) (As := []) (rest := []) cx hS rfl hl.1 hm (metX7_allThick l _ _ _ _ (hth.at hS) e9) (jle hf) (hth.at hS) rfl (lw_V q2288 q2290 qs108 q123 q2291) pdX7_allThick rfl rfl (Nat.le_of_ble_eq_true rfl) ⟨Nat.le_of_ble_eq_true rfl, Nat.le_of_ble_eq_true rfl⟩ dX7_count_67 rfl (fun H locs cells slots hS => ?_)
            exact wX7_count_70 cx e1 e2 a0 hth _ _ _ _ _ _ _ hf hS (lv_sub hl [0] rfl)
          · have hf := jI_t hf hc
            refine lv_aload_n (pc := 53) hx hb dX7_count_53 rfl (lv_at hl 0 rfl) ?_
            refine lv_aload_n (pc := 54) hx hb dX7_count_54 rfl (lv_at hl 0 rfl) ?_
            refine j_gR (pc := 55) cx hS hf fd_WornSkinModel_s q1732 dX7_count_55 (fun y12 hf => ?_)
            refine lv_iconst (pc := 58) (v := 0) hx hb dX7_count_58 rfl ?_
            refine j_aI (pc := 59) cx hS hf rfl dX7_count_59 (fun y13 hf => ?_)
            obtain ⟨y14, h1, e9, hf⟩ := jB_some hf
            refine j_callV (pc := 60) (st1 := [.int y14]) (As := [.int y13]) (rest := []) cx hS rfl hl.1 hm (metX7_dampOf l _ _ _ _ _ (hth.at hS) e9) (jle hf) (hth.at hS) rfl (lw_V q2039 q2041 qs82 q123 q2042) pdX7_dampOf rfl rfl (Nat.le_of_ble_eq_true rfl) ⟨Nat.le_of_ble_eq_true rfl, Nat.le_of_ble_eq_true rfl⟩ dX7_count_60 rfl (fun H locs cells slots hS => ?_)
            refine lv_goto (pc := 63) (tgt := 70) hx hb dX7_count_63 (by decide) ?_
            exact wX7_count_70 cx e1 e2 a0 hth _ _ _ _ _ _ _ hf hS (lv_sub hl [0] rfl)
        · have hf := jI_t hf hc
          refine lv_aload_n (pc := 39) hx hb dX7_count_39 rfl (lv_at hl 0 rfl) ?_
          refine j_gR (pc := 40) cx hS hf fd_WornSkinModel_s q1732 dX7_count_40 (fun y15 hf => ?_)
          refine lv_iconst (pc := 43) (v := 0) hx hb dX7_count_43 rfl ?_
          refine j_aI (pc := 44) cx hS hf rfl dX7_count_44 (fun y16 hf => ?_)
          refine lv_goto (pc := 45) (tgt := 70) hx hb dX7_count_45 (by decide) ?_
          exact wX7_count_70 cx e1 e2 a0 hth _ _ _ _ _ _ _ hf hS (lv_sub hl [0] rfl)
    · have hf := jI_f hf hc
      refine lv_aload_n (pc := 22) hx hb dX7_count_22 rfl (lv_at hl 0 rfl) ?_
      refine j_gR (pc := 23) cx hS hf fd_WornSkinModel_library q1694 dX7_count_23 (fun y17 hf => ?_)
      refine lv_iload_n (pc := 26) hx hb dX7_count_26 rfl (lv_at hl 1 rfl) ?_
      refine j_aI (pc := 27) cx hS hf rfl dX7_count_27 (fun y18 hf => ?_)
      exact j_iret (pc := 28) cx hS hf e1 e2 dX7_count_28
  · have hf := jI_t hf hc
    refine lv_iconst (pc := 15) (v := (-1)) hx hb dX7_count_15 rfl ?_
    exact j_iret (pc := 16) cx hS hf e1 e2 dX7_count_16
theorem metX7_count (l : Launch) (N : Nat) (a0 : Nat) (x1 : Int32) (h h' : jH) (r : Int32) (hth : jcd h a0 = some 7) (hf : (fX7_count N a0 x1).1 h = some (r, h')) : jMet l yX7_count (ws_ yX7_count cX7_count 2 (Option.some Jvm.ClassFile.FieldType.int)) (7) (167) [.ref a0, .int x1] h h' (.returned (some (.int r))) := by
  refine jStart rfl (jle hf) (Nat.le_of_ble_eq_true rfl) ?_
  intro p e s m below meth c D dA H0 mc ms ls cx hnm e1 e2 hS hl
  have hth := jTh.mk hS hth
  exact wX7_count_0 cx e1 e2 a0 hth _ _ _ _ _ _ _ hf hS hl
end
