set_option maxRecDepth 100000
section
variable {p : Program} {l : Launch} {e : Env} {s : State} {m : MethodId} {args : Array Value} {below : List Frame} {meth : Method} {c : Code} {D : va_G} {dA : Nat → ClassId → Prop} {H0 : Heap} {hs h' : jH} {mc ms : Nat}
def fX1_feed (N : Nat) (a0 : Nat) (x1 : Int64) (x3 : Int64) (x5 : Int64) : jM Int32 := jB (jgR [0] 0 (some a0)) fun y1 => jB (jrc 1 y1) fun b3 => jB (fX2_feed N b3 x1) fun _ => jB (jgR [0] 0 (some a0)) fun y4 => jB (jrc 1 y4) fun b6 => jB (fX2_feed N b6 x3) fun _ => jB (jgR [0] 0 (some a0)) fun y7 => jB (jrc 1 y7) fun b9 => jB (fX2_feed N b9 x5) fun _ => jB (jgR [0] 0 (some a0)) fun y10 => jB (jgI [1] 7 y10) fun y11 => jR y11
theorem wX1_feed_0 {N : Nat} {r : Int32} (cx : jCx p s m args meth c cX1_feed "WornSkin" 7 (Option.some Jvm.ClassFile.FieldType.int) D dA H0 hs.2.2.2.2) (e1 : h'.2.2.1 = hs.2.2.1 + mc) (e2 : h'.2.2.2.1 = hs.2.2.2.1 + ms) (a0 : Nat) (hth : jTh hs a0 0) : ∀ (x1 : Int64) (x3 : Int64) (x5 : Int64), ∀ (h : jH) (H : Heap) (locs : List Loc) (cells slots : Nat) (ls : Array Slot), (fX1_feed N a0 x1 x3 x5).1 h = some (r, h') → jS D dA H0 hs h H locs cells slots → lv_has ls 7 [(0, .ref a0), (1, .long x1), (3, .long x3), (5, .long x5)] → W p l e { frames := 2, cells := mc, slots := ms, locals := 46 } s m args below meth c H locs cells slots (jQ D dA H0 below s (.returned (some (.int r))) h' mc ms) (F0 m 0 ls []) := by
  have hx := cx.1
  have hb := cx.2.1
  have hown := cx.2.2.2.1
  have hts := cx.2.2.2.2.1
  have hm : h'.2.2.1 ≤ hs.2.2.1 + mc ∧ h'.2.2.2.1 ≤ hs.2.2.2.1 + ms := ⟨Nat.le_of_eq e1, Nat.le_of_eq e2⟩
  intro x1 x3 x5 h H locs cells slots ls hf hS hl
  unfold fX1_feed at hf
  refine lv_aload_n (pc := 0) hx hb dX1_feed_0 rfl (lv_at hl 0 rfl) ?_
  refine j_gR (pc := 1) cx hS hf fd_WornSkin_reader q428 dX1_feed_1 (fun y1 hf => ?_)
  refine lv_lload_n (pc := 4) hx hb dX1_feed_4 rfl (lv_at hl 1 rfl) ?_
  obtain ⟨b3, eb, hrc, hf⟩ := jrc_s hf
  refine j_nn (pc := 5) eb [.long x1] [] rfl ?_
  obtain ⟨_, h1, e9, hf⟩ := jB_some hf
  refine j_callV (pc := 5) (st1 := []) (As := [.long x1]) (rest := []) cx hS rfl hl.1 hm (metX2_feed l _ _ _ _ _ _ hrc e9) (jle hf) hrc rfl (lw_V q462 q463 q464 q113 q465) pdX2_feed rfl rfl (Nat.le_of_ble_eq_true rfl) ⟨Nat.le_of_ble_eq_true rfl, Nat.le_of_ble_eq_true rfl⟩ dX1_feed_5 rfl (fun H locs cells slots hS => ?_)
  refine lv_aload_n (pc := 8) hx hb dX1_feed_8 rfl (lv_at hl 0 rfl) ?_
  refine j_gR (pc := 9) cx hS hf fd_WornSkin_reader q428 dX1_feed_9 (fun y4 hf => ?_)
  refine lv_lload_n (pc := 12) hx hb dX1_feed_12 rfl (lv_at hl 2 rfl) ?_
  obtain ⟨b6, eb, hrc, hf⟩ := jrc_s hf
  refine j_nn (pc := 13) eb [.long x3] [] rfl ?_
  obtain ⟨_, h1, e9, hf⟩ := jB_some hf
  refine j_callV (pc := 13) (st1 := []) (As := [.long x3]) (rest := []) cx hS rfl hl.1 hm (metX2_feed l _ _ _ _ _ _ hrc e9) (jle hf) hrc rfl (lw_V q462 q463 q464 q113 q465) pdX2_feed rfl rfl (Nat.le_of_ble_eq_true rfl) ⟨Nat.le_of_ble_eq_true rfl, Nat.le_of_ble_eq_true rfl⟩ dX1_feed_13 rfl (fun H locs cells slots hS => ?_)
  refine lv_aload_n (pc := 16) hx hb dX1_feed_16 rfl (lv_at hl 0 rfl) ?_
  refine j_gR (pc := 17) cx hS hf fd_WornSkin_reader q428 dX1_feed_17 (fun y7 hf => ?_)
  refine lv_lload (pc := 20) hx hb dX1_feed_20 (lv_at hl 3 rfl) ?_
  obtain ⟨b9, eb, hrc, hf⟩ := jrc_s hf
  refine j_nn (pc := 22) eb [.long x5] [] rfl ?_
  obtain ⟨_, h1, e9, hf⟩ := jB_some hf
  refine j_callV (pc := 22) (st1 := []) (As := [.long x5]) (rest := []) cx hS rfl hl.1 hm (metX2_feed l _ _ _ _ _ _ hrc e9) (jle hf) hrc rfl (lw_V q462 q463 q464 q113 q465) pdX2_feed rfl rfl (Nat.le_of_ble_eq_true rfl) ⟨Nat.le_of_ble_eq_true rfl, Nat.le_of_ble_eq_true rfl⟩ dX1_feed_22 rfl (fun H locs cells slots hS => ?_)
  refine lv_aload_n (pc := 25) hx hb dX1_feed_25 rfl (lv_at hl 0 rfl) ?_
  refine j_gR (pc := 26) cx hS hf fd_WornSkin_reader q428 dX1_feed_26 (fun y10 hf => ?_)
  refine j_gI (pc := 29) cx hS hf fd_WornSkin_Reader_taped q213 dX1_feed_29 (fun y11 hf => ?_)
  exact j_iret (pc := 32) cx hS hf e1 e2 dX1_feed_32
theorem metX1_feed (l : Launch) (N : Nat) (a0 : Nat) (x1 : Int64) (x3 : Int64) (x5 : Int64) (h h' : jH) (r : Int32) (hth : jcd h a0 = some 0) (hf : (fX1_feed N a0 x1 x3 x5).1 h = some (r, h')) : jMet l yX1_feed (ws_ yX1_feed cX1_feed 7 (Option.some Jvm.ClassFile.FieldType.int)) (2) (46) [.ref a0, .long x1, .long x3, .long x5] h h' (.returned (some (.int r))) := by
  refine jStart rfl (jle hf) (Nat.le_of_ble_eq_true rfl) ?_
  intro p e s m below meth c D dA H0 mc ms ls cx hnm e1 e2 hS hl
  have hth := jTh.mk hS hth
  exact wX1_feed_0 cx e1 e2 a0 hth _ _ _ _ _ _ _ _ _ hf hS hl
def fX1_library_74 (N : Nat) (a0 : Nat) (v0 : Option Nat) : jM Int32 := jB (jgI [9] 6 v0) fun y1 => jR y1
def fX1_library_72 (N : Nat) (a0 : Nat) : jM Int32 := jR 0
def fX1_library_54 (N : Nat) (a0 : Nat) : Nat → Int32 → jM Int32
  | 0, _ => jE
  | n + 1, x1 => if 4 ≤ x1 then (fX1_library_72 N a0) else (jB (jgR [0] 8 (some a0)) fun y1 => jB (jsR 6 [32] y1 x1 none) fun _ => fX1_library_54 N a0 n (x1 + 1))
def fX1_library (N : Nat) (a0 : Nat) : jM Int32 := jB (jnw 2 6 [.null, .int 0, .int 0, .null, .null, .null]) fun q1 => jB (fX3_init q1) fun _ => jB (jgR [0] 0 (some a0)) fun y3 => jB (jrc 1 y3) fun b5 => jBH (fX2_library N b5) (fun x9 => jB (jrc 9 (some x9)) fun _ => fX1_library_74 N a0 (some x9)) fun y4 => jB (jrc 2 (some q1)) fun _ => jB (fX3_begins N q1 y4) fun y6 => jB (jpR [0] 1 (some a0) y6) fun _ => jB (jnw 4 3 [.int 0, .null, .int 0]) fun q7 => jB (fJ2_init q7 2) fun _ => jB (jpR [0] 3 (some a0) (some q7)) fun _ => jB (jnw 4 3 [.int 0, .null, .int 0]) fun q9 => jB (fJ2_init q9 2) fun _ => jB (jpR [0] 4 (some a0) (some q9)) fun _ => jB (jgR [0] 5 (some a0)) fun y11 => jB (jrc 4 y11) fun b13 => jB (fJ2_clear N b13) fun _ => fX1_library_54 N a0 N 0
theorem wX1_library_74 {N : Nat} {r : Int32} (cx : jCx p s m args meth c cX1_library "WornSkin" 2 (Option.some Jvm.ClassFile.FieldType.int) D dA H0 hs.2.2.2.2) (e1 : h'.2.2.1 = hs.2.2.1 + mc) (e2 : h'.2.2.2.1 = hs.2.2.2.1 + ms) (hfl : l.stackTraces = false) (ht : c.exceptionTable.toList = tableOf [(0, 73, 74, 93)]) (a0 : Nat) (hth : jTh hs a0 0) : ∀ (v0 : Option Nat), ∀ (h : jH) (H : Heap) (locs : List Loc) (cells slots : Nat) (ls : Array Slot), (fX1_library_74 N a0 v0).1 h = some (r, h') → jS D dA H0 hs h H locs cells slots → lv_has ls 2 [(0, .ref a0)] → W p l e { frames := 102, cells := mc, slots := ms, locals := 2364 } s m args below meth c H locs cells slots (jQ D dA H0 below s (.returned (some (.int r))) h' mc ms) (F0 m 74 ls [va_rf v0]) := by
  have hx := cx.1
  have hb := cx.2.1
  have hown := cx.2.2.2.1
  have hts := cx.2.2.2.2.1
  have hm : h'.2.2.1 ≤ hs.2.2.1 + mc ∧ h'.2.2.2.1 ≤ hs.2.2.2.1 + ms := ⟨Nat.le_of_eq e1, Nat.le_of_eq e2⟩
  intro v0 h H locs cells slots ls hf hS hl
  unfold fX1_library_74 at hf
  refine j_astore_n (pc := 74) (i := 1) (r := v0) (lv' := [(1, va_rf v0), (0, .ref a0)]) hx hb dX1_library_74 rfl hl (Nat.le_of_ble_eq_true rfl) rfl (fun ls hl => ?_)
  refine j_aload_n (pc := 75) (r := v0) hx hb dX1_library_75 rfl (lv_at hl 0 rfl) ?_
  refine j_gI (pc := 76) cx hS hf fd_WornSkin_Wrong_fault q667 dX1_library_76 (fun y1 hf => ?_)
  exact j_iret (pc := 79) cx hS hf e1 e2 dX1_library_79
theorem wX1_library_72 {N : Nat} {r : Int32} (cx : jCx p s m args meth c cX1_library "WornSkin" 2 (Option.some Jvm.ClassFile.FieldType.int) D dA H0 hs.2.2.2.2) (e1 : h'.2.2.1 = hs.2.2.1 + mc) (e2 : h'.2.2.2.1 = hs.2.2.2.1 + ms) (hfl : l.stackTraces = false) (ht : c.exceptionTable.toList = tableOf [(0, 73, 74, 93)]) (a0 : Nat) (hth : jTh hs a0 0) : ∀ (h : jH) (H : Heap) (locs : List Loc) (cells slots : Nat) (ls : Array Slot), (fX1_library_72 N a0).1 h = some (r, h') → jS D dA H0 hs h H locs cells slots → lv_has ls 2 [(0, .ref a0)] → W p l e { frames := 102, cells := mc, slots := ms, locals := 2364 } s m args below meth c H locs cells slots (jQ D dA H0 below s (.returned (some (.int r))) h' mc ms) (F0 m 72 ls []) := by
  have hx := cx.1
  have hb := cx.2.1
  have hown := cx.2.2.2.1
  have hts := cx.2.2.2.2.1
  have hm : h'.2.2.1 ≤ hs.2.2.1 + mc ∧ h'.2.2.2.1 ≤ hs.2.2.2.1 + ms := ⟨Nat.le_of_eq e1, Nat.le_of_eq e2⟩
  intro h H locs cells slots ls hf hS hl
  unfold fX1_library_72 at hf
  refine lv_iconst (pc := 72) (v := 0) hx hb dX1_library_72 rfl ?_
  exact j_iret (pc := 73) cx hS hf e1 e2 dX1_library_73
theorem wX1_library_54 {N : Nat} {r : Int32} (cx : jCx p s m args meth c cX1_library "WornSkin" 2 (Option.some Jvm.ClassFile.FieldType.int) D dA H0 hs.2.2.2.2) (e1 : h'.2.2.1 = hs.2.2.1 + mc) (e2 : h'.2.2.2.1 = hs.2.2.2.1 + ms) (hfl : l.stackTraces = false) (ht : c.exceptionTable.toList = tableOf [(0, 73, 74, 93)]) (a0 : Nat) (hth : jTh hs a0 0) : ∀ (n : Nat) (x1 : Int32), ∀ (h : jH) (H : Heap) (locs : List Loc) (cells slots : Nat) (ls : Array Slot), (fX1_library_54 N a0 n x1).1 h = some (r, h') → jS D dA H0 hs h H locs cells slots → lv_has ls 2 [(0, .ref a0), (1, .int x1)] → W p l e { frames := 102, cells := mc, slots := ms, locals := 2364 } s m args below meth c H locs cells slots (jQ D dA H0 below s (.returned (some (.int r))) h' mc ms) (F0 m 54 ls []) := by
  have hx := cx.1
  have hb := cx.2.1
  have hown := cx.2.2.2.1
  have hts := cx.2.2.2.2.1
  have hm : h'.2.2.1 ≤ hs.2.2.1 + mc ∧ h'.2.2.2.1 ≤ hs.2.2.2.1 + ms := ⟨Nat.le_of_eq e1, Nat.le_of_eq e2⟩
  intro n
  induction n with
  | zero =>
    intro x1 h H locs cells slots ls hf hS hl
    exact jE_f hf
  | succ n ih =>
    intro x1 h H locs cells slots ls hf hS hl
    unfold fX1_library_54 at hf
    refine lv_iload_n (pc := 54) hx hb dX1_library_54 rfl (lv_at hl 1 rfl) ?_
    refine lv_iconst (pc := 55) (v := 4) hx hb dX1_library_55 rfl ?_
    refine lv_icmp_ge (pc := 56) (tgt := 72) hx hb dX1_library_56 (by decide) (fun hc => ?_) (fun hc => ?_)
    · have hf := jI_t hf hc
      exact wX1_library_72 cx e1 e2 hfl ht a0 hth _ _ _ _ _ _ hf hS (lv_sub hl [0] rfl)
    · have hf := jI_f hf hc
      refine lv_aload_n (pc := 59) hx hb dX1_library_59 rfl (lv_at hl 0 rfl) ?_
      refine j_gR (pc := 60) cx hS hf fd_WornSkin_marks q438 dX1_library_60 (fun y1 hf => ?_)
      refine lv_iload_n (pc := 63) hx hb dX1_library_63 rfl (lv_at hl 1 rfl) ?_
      refine lv_null (pc := 64) hx hb dX1_library_64 ?_
      refine j_sR (pc := 65) cx hS hf rfl ok_WornSkin_Mark dX1_library_65 (fun h H locs hf hS => ?_)
      refine lv_iinc (pc := 66) (v := (x1 + 1)) (lv' := [(1, .int (x1 + 1)), (0, .ref a0)]) hx hb dX1_library_66 hl (k := 1) rfl rfl (Nat.le_of_ble_eq_true rfl) rfl (fun ls hl => ?_)
      refine lv_goto (pc := 69) (tgt := 54) hx hb dX1_library_69 (by decide) ?_
      exact ih _ _ _ _ _ _ _ hf hS (lv_sub hl [1, 0] rfl)
theorem wX1_library_0 {N : Nat} {r : Int32} (cx : jCx p s m args meth c cX1_library "WornSkin" 2 (Option.some Jvm.ClassFile.FieldType.int) D dA H0 hs.2.2.2.2) (e1 : h'.2.2.1 = hs.2.2.1 + mc) (e2 : h'.2.2.2.1 = hs.2.2.2.1 + ms) (hfl : l.stackTraces = false) (ht : c.exceptionTable.toList = tableOf [(0, 73, 74, 93)]) (a0 : Nat) (hth : jTh hs a0 0) : ∀ (h : jH) (H : Heap) (locs : List Loc) (cells slots : Nat) (ls : Array Slot), (fX1_library N a0).1 h = some (r, h') → jS D dA H0 hs h H locs cells slots → lv_has ls 2 [(0, .ref a0)] → W p l e { frames := 102, cells := mc, slots := ms, locals := 2364 } s m args below meth c H locs cells slots (jQ D dA H0 below s (.returned (some (.int r))) h' mc ms) (F0 m 0 ls []) := by
  have hx := cx.1
  have hb := cx.2.1
  have hown := cx.2.2.2.1
  have hts := cx.2.2.2.2.1
  have hm : h'.2.2.1 ≤ hs.2.2.1 + mc ∧ h'.2.2.2.1 ≤ hs.2.2.2.1 + ms := ⟨Nat.le_of_eq e1, Nat.le_of_eq e2⟩
  intro h H locs cells slots ls hf hS hl
  unfold fX1_library at hf
  refine lv_aload_n (pc := 0) hx hb dX1_library_0 rfl (lv_at hl 0 rfl) ?_
  refine j_new (pc := 1) cx hS hf cn_X3 q249 dX1_library_1 hm (fun q1 h H cells slots hf hS => ?_)
  refine lv_dup (pc := 4) hx hb dX1_library_4 rfl ?_
  obtain ⟨_, h1, e9, hf⟩ := jB_some hf
  refine j_callIN (pc := 5) (st1 := [.ref q1, .ref a0]) (As := []) (rest := [.ref q1, .ref a0]) cx hS rfl hl.1 hm (metX3_init l _ _ _ _ e9) (jle hf) rfl q253 q252 q251 q114 pdX3_init rfl rfl (Nat.le_of_ble_eq_true rfl) ⟨Nat.le_of_ble_eq_true rfl, Nat.le_of_ble_eq_true rfl⟩ dX1_library_5 rfl (fun H locs cells slots hS => ?_)
  refine lv_aload_n (pc := 8) hx hb dX1_library_8 rfl (lv_at hl 0 rfl) ?_
  refine j_gR (pc := 9) cx hS hf fd_WornSkin_reader q428 dX1_library_9 (fun y3 hf => ?_)
  obtain ⟨b5, eb, hrc, hf⟩ := jrc_s hf
  refine j_nn (pc := 12) eb [] [.ref q1, .ref a0] rfl ?_
  rcases jBH_some hf with ⟨y4, h1, e9, hf⟩ | ⟨x9, h1, e9, hf⟩
  rotate_left
  · obtain ⟨hxc, hf⟩ := jrc_s2 hf
    exact j_callVX (pc := 12) (As := []) (rest := [.ref q1, .ref a0]) cx hS rfl hl.1 hm (metX2_library l hfl _ _ _ _ _ hrc e9) (jle hf) hrc rfl (lw_V q475 q476 q477 q113 q478) pdX2_library rfl rfl (Nat.le_of_ble_eq_true rfl) ⟨Nat.le_of_ble_eq_true rfl, Nat.le_of_ble_eq_true rfl⟩ dX1_library_12 (fun H locs cells slots hS => j_caught cx hS hxc ht rfl (by decide) rfl q474 (wX1_library_74 cx e1 e2 hfl ht a0 hth _ _ _ _ _ _ _ hf hS hl))
  refine j_callV (pc := 12) (st1 := [va_rf y4, .ref q1, .ref a0]) (As := []) (rest := [.ref q1, .ref a0]) cx hS rfl hl.1 hm (metX2_library l hfl _ _ _ _ _ hrc e9) (jle hf) hrc rfl (lw_V q475 q476 q477 q113 q478) pdX2_library rfl rfl (Nat.le_of_ble_eq_true rfl) ⟨Nat.le_of_ble_eq_true rfl, Nat.le_of_ble_eq_true rfl⟩ dX1_library_12 rfl (fun H locs cells slots hS => ?_)
  obtain ⟨hrc, hf⟩ := jrc_s2 hf
  obtain ⟨y6, h1, e9, hf⟩ := jB_some hf
  refine j_callV (pc := 15) (st1 := [va_rf y6, .ref a0]) (As := [va_rf y4]) (rest := [.ref a0]) cx hS rfl hl.1 hm (metX3_begins l _ _ _ _ _ _ hrc e9) (jle hf) hrc rfl (lw_V q363 q364 q365 q114 q366) pdX3_begins rfl rfl (Nat.le_of_ble_eq_true rfl) ⟨Nat.le_of_ble_eq_true rfl, Nat.le_of_ble_eq_true rfl⟩ dX1_library_15 rfl (fun H locs cells slots hS => ?_)
  refine j_pR (pc := 18) cx hS hf fp_WornSkin_shelf (Or.inl rfl) q430 dX1_library_18 (fun h H locs hf hS => ?_)
  refine lv_aload_n (pc := 21) hx hb dX1_library_21 rfl (lv_at hl 0 rfl) ?_
  refine j_new (pc := 22) cx hS hf cn_J2 q398 dX1_library_22 hm (fun q7 h H cells slots hf hS => ?_)
  refine lv_dup (pc := 25) hx hb dX1_library_25 rfl ?_
  refine lv_iconst (pc := 26) (v := 2) hx hb dX1_library_26 rfl ?_
  obtain ⟨_, h1, e9, hf⟩ := jB_some hf
  refine j_callI (pc := 27) (st1 := [.ref q7, .ref a0]) (As := [.int 2]) (rest := [.ref q7, .ref a0]) cx hS rfl hl.1 hm (metJ2_init l _ _ _ _ _ e9) (jle hf) rfl q292 q291 q399 q118 pdJ2_init rfl rfl (Nat.le_of_ble_eq_true rfl) ⟨Nat.le_of_ble_eq_true rfl, Nat.le_of_ble_eq_true rfl⟩ dX1_library_27 rfl (fun H locs cells slots hS => ?_)
  refine j_pR (pc := 30) cx hS hf fp_WornSkin_lines (Or.inl rfl) q433 dX1_library_30 (fun h H locs hf hS => ?_)
  refine lv_aload_n (pc := 33) hx hb dX1_library_33 rfl (lv_at hl 0 rfl) ?_
  refine j_new (pc := 34) cx hS hf cn_J2 q398 dX1_library_34 hm (fun q9 h H cells slots hf hS => ?_)
  refine lv_dup (pc := 37) hx hb dX1_library_37 rfl ?_
  refine lv_iconst (pc := 38) (v := 2) hx hb dX1_library_38 rfl ?_
  obtain ⟨_, h1, e9, hf⟩ := jB_some hf
  refine j_callI (pc := 39) (st1 := [.ref q9, .ref a0]) (As := [.int 2]) (rest := [.ref q9, .ref a0]) cx hS rfl hl.1 hm (metJ2_init l _ _ _ _ _ e9) (jle hf) rfl q292 q291 q399 q118 pdJ2_init rfl rfl (Nat.le_of_ble_eq_true rfl) ⟨Nat.le_of_ble_eq_true rfl, Nat.le_of_ble_eq_true rfl⟩ dX1_library_39 rfl (fun H locs cells slots hS => ?_)
  refine j_pR (pc := 42) cx hS hf fp_WornSkin_seen (Or.inl rfl) q434 dX1_library_42 (fun h H locs hf hS => ?_)
  refine lv_aload_n (pc := 45) hx hb dX1_library_45 rfl (lv_at hl 0 rfl) ?_
  refine j_gR (pc := 46) cx hS hf fd_WornSkin_behind q435 dX1_library_46 (fun y11 hf => ?_)
  obtain ⟨b13, eb, hrc, hf⟩ := jrc_s hf
  refine j_nn (pc := 49) eb [] [] rfl ?_
  obtain ⟨_, h1, e9, hf⟩ := jB_some hf
  refine j_callV (pc := 49) (st1 := []) (As := []) (rest := []) cx hS rfl hl.1 hm (metJ2_clear l _ _ _ _ _ hrc e9) (jle hf) hrc rfl (lw_V q1084 q1085 q1086 q118 q1087) pdJ2_clear rfl rfl (Nat.le_of_ble_eq_true rfl) ⟨Nat.le_of_ble_eq_true rfl, Nat.le_of_ble_eq_true rfl⟩ dX1_library_49 rfl (fun H locs cells slots hS => ?_)
  refine lv_iconst (pc := 52) (v := 0) hx hb dX1_library_52 rfl ?_
  refine lv_istore_n (pc := 53) (i := 1) (lv' := [(1, .int 0), (0, .ref a0)]) hx hb dX1_library_53 rfl hl (Nat.le_of_ble_eq_true rfl) rfl (fun ls hl => ?_)
  exact wX1_library_54 cx e1 e2 hfl ht a0 hth N _ _ _ _ _ _ _ hf hS (lv_sub hl [1, 0] rfl)
theorem metX1_library (l : Launch) (hfl : l.stackTraces = false) (N : Nat) (a0 : Nat) (h h' : jH) (r : Int32) (hth : jcd h a0 = some 0) (hf : (fX1_library N a0).1 h = some (r, h')) : jMet l yX1_library (wsW_ yX1_library cX1_library 2 (Option.some Jvm.ClassFile.FieldType.int) [(0, 73, 74, 93)]) (102) (2364) [.ref a0] h h' (.returned (some (.int r))) := by
  refine jStartH rfl (jle hf) (Nat.le_of_ble_eq_true rfl) ?_
  intro p e s m below meth c D dA H0 mc ms ls ht cx hnm e1 e2 hS hl
  have hth := jTh.mk hS hth
  exact wX1_library_0 cx e1 e2 hfl ht a0 hth  _ _ _ _ _ _ hf hS hl
def fX1_now (a0 : Nat) : jM (Option Nat) := jB (jgR [0] 1 (some a0)) fun y1 => jB (jgR [2] 0 y1) fun y2 => jR y2
theorem wX1_now_0 {r : Option Nat} (cx : jCx p s m args meth c cX1_now "WornSkin" 1 (Option.some (Jvm.ClassFile.FieldType.object "WornSkin$Library")) D dA H0 hs.2.2.2.2) (e1 : h'.2.2.1 = hs.2.2.1 + mc) (e2 : h'.2.2.2.1 = hs.2.2.2.1 + ms) (a0 : Nat) (hth : jTh hs a0 0) : ∀ (h : jH) (H : Heap) (locs : List Loc) (cells slots : Nat) (ls : Array Slot), (fX1_now a0).1 h = some (r, h') → jS D dA H0 hs h H locs cells slots → lv_has ls 1 [(0, .ref a0)] → W p l e { frames := 0, cells := mc, slots := ms, locals := 0 } s m args below meth c H locs cells slots (jQ D dA H0 below s (.returned (some (va_rf r))) h' mc ms) (F0 m 0 ls []) := by
  have hx := cx.1
  have hb := cx.2.1
  have hown := cx.2.2.2.1
  have hts := cx.2.2.2.2.1
  have hm : h'.2.2.1 ≤ hs.2.2.1 + mc ∧ h'.2.2.2.1 ≤ hs.2.2.2.1 + ms := ⟨Nat.le_of_eq e1, Nat.le_of_eq e2⟩
  intro h H locs cells slots ls hf hS hl
  unfold fX1_now at hf
  refine lv_aload_n (pc := 0) hx hb dX1_now_0 rfl (lv_at hl 0 rfl) ?_
  refine j_gR (pc := 1) cx hS hf fd_WornSkin_shelf q430 dX1_now_1 (fun y1 hf => ?_)
  refine j_gR (pc := 4) cx hS hf fd_WornSkin_Shelf_library q256 dX1_now_4 (fun y2 hf => ?_)
  exact j_aret (pc := 7) cx hS hf (Or.inl ⟨_, rfl⟩) e1 e2 dX1_now_7
theorem metX1_now (l : Launch) (a0 : Nat) (h h' : jH) (r : Option Nat) (hth : jcd h a0 = some 0) (hf : (fX1_now a0).1 h = some (r, h')) : jMet l yX1_now (ws_ yX1_now cX1_now 1 (Option.some (Jvm.ClassFile.FieldType.object "WornSkin$Library"))) (0) (0) [.ref a0] h h' (.returned (some (va_rf r))) := by
  refine jStart rfl (jle hf) (Nat.le_of_ble_eq_true rfl) ?_
  intro p e s m below meth c D dA H0 mc ms ls cx hnm e1 e2 hS hl
  have hth := jTh.mk hS hth
  exact wX1_now_0 cx e1 e2 a0 hth  _ _ _ _ _ _ hf hS hl
def fX1_year_17 (N : Nat) (a0 : Nat) (v0 : Option Nat) : jM Int32 := jB (jgI [9] 6 v0) fun y1 => jR y1
def fX1_year (N : Nat) (a0 : Nat) : jM Int32 := jB (jgR [0] 0 (some a0)) fun y1 => jB (fX1_now a0) fun y2 => jB (jrc 1 y1) fun b4 => jBH (fX2_year N b4 y2) (fun x9 => jB (jrc 9 (some x9)) fun _ => fX1_year_17 N a0 (some x9)) fun y3 => jB (jpR [0] 3 (some a0) y3) fun _ => jR 0
theorem wX1_year_17 {N : Nat} {r : Int32} (cx : jCx p s m args meth c cX1_year "WornSkin" 2 (Option.some Jvm.ClassFile.FieldType.int) D dA H0 hs.2.2.2.2) (e1 : h'.2.2.1 = hs.2.2.1 + mc) (e2 : h'.2.2.2.1 = hs.2.2.2.1 + ms) (hfl : l.stackTraces = false) (ht : c.exceptionTable.toList = tableOf [(0, 16, 17, 93)]) (a0 : Nat) (hth : jTh hs a0 0) : ∀ (v0 : Option Nat), ∀ (h : jH) (H : Heap) (locs : List Loc) (cells slots : Nat) (ls : Array Slot), (fX1_year_17 N a0 v0).1 h = some (r, h') → jS D dA H0 hs h H locs cells slots → lv_has ls 2 [(0, .ref a0)] → W p l e { frames := 11, cells := mc, slots := ms, locals := 239 } s m args below meth c H locs cells slots (jQ D dA H0 below s (.returned (some (.int r))) h' mc ms) (F0 m 17 ls [va_rf v0]) := by
  have hx := cx.1
  have hb := cx.2.1
  have hown := cx.2.2.2.1
  have hts := cx.2.2.2.2.1
  have hm : h'.2.2.1 ≤ hs.2.2.1 + mc ∧ h'.2.2.2.1 ≤ hs.2.2.2.1 + ms := ⟨Nat.le_of_eq e1, Nat.le_of_eq e2⟩
  intro v0 h H locs cells slots ls hf hS hl
  unfold fX1_year_17 at hf
  refine j_astore_n (pc := 17) (i := 1) (r := v0) (lv' := [(1, va_rf v0), (0, .ref a0)]) hx hb dX1_year_17 rfl hl (Nat.le_of_ble_eq_true rfl) rfl (fun ls hl => ?_)
  refine j_aload_n (pc := 18) (r := v0) hx hb dX1_year_18 rfl (lv_at hl 0 rfl) ?_
  refine j_gI (pc := 19) cx hS hf fd_WornSkin_Wrong_fault q667 dX1_year_19 (fun y1 hf => ?_)
  exact j_iret (pc := 22) cx hS hf e1 e2 dX1_year_22
theorem wX1_year_0 {N : Nat} {r : Int32} (cx : jCx p s m args meth c cX1_year "WornSkin" 2 (Option.some Jvm.ClassFile.FieldType.int) D dA H0 hs.2.2.2.2) (e1 : h'.2.2.1 = hs.2.2.1 + mc) (e2 : h'.2.2.2.1 = hs.2.2.2.1 + ms) (hfl : l.stackTraces = false) (ht : c.exceptionTable.toList = tableOf [(0, 16, 17, 93)]) (a0 : Nat) (hth : jTh hs a0 0) : ∀ (h : jH) (H : Heap) (locs : List Loc) (cells slots : Nat) (ls : Array Slot), (fX1_year N a0).1 h = some (r, h') → jS D dA H0 hs h H locs cells slots → lv_has ls 2 [(0, .ref a0)] → W p l e { frames := 11, cells := mc, slots := ms, locals := 239 } s m args below meth c H locs cells slots (jQ D dA H0 below s (.returned (some (.int r))) h' mc ms) (F0 m 0 ls []) := by
  have hx := cx.1
  have hb := cx.2.1
  have hown := cx.2.2.2.1
  have hts := cx.2.2.2.2.1
  have hm : h'.2.2.1 ≤ hs.2.2.1 + mc ∧ h'.2.2.2.1 ≤ hs.2.2.2.1 + ms := ⟨Nat.le_of_eq e1, Nat.le_of_eq e2⟩
  intro h H locs cells slots ls hf hS hl
  unfold fX1_year at hf
  refine lv_aload_n (pc := 0) hx hb dX1_year_0 rfl (lv_at hl 0 rfl) ?_
  refine lv_aload_n (pc := 1) hx hb dX1_year_1 rfl (lv_at hl 0 rfl) ?_
  refine j_gR (pc := 2) cx hS hf fd_WornSkin_reader q428 dX1_year_2 (fun y1 hf => ?_)
  refine lv_aload_n (pc := 5) hx hb dX1_year_5 rfl (lv_at hl 0 rfl) ?_
  obtain ⟨y2, h1, e9, hf⟩ := jB_some hf
  refine j_callV (pc := 6) (st1 := [va_rf y2, va_rf y1, .ref a0]) (As := []) (rest := [va_rf y1, .ref a0]) cx hS rfl hl.1 hm (metX1_now l _ _ _ _ (hth.at hS) e9) (jle hf) (hth.at hS) rfl (lw_V q1092 q1094 qs31 q112 q1095) pdX1_now rfl rfl (by simp only [List.map_cons, List.map_nil, List.sum_cons, List.sum_nil, jrfc]; exact Nat.le_of_ble_eq_true rfl) ⟨Nat.le_of_ble_eq_true rfl, Nat.le_of_ble_eq_true rfl⟩ dX1_year_6 rfl (fun H locs cells slots hS => ?_)
  obtain ⟨b4, eb, hrc, hf⟩ := jrc_s hf
  refine j_nn (pc := 9) eb [va_rf y2] [.ref a0] rfl ?_
  rcases jBH_some hf with ⟨y3, h1, e9, hf⟩ | ⟨x9, h1, e9, hf⟩
  rotate_left
  · obtain ⟨hxc, hf⟩ := jrc_s2 hf
    exact j_callVX (pc := 9) (As := [va_rf y2]) (rest := [.ref a0]) cx hS rfl hl.1 hm (metX2_year l hfl _ _ _ _ _ _ hrc e9) (jle hf) hrc rfl (lw_V q1096 q1097 q1098 q113 q1099) pdX2_year rfl rfl (Nat.le_of_ble_eq_true rfl) ⟨Nat.le_of_ble_eq_true rfl, Nat.le_of_ble_eq_true rfl⟩ dX1_year_9 (fun H locs cells slots hS => j_caught cx hS hxc ht rfl (by decide) rfl q474 (wX1_year_17 cx e1 e2 hfl ht a0 hth _ _ _ _ _ _ _ hf hS hl))
  refine j_callV (pc := 9) (st1 := [va_rf y3, .ref a0]) (As := [va_rf y2]) (rest := [.ref a0]) cx hS rfl hl.1 hm (metX2_year l hfl _ _ _ _ _ _ hrc e9) (jle hf) hrc rfl (lw_V q1096 q1097 q1098 q113 q1099) pdX2_year rfl rfl (Nat.le_of_ble_eq_true rfl) ⟨Nat.le_of_ble_eq_true rfl, Nat.le_of_ble_eq_true rfl⟩ dX1_year_9 rfl (fun H locs cells slots hS => ?_)
  refine j_pR (pc := 12) cx hS hf fp_WornSkin_lines (Or.inl rfl) q433 dX1_year_12 (fun h H locs hf hS => ?_)
  refine lv_iconst (pc := 15) (v := 0) hx hb dX1_year_15 rfl ?_
  exact j_iret (pc := 16) cx hS hf e1 e2 dX1_year_16
theorem metX1_year (l : Launch) (hfl : l.stackTraces = false) (N : Nat) (a0 : Nat) (h h' : jH) (r : Int32) (hth : jcd h a0 = some 0) (hf : (fX1_year N a0).1 h = some (r, h')) : jMet l yX1_year (wsW_ yX1_year cX1_year 2 (Option.some Jvm.ClassFile.FieldType.int) [(0, 16, 17, 93)]) (11) (239) [.ref a0] h h' (.returned (some (.int r))) := by
  refine jStartH rfl (jle hf) (Nat.le_of_ble_eq_true rfl) ?_
  intro p e s m below meth c D dA H0 mc ms ls ht cx hnm e1 e2 hS hl
  have hth := jTh.mk hS hth
  exact wX1_year_0 cx e1 e2 hfl ht a0 hth  _ _ _ _ _ _ hf hS hl
def fX1_skins (a0 : Nat) : jM Int32 := jB (fX1_now a0) fun y1 => jB (jgR [3] 2 y1) fun y2 => jB (jrc 4 y2) fun b4 => jB (fJ2_size b4) fun y3 => jR y3
theorem wX1_skins_0 {r : Int32} (cx : jCx p s m args meth c cX1_skins "WornSkin" 1 (Option.some Jvm.ClassFile.FieldType.int) D dA H0 hs.2.2.2.2) (e1 : h'.2.2.1 = hs.2.2.1 + mc) (e2 : h'.2.2.2.1 = hs.2.2.2.1 + ms) (a0 : Nat) (hth : jTh hs a0 0) : ∀ (h : jH) (H : Heap) (locs : List Loc) (cells slots : Nat) (ls : Array Slot), (fX1_skins a0).1 h = some (r, h') → jS D dA H0 hs h H locs cells slots → lv_has ls 1 [(0, .ref a0)] → W p l e { frames := 1, cells := mc, slots := ms, locals := 20 } s m args below meth c H locs cells slots (jQ D dA H0 below s (.returned (some (.int r))) h' mc ms) (F0 m 0 ls []) := by
  have hx := cx.1
  have hb := cx.2.1
  have hown := cx.2.2.2.1
  have hts := cx.2.2.2.2.1
  have hm : h'.2.2.1 ≤ hs.2.2.1 + mc ∧ h'.2.2.2.1 ≤ hs.2.2.2.1 + ms := ⟨Nat.le_of_eq e1, Nat.le_of_eq e2⟩
  intro h H locs cells slots ls hf hS hl
  unfold fX1_skins at hf
  refine lv_aload_n (pc := 0) hx hb dX1_skins_0 rfl (lv_at hl 0 rfl) ?_
  obtain ⟨y1, h1, e9, hf⟩ := jB_some hf
  refine j_callV (pc := 1) (st1 := [va_rf y1]) (As := []) (rest := []) cx hS rfl hl.1 hm (metX1_now l _ _ _ _ (hth.at hS) e9) (jle hf) (hth.at hS) rfl (lw_V q1092 q1094 qs31 q112 q1095) pdX1_now rfl rfl (Nat.le_of_ble_eq_true rfl) ⟨Nat.le_of_ble_eq_true rfl, Nat.le_of_ble_eq_true rfl⟩ dX1_skins_1 rfl (fun H locs cells slots hS => ?_)
  refine j_gR (pc := 4) cx hS hf fd_WornSkin_Library_skins q334 dX1_skins_4 (fun y2 hf => ?_)
  obtain ⟨b4, eb, hrc, hf⟩ := jrc_s hf
  refine j_nn (pc := 7) eb [] [] rfl ?_
  obtain ⟨y3, h1, e9, hf⟩ := jB_some hf
  refine j_callV (pc := 7) (st1 := [.int y3]) (As := []) (rest := []) cx hS rfl hl.1 hm (metJ2_size l _ _ _ _ hrc e9) (jle hf) hrc rfl (lw_V q1157 q376 q377 q118 q378) pdJ2_size rfl rfl (Nat.le_of_ble_eq_true rfl) ⟨Nat.le_of_ble_eq_true rfl, Nat.le_of_ble_eq_true rfl⟩ dX1_skins_7 rfl (fun H locs cells slots hS => ?_)
  exact j_iret (pc := 10) cx hS hf e1 e2 dX1_skins_10
theorem metX1_skins (l : Launch) (a0 : Nat) (h h' : jH) (r : Int32) (hth : jcd h a0 = some 0) (hf : (fX1_skins a0).1 h = some (r, h')) : jMet l yX1_skins (ws_ yX1_skins cX1_skins 1 (Option.some Jvm.ClassFile.FieldType.int)) (1) (20) [.ref a0] h h' (.returned (some (.int r))) := by
  refine jStart rfl (jle hf) (Nat.le_of_ble_eq_true rfl) ?_
  intro p e s m below meth c D dA H0 mc ms ls cx hnm e1 e2 hS hl
  have hth := jTh.mk hS hth
  exact wX1_skins_0 cx e1 e2 a0 hth  _ _ _ _ _ _ hf hS hl
def fX1_isSkin (a0 : Nat) (x1 : Int32) : jM Int32 := jB (fX1_skins a0) fun y1 => jB (fX1_within x1 0 (y1 - 1)) fun y2 => jRn .boolean y2
theorem wX1_isSkin_0 {r : Int32} (cx : jCx p s m args meth c cX1_isSkin "WornSkin" 2 (Option.some Jvm.ClassFile.FieldType.boolean) D dA H0 hs.2.2.2.2) (e1 : h'.2.2.1 = hs.2.2.1 + mc) (e2 : h'.2.2.2.1 = hs.2.2.2.1 + ms) (a0 : Nat) (hth : jTh hs a0 0) : ∀ (x1 : Int32), ∀ (h : jH) (H : Heap) (locs : List Loc) (cells slots : Nat) (ls : Array Slot), (fX1_isSkin a0 x1).1 h = some (r, h') → jS D dA H0 hs h H locs cells slots → lv_has ls 2 [(0, .ref a0), (1, .int x1)] → W p l e { frames := 2, cells := mc, slots := ms, locals := 40 } s m args below meth c H locs cells slots (jQ D dA H0 below s (.returned (some (.int r))) h' mc ms) (F0 m 0 ls []) := by
  have hx := cx.1
  have hb := cx.2.1
  have hown := cx.2.2.2.1
  have hts := cx.2.2.2.2.1
  have hm : h'.2.2.1 ≤ hs.2.2.1 + mc ∧ h'.2.2.2.1 ≤ hs.2.2.2.1 + ms := ⟨Nat.le_of_eq e1, Nat.le_of_eq e2⟩
  intro x1 h H locs cells slots ls hf hS hl
  unfold fX1_isSkin at hf
  refine lv_iload_n (pc := 0) hx hb dX1_isSkin_0 rfl (lv_at hl 1 rfl) ?_
  refine lv_iconst (pc := 1) (v := 0) hx hb dX1_isSkin_1 rfl ?_
  refine lv_aload_n (pc := 2) hx hb dX1_isSkin_2 rfl (lv_at hl 0 rfl) ?_
  obtain ⟨y1, h1, e9, hf⟩ := jB_some hf
  refine j_callV (pc := 3) (st1 := [.int y1, .int 0, .int x1]) (As := []) (rest := [.int 0, .int x1]) cx hS rfl hl.1 hm (metX1_skins l _ _ _ _ (hth.at hS) e9) (jle hf) (hth.at hS) rfl (lw_V q1153 q1155 qs34 q112 q1156) pdX1_skins rfl rfl (Nat.le_of_ble_eq_true rfl) ⟨Nat.le_of_ble_eq_true rfl, Nat.le_of_ble_eq_true rfl⟩ dX1_isSkin_3 rfl (fun H locs cells slots hS => ?_)
  refine lv_iconst (pc := 6) (v := 1) hx hb dX1_isSkin_6 rfl ?_
  refine lv_isub (pc := 7) hx hb dX1_isSkin_7 ?_
  obtain ⟨y2, h1, e9, hf⟩ := jB_some hf
  refine j_callS (pc := 8) (st1 := [.int y2]) (As := [.int x1, .int 0, .int (y1 - 1)]) (rest := []) cx hS rfl hl.1 hm (metX1_within l _ _ _ _ _ _ e9) (jle hf) (lw_S q1158 q468 q112 q469) pdX1_within rfl rfl (Nat.le_of_ble_eq_true rfl) ⟨Nat.le_of_ble_eq_true rfl, Nat.le_of_ble_eq_true rfl⟩ dX1_isSkin_8 rfl (fun H locs cells slots hS => ?_)
  exact j_zret (pc := 11) cx (Or.inl rfl) hS hf e1 e2 dX1_isSkin_11
theorem metX1_isSkin (l : Launch) (a0 : Nat) (x1 : Int32) (h h' : jH) (r : Int32) (hth : jcd h a0 = some 0) (hf : (fX1_isSkin a0 x1).1 h = some (r, h')) : jMet l yX1_isSkin (ws_ yX1_isSkin cX1_isSkin 2 (Option.some Jvm.ClassFile.FieldType.boolean)) (2) (40) [.ref a0, .int x1] h h' (.returned (some (.int r))) := by
  refine jStart rfl (jle hf) (Nat.le_of_ble_eq_true rfl) ?_
  intro p e s m below meth c D dA H0 mc ms ls cx hnm e1 e2 hS hl
  have hth := jTh.mk hS hth
  exact wX1_isSkin_0 cx e1 e2 a0 hth _ _ _ _ _ _ _ hf hS hl
def fX1_readIn_42 (N : Nat) (a0 : Nat) (x2 : Int32) : jM Int32 := jR x2
def fX1_readIn_36 (N : Nat) (k4 : Int32 → Int32 → Int32 → jM Int32) (a0 : Nat) (x1 : Int32) (x2 : Int32) (x3 : Int32) : jM Int32 := k4 x1 x2 (x3 + 1)
def fX1_readIn_4 (N : Nat) (a0 : Nat) : Nat → Int32 → Int32 → Int32 → jM Int32
  | 0, _, _, _ => jE
  | n + 1, x1, x2, x3 => if 6 ≤ x3 then (fX1_readIn_42 N a0 x2) else (jB (jgR [0] 1 (some a0)) fun y1 => jB (jgR [0] 1 (some a0)) fun y2 => jB (jrc 2 y2) fun b4 => jB (fX3_damp b4) fun y3 => jB (jrc 2 y1) fun b6 => jB (fX3_read N b6 x1 x3 y3) fun y5 => if y5 = (-1) then (fX1_readIn_36 N (fX1_readIn_4 N a0 n) a0 x1 x2 x3) else (fX1_readIn_36 N (fX1_readIn_4 N a0 n) a0 x1 (x2 ||| (1 <<< (x3 &&& 31))) x3))
def fX1_readIn (N : Nat) (a0 : Nat) (x1 : Int32) : jM Int32 := fX1_readIn_4 N a0 N x1 0 0
theorem wX1_readIn_42 {N : Nat} {r : Int32} (cx : jCx p s m args meth c cX1_readIn "WornSkin" 4 (Option.some Jvm.ClassFile.FieldType.int) D dA H0 hs.2.2.2.2) (e1 : h'.2.2.1 = hs.2.2.1 + mc) (e2 : h'.2.2.2.1 = hs.2.2.2.1 + ms) (a0 : Nat) (hth : jTh hs a0 0) : ∀ (x2 : Int32), ∀ (h : jH) (H : Heap) (locs : List Loc) (cells slots : Nat) (ls : Array Slot), (fX1_readIn_42 N a0 x2).1 h = some (r, h') → jS D dA H0 hs h H locs cells slots → lv_has ls 4 [(0, .ref a0), (2, .int x2)] → W p l e { frames := 123, cells := mc, slots := ms, locals := 2635 } s m args below meth c H locs cells slots (jQ D dA H0 below s (.returned (some (.int r))) h' mc ms) (F0 m 42 ls []) := by
  have hx := cx.1
  have hb := cx.2.1
  have hown := cx.2.2.2.1
  have hts := cx.2.2.2.2.1
  have hm : h'.2.2.1 ≤ hs.2.2.1 + mc ∧ h'.2.2.2.1 ≤ hs.2.2.2.1 + ms := ⟨Nat.le_of_eq e1, Nat.le_of_eq e2⟩
  intro x2 h H locs cells slots ls hf hS hl
  unfold fX1_readIn_42 at hf
  refine lv_iload_n (pc := 42) hx hb dX1_readIn_42 rfl (lv_at hl 1 rfl) ?_
  exact j_iret (pc := 43) cx hS hf e1 e2 dX1_readIn_43
theorem wX1_readIn_36 {N : Nat} {k4 : Int32 → Int32 → Int32 → jM Int32} {r : Int32} (cx : jCx p s m args meth c cX1_readIn "WornSkin" 4 (Option.some Jvm.ClassFile.FieldType.int) D dA H0 hs.2.2.2.2) (e1 : h'.2.2.1 = hs.2.2.1 + mc) (e2 : h'.2.2.2.1 = hs.2.2.2.1 + ms) (a0 : Nat) (hth : jTh hs a0 0) (hk4 : ∀ (x1 : Int32) (x2 : Int32) (x3 : Int32), ∀ (h : jH) (H : Heap) (locs : List Loc) (cells slots : Nat) (ls : Array Slot), (k4 x1 x2 x3).1 h = some (r, h') → jS D dA H0 hs h H locs cells slots → lv_has ls 4 [(0, .ref a0), (1, .int x1), (2, .int x2), (3, .int x3)] → W p l e { frames := 123, cells := mc, slots := ms, locals := 2635 } s m args below meth c H locs cells slots (jQ D dA H0 below s (.returned (some (.int r))) h' mc ms) (F0 m 4 ls [])) : ∀ (x1 : Int32) (x2 : Int32) (x3 : Int32), ∀ (h : jH) (H : Heap) (locs : List Loc) (cells slots : Nat) (ls : Array Slot), (fX1_readIn_36 N k4 a0 x1 x2 x3).1 h = some (r, h') → jS D dA H0 hs h H locs cells slots → lv_has ls 4 [(0, .ref a0), (1, .int x1), (2, .int x2), (3, .int x3)] → W p l e { frames := 123, cells := mc, slots := ms, locals := 2635 } s m args below meth c H locs cells slots (jQ D dA H0 below s (.returned (some (.int r))) h' mc ms) (F0 m 36 ls []) := by
  have hx := cx.1
  have hb := cx.2.1
  have hown := cx.2.2.2.1
  have hts := cx.2.2.2.2.1
  have hm : h'.2.2.1 ≤ hs.2.2.1 + mc ∧ h'.2.2.2.1 ≤ hs.2.2.2.1 + ms := ⟨Nat.le_of_eq e1, Nat.le_of_eq e2⟩
  intro x1 x2 x3 h H locs cells slots ls hf hS hl
  unfold fX1_readIn_36 at hf
  refine lv_iinc (pc := 36) (v := (x3 + 1)) (lv' := [(3, .int (x3 + 1)), (0, .ref a0), (1, .int x1), (2, .int x2)]) hx hb dX1_readIn_36 hl (k := 3) rfl rfl (Nat.le_of_ble_eq_true rfl) rfl (fun ls hl => ?_)
  refine lv_goto (pc := 39) (tgt := 4) hx hb dX1_readIn_39 (by decide) ?_
  exact hk4 _ _ _ _ _ _ _ _ _ hf hS (lv_sub hl [1, 2, 3, 0] rfl)
theorem wX1_readIn_4 {N : Nat} {r : Int32} (cx : jCx p s m args meth c cX1_readIn "WornSkin" 4 (Option.some Jvm.ClassFile.FieldType.int) D dA H0 hs.2.2.2.2) (e1 : h'.2.2.1 = hs.2.2.1 + mc) (e2 : h'.2.2.2.1 = hs.2.2.2.1 + ms) (a0 : Nat) (hth : jTh hs a0 0) : ∀ (n : Nat) (x1 : Int32) (x2 : Int32) (x3 : Int32), ∀ (h : jH) (H : Heap) (locs : List Loc) (cells slots : Nat) (ls : Array Slot), (fX1_readIn_4 N a0 n x1 x2 x3).1 h = some (r, h') → jS D dA H0 hs h H locs cells slots → lv_has ls 4 [(0, .ref a0), (1, .int x1), (2, .int x2), (3, .int x3)] → W p l e { frames := 123, cells := mc, slots := ms, locals := 2635 } s m args below meth c H locs cells slots (jQ D dA H0 below s (.returned (some (.int r))) h' mc ms) (F0 m 4 ls []) := by
  have hx := cx.1
  have hb := cx.2.1
  have hown := cx.2.2.2.1
  have hts := cx.2.2.2.2.1
  have hm : h'.2.2.1 ≤ hs.2.2.1 + mc ∧ h'.2.2.2.1 ≤ hs.2.2.2.1 + ms := ⟨Nat.le_of_eq e1, Nat.le_of_eq e2⟩
  intro n
  induction n with
  | zero =>
    intro x1 x2 x3 h H locs cells slots ls hf hS hl
    exact jE_f hf
  | succ n ih =>
    intro x1 x2 x3 h H locs cells slots ls hf hS hl
    unfold fX1_readIn_4 at hf
    refine lv_iload_n (pc := 4) hx hb dX1_readIn_4 rfl (lv_at hl 3 rfl) ?_
    refine lv_bipush (pc := 5) (v := 6) hx hb dX1_readIn_5 rfl ?_
    refine lv_icmp_ge (pc := 7) (tgt := 42) hx hb dX1_readIn_7 (by decide) (fun hc => ?_) (fun hc => ?_)
    · have hf := jI_t hf hc
      exact wX1_readIn_42 cx e1 e2 a0 hth _ _ _ _ _ _ _ hf hS (lv_sub hl [0, 2] rfl)
    · have hf := jI_f hf hc
      refine lv_aload_n (pc := 10) hx hb dX1_readIn_10 rfl (lv_at hl 0 rfl) ?_
      refine j_gR (pc := 11) cx hS hf fd_WornSkin_shelf q430 dX1_readIn_11 (fun y1 hf => ?_)
      refine lv_iload_n (pc := 14) hx hb dX1_readIn_14 rfl (lv_at hl 1 rfl) ?_
      refine lv_iload_n (pc := 15) hx hb dX1_readIn_15 rfl (lv_at hl 3 rfl) ?_
      refine lv_aload_n (pc := 16) hx hb dX1_readIn_16 rfl (lv_at hl 0 rfl) ?_
      refine j_gR (pc := 17) cx hS hf fd_WornSkin_shelf q430 dX1_readIn_17 (fun y2 hf => ?_)
      obtain ⟨b4, eb, hrc, hf⟩ := jrc_s hf
      refine j_nn (pc := 20) eb [] [.int x3, .int x1, va_rf y1] rfl ?_
      obtain ⟨y3, h1, e9, hf⟩ := jB_some hf
      refine j_callV (pc := 20) (st1 := [.int y3, .int x3, .int x1, va_rf y1]) (As := []) (rest := [.int x3, .int x1, va_rf y1]) cx hS rfl hl.1 hm (metX3_damp l _ _ _ _ hrc e9) (jle hf) hrc rfl (lw_V q1168 q1169 q1170 q114 q1171) pdX3_damp rfl rfl (by simp only [List.map_cons, List.map_nil, List.sum_cons, List.sum_nil, jrfc]; exact Nat.le_of_ble_eq_true rfl) ⟨Nat.le_of_ble_eq_true rfl, Nat.le_of_ble_eq_true rfl⟩ dX1_readIn_20 rfl (fun H locs cells slots hS => ?_)
      obtain ⟨b6, eb, hrc, hf⟩ := jrc_s hf
      refine j_nn (pc := 23) eb [.int y3, .int x3, .int x1] [] rfl ?_
      obtain ⟨y5, h1, e9, hf⟩ := jB_some hf
      refine j_callV (pc := 23) (st1 := [.int y5]) (As := [.int x1, .int x3, .int y3]) (rest := []) cx hS rfl hl.1 hm (metX3_read l _ _ _ _ _ _ _ _ hrc e9) (jle hf) hrc rfl (lw_V q1176 q1177 q1178 q114 q1179) pdX3_read rfl rfl (Nat.le_of_ble_eq_true rfl) ⟨Nat.le_of_ble_eq_true rfl, Nat.le_of_ble_eq_true rfl⟩ dX1_readIn_23 rfl (fun H locs cells slots hS => ?_)
      refine lv_iconst (pc := 26) (v := (-1)) hx hb dX1_readIn_26 rfl ?_
      refine lv_icmp_eq (pc := 27) (tgt := 36) hx hb dX1_readIn_27 (by decide) (fun hc => ?_) (fun hc => ?_)
      · have hf := jI_t hf hc
        exact wX1_readIn_36 cx e1 e2 a0 hth ih _ _ _ _ _ _ _ _ _ hf hS hl
      · have hf := jI_f hf hc
        refine lv_iload_n (pc := 30) hx hb dX1_readIn_30 rfl (lv_at hl 2 rfl) ?_
        refine lv_iconst (pc := 31) (v := 1) hx hb dX1_readIn_31 rfl ?_
        refine lv_iload_n (pc := 32) hx hb dX1_readIn_32 rfl (lv_at hl 3 rfl) ?_
        refine lv_ishl (pc := 33) hx hb dX1_readIn_33 ?_
        refine lv_ior (pc := 34) hx hb dX1_readIn_34 ?_
        refine lv_istore_n (pc := 35) (i := 2) (lv' := [(2, .int (x2 ||| (1 <<< (x3 &&& 31)))), (0, .ref a0), (1, .int x1), (3, .int x3)]) hx hb dX1_readIn_35 rfl hl (Nat.le_of_ble_eq_true rfl) rfl (fun ls hl => ?_)
        exact wX1_readIn_36 cx e1 e2 a0 hth ih _ _ _ _ _ _ _ _ _ hf hS (lv_sub hl [1, 2, 0, 3] rfl)
theorem wX1_readIn_0 {N : Nat} {r : Int32} (cx : jCx p s m args meth c cX1_readIn "WornSkin" 4 (Option.some Jvm.ClassFile.FieldType.int) D dA H0 hs.2.2.2.2) (e1 : h'.2.2.1 = hs.2.2.1 + mc) (e2 : h'.2.2.2.1 = hs.2.2.2.1 + ms) (a0 : Nat) (hth : jTh hs a0 0) : ∀ (x1 : Int32), ∀ (h : jH) (H : Heap) (locs : List Loc) (cells slots : Nat) (ls : Array Slot), (fX1_readIn N a0 x1).1 h = some (r, h') → jS D dA H0 hs h H locs cells slots → lv_has ls 4 [(0, .ref a0), (1, .int x1)] → W p l e { frames := 123, cells := mc, slots := ms, locals := 2635 } s m args below meth c H locs cells slots (jQ D dA H0 below s (.returned (some (.int r))) h' mc ms) (F0 m 0 ls []) := by
  have hx := cx.1
  have hb := cx.2.1
  have hown := cx.2.2.2.1
  have hts := cx.2.2.2.2.1
  have hm : h'.2.2.1 ≤ hs.2.2.1 + mc ∧ h'.2.2.2.1 ≤ hs.2.2.2.1 + ms := ⟨Nat.le_of_eq e1, Nat.le_of_eq e2⟩
  intro x1 h H locs cells slots ls hf hS hl
  unfold fX1_readIn at hf
  refine lv_iconst (pc := 0) (v := 0) hx hb dX1_readIn_0 rfl ?_
  refine lv_istore_n (pc := 1) (i := 2) (lv' := [(2, .int 0), (0, .ref a0), (1, .int x1)]) hx hb dX1_readIn_1 rfl hl (Nat.le_of_ble_eq_true rfl) rfl (fun ls hl => ?_)
  refine lv_iconst (pc := 2) (v := 0) hx hb dX1_readIn_2 rfl ?_
  refine lv_istore_n (pc := 3) (i := 3) (lv' := [(3, .int 0), (2, .int 0), (0, .ref a0), (1, .int x1)]) hx hb dX1_readIn_3 rfl hl (Nat.le_of_ble_eq_true rfl) rfl (fun ls hl => ?_)
  exact wX1_readIn_4 cx e1 e2 a0 hth N _ _ _ _ _ _ _ _ _ hf hS (lv_sub hl [2, 3, 1, 0] rfl)
theorem metX1_readIn (l : Launch) (N : Nat) (a0 : Nat) (x1 : Int32) (h h' : jH) (r : Int32) (hth : jcd h a0 = some 0) (hf : (fX1_readIn N a0 x1).1 h = some (r, h')) : jMet l yX1_readIn (ws_ yX1_readIn cX1_readIn 4 (Option.some Jvm.ClassFile.FieldType.int)) (123) (2635) [.ref a0, .int x1] h h' (.returned (some (.int r))) := by
  refine jStart rfl (jle hf) (Nat.le_of_ble_eq_true rfl) ?_
  intro p e s m below meth c D dA H0 mc ms ls cx hnm e1 e2 hS hl
  have hth := jTh.mk hS hth
  exact wX1_readIn_0 cx e1 e2 a0 hth _ _ _ _ _ _ _ hf hS hl
def fX1_skin (N : Nat) (a0 : Nat) (x1 : Int32) (x2 : Int32) : jM Int32 := jB (fX1_isSkin a0 x1) fun y1 => if y1 = 0 then (jR (-1)) else (if x2 = 0 then (jB (jgR [0] 1 (some a0)) fun y2 => jB (jrc 2 y2) fun b4 => jB (fX3_skin b4 x1) fun y3 => jB (jgI [12] 0 y3) fun y5 => jR y5) else (if x2 = 1 then (jB (jgR [0] 1 (some a0)) fun y6 => jB (jgR [2] 3 y6) fun y7 => jB (jaI 0 y7 x1) fun y8 => jR y8) else (if x2 = 2 then (jB (jgR [0] 1 (some a0)) fun y9 => jB (jrc 2 y9) fun b11 => jB (fX3_skin b11 x1) fun y10 => jB (jgI [12] 2 y10) fun y12 => jR y12) else (if x2 = 3 then (jB (jgR [0] 1 (some a0)) fun y13 => jB (jrc 2 y13) fun b15 => jB (fX3_open b15 x1) fun y14 => jR y14) else (if x2 = 4 then (jB (fX1_readIn N a0 x1) fun y16 => jR y16) else (jR (-1)))))))
theorem wX1_skin_0 {N : Nat} {r : Int32} (cx : jCx p s m args meth c cX1_skin "WornSkin" 3 (Option.some Jvm.ClassFile.FieldType.int) D dA H0 hs.2.2.2.2) (e1 : h'.2.2.1 = hs.2.2.1 + mc) (e2 : h'.2.2.2.1 = hs.2.2.2.1 + ms) (a0 : Nat) (hth : jTh hs a0 0) : ∀ (x1 : Int32) (x2 : Int32), ∀ (h : jH) (H : Heap) (locs : List Loc) (cells slots : Nat) (ls : Array Slot), (fX1_skin N a0 x1 x2).1 h = some (r, h') → jS D dA H0 hs h H locs cells slots → lv_has ls 3 [(0, .ref a0), (1, .int x1), (2, .int x2)] → W p l e { frames := 124, cells := mc, slots := ms, locals := 2658 } s m args below meth c H locs cells slots (jQ D dA H0 below s (.returned (some (.int r))) h' mc ms) (F0 m 0 ls []) := by
  have hx := cx.1
  have hb := cx.2.1
  have hown := cx.2.2.2.1
  have hts := cx.2.2.2.2.1
  have hm : h'.2.2.1 ≤ hs.2.2.1 + mc ∧ h'.2.2.2.1 ≤ hs.2.2.2.1 + ms := ⟨Nat.le_of_eq e1, Nat.le_of_eq e2⟩
  intro x1 x2 h H locs cells slots ls hf hS hl
  unfold fX1_skin at hf
  refine lv_aload_n (pc := 0) hx hb dX1_skin_0 rfl (lv_at hl 0 rfl) ?_
  refine lv_iload_n (pc := 1) hx hb dX1_skin_1 rfl (lv_at hl 1 rfl) ?_
  obtain ⟨y1, h1, e9, hf⟩ := jB_some hf
  refine j_callV (pc := 2) (st1 := [.int y1]) (As := [.int x1]) (rest := []) cx hS rfl hl.1 hm (metX1_isSkin l _ _ _ _ _ (hth.at hS) e9) (jle hf) (hth.at hS) rfl (lw_V q1149 q1151 qs33 q112 q1152) pdX1_isSkin rfl rfl (Nat.le_of_ble_eq_true rfl) ⟨Nat.le_of_ble_eq_true rfl, Nat.le_of_ble_eq_true rfl⟩ dX1_skin_2 rfl (fun H locs cells slots hS => ?_)
  refine lv_if_ne (pc := 5) (tgt := 10) hx hb dX1_skin_5 (by decide) (fun hc => ?_) (fun hc => ?_)
  · have hf := jI_f hf hc
    refine lv_iload_n (pc := 10) hx hb dX1_skin_10 rfl (lv_at hl 2 rfl) ?_
    by_cases hc0 : x2 = 0
    · have hf := jI_t hf hc0
      refine lv_tableIn (pc := 11) (off := 33) (tgt := 44) hx hb dX1_skin_11 (by rw [hc0]; decide) (by rw [hc0]; decide) (by rw [hc0]; rfl) (by decide) ?_
      refine lv_aload_n (pc := 44) hx hb dX1_skin_44 rfl (lv_at hl 0 rfl) ?_
      refine j_gR (pc := 45) cx hS hf fd_WornSkin_shelf q430 dX1_skin_45 (fun y2 hf => ?_)
      refine lv_iload_n (pc := 48) hx hb dX1_skin_48 rfl (lv_at hl 1 rfl) ?_
      obtain ⟨b4, eb, hrc, hf⟩ := jrc_s hf
      refine j_nn (pc := 49) eb [.int x1] [] rfl ?_
      obtain ⟨y3, h1, e9, hf⟩ := jB_some hf
      refine j_callV (pc := 49) (st1 := [va_rf y3]) (As := [.int x1]) (rest := []) cx hS rfl hl.1 hm (metX3_skin l _ _ _ _ _ hrc e9) (jle hf) hrc rfl (lw_V q1159 q380 q381 q114 q382) pdX3_skin rfl rfl (Nat.le_of_ble_eq_true rfl) ⟨Nat.le_of_ble_eq_true rfl, Nat.le_of_ble_eq_true rfl⟩ dX1_skin_49 rfl (fun H locs cells slots hS => ?_)
      refine j_gI (pc := 52) cx hS hf fd_WornSkin_Skin_lines q839 dX1_skin_52 (fun y5 hf => ?_)
      exact j_iret (pc := 55) cx hS hf e1 e2 dX1_skin_55
    have hf := jI_f hf hc0
    by_cases hc1 : x2 = 1
    · have hf := jI_t hf hc1
      refine lv_tableIn (pc := 11) (off := 45) (tgt := 56) hx hb dX1_skin_11 (by rw [hc1]; decide) (by rw [hc1]; decide) (by rw [hc1]; rfl) (by decide) ?_
      refine lv_aload_n (pc := 56) hx hb dX1_skin_56 rfl (lv_at hl 0 rfl) ?_
      refine j_gR (pc := 57) cx hS hf fd_WornSkin_shelf q430 dX1_skin_57 (fun y6 hf => ?_)
      refine j_gR (pc := 60) cx hS hf fd_WornSkin_Shelf_thick q263 dX1_skin_60 (fun y7 hf => ?_)
      refine lv_iload_n (pc := 63) hx hb dX1_skin_63 rfl (lv_at hl 1 rfl) ?_
      refine j_aI (pc := 64) cx hS hf rfl dX1_skin_64 (fun y8 hf => ?_)
      exact j_iret (pc := 65) cx hS hf e1 e2 dX1_skin_65
    have hf := jI_f hf hc1
    by_cases hc2 : x2 = 2
    · have hf := jI_t hf hc2
      refine lv_tableIn (pc := 11) (off := 55) (tgt := 66) hx hb dX1_skin_11 (by rw [hc2]; decide) (by rw [hc2]; decide) (by rw [hc2]; rfl) (by decide) ?_
      refine lv_aload_n (pc := 66) hx hb dX1_skin_66 rfl (lv_at hl 0 rfl) ?_
      refine j_gR (pc := 67) cx hS hf fd_WornSkin_shelf q430 dX1_skin_67 (fun y9 hf => ?_)
      refine lv_iload_n (pc := 70) hx hb dX1_skin_70 rfl (lv_at hl 1 rfl) ?_
      obtain ⟨b11, eb, hrc, hf⟩ := jrc_s hf
      refine j_nn (pc := 71) eb [.int x1] [] rfl ?_
      obtain ⟨y10, h1, e9, hf⟩ := jB_some hf
      refine j_callV (pc := 71) (st1 := [va_rf y10]) (As := [.int x1]) (rest := []) cx hS rfl hl.1 hm (metX3_skin l _ _ _ _ _ hrc e9) (jle hf) hrc rfl (lw_V q1159 q380 q381 q114 q382) pdX3_skin rfl rfl (Nat.le_of_ble_eq_true rfl) ⟨Nat.le_of_ble_eq_true rfl, Nat.le_of_ble_eq_true rfl⟩ dX1_skin_71 rfl (fun H locs cells slots hS => ?_)
      refine j_gI (pc := 74) cx hS hf fd_WornSkin_Skin_holes q844 dX1_skin_74 (fun y12 hf => ?_)
      exact j_iret (pc := 77) cx hS hf e1 e2 dX1_skin_77
    have hf := jI_f hf hc2
    by_cases hc3 : x2 = 3
    · have hf := jI_t hf hc3
      refine lv_tableIn (pc := 11) (off := 67) (tgt := 78) hx hb dX1_skin_11 (by rw [hc3]; decide) (by rw [hc3]; decide) (by rw [hc3]; rfl) (by decide) ?_
      refine lv_aload_n (pc := 78) hx hb dX1_skin_78 rfl (lv_at hl 0 rfl) ?_
      refine j_gR (pc := 79) cx hS hf fd_WornSkin_shelf q430 dX1_skin_79 (fun y13 hf => ?_)
      refine lv_iload_n (pc := 82) hx hb dX1_skin_82 rfl (lv_at hl 1 rfl) ?_
      obtain ⟨b15, eb, hrc, hf⟩ := jrc_s hf
      refine j_nn (pc := 83) eb [.int x1] [] rfl ?_
      obtain ⟨y14, h1, e9, hf⟩ := jB_some hf
      refine j_callV (pc := 83) (st1 := [.int y14]) (As := [.int x1]) (rest := []) cx hS rfl hl.1 hm (metX3_open l _ _ _ _ _ hrc e9) (jle hf) hrc rfl (lw_V q1160 q1161 q1162 q114 q1163) pdX3_open rfl rfl (Nat.le_of_ble_eq_true rfl) ⟨Nat.le_of_ble_eq_true rfl, Nat.le_of_ble_eq_true rfl⟩ dX1_skin_83 rfl (fun H locs cells slots hS => ?_)
      exact j_iret (pc := 86) cx hS hf e1 e2 dX1_skin_86
    have hf := jI_f hf hc3
    by_cases hc4 : x2 = 4
    · have hf := jI_t hf hc4
      refine lv_tableIn (pc := 11) (off := 76) (tgt := 87) hx hb dX1_skin_11 (by rw [hc4]; decide) (by rw [hc4]; decide) (by rw [hc4]; rfl) (by decide) ?_
      refine lv_aload_n (pc := 87) hx hb dX1_skin_87 rfl (lv_at hl 0 rfl) ?_
      refine lv_iload_n (pc := 88) hx hb dX1_skin_88 rfl (lv_at hl 1 rfl) ?_
      obtain ⟨y16, h1, e9, hf⟩ := jB_some hf
      refine j_callV (pc := 89) (st1 := [.int y16]) (As := [.int x1]) (rest := []) cx hS rfl hl.1 hm (metX1_readIn l _ _ _ _ _ _ (hth.at hS) e9) (jle hf) (hth.at hS) rfl (lw_V q1164 q1166 qs35 q112 q1167) pdX1_readIn rfl rfl (Nat.le_of_ble_eq_true rfl) ⟨Nat.le_of_ble_eq_true rfl, Nat.le_of_ble_eq_true rfl⟩ dX1_skin_89 rfl (fun H locs cells slots hS => ?_)
      exact j_iret (pc := 92) cx hS hf e1 e2 dX1_skin_92
    have hf := jI_f hf hc4
    refine lv_tableOut (pc := 11) (tgt := 93) hx hb dX1_skin_11 (by have i0 := lv_neT hc0 (by decide : (0 : Int32).toInt = 0); have i1 := lv_neT hc1 (by decide : (1 : Int32).toInt = 1); have i2 := lv_neT hc2 (by decide : (2 : Int32).toInt = 2); have i3 := lv_neT hc3 (by decide : (3 : Int32).toInt = 3); have i4 := lv_neT hc4 (by decide : (4 : Int32).toInt = 4); omega) (by decide) ?_
    refine lv_iconst (pc := 93) (v := (-1)) hx hb dX1_skin_93 rfl ?_
    exact j_iret (pc := 94) cx hS hf e1 e2 dX1_skin_94
  · have hf := jI_t hf hc
    refine lv_iconst (pc := 8) (v := (-1)) hx hb dX1_skin_8 rfl ?_
    exact j_iret (pc := 9) cx hS hf e1 e2 dX1_skin_9
theorem metX1_skin (l : Launch) (N : Nat) (a0 : Nat) (x1 : Int32) (x2 : Int32) (h h' : jH) (r : Int32) (hth : jcd h a0 = some 0) (hf : (fX1_skin N a0 x1 x2).1 h = some (r, h')) : jMet l yX1_skin (ws_ yX1_skin cX1_skin 3 (Option.some Jvm.ClassFile.FieldType.int)) (124) (2658) [.ref a0, .int x1, .int x2] h h' (.returned (some (.int r))) := by
  refine jStart rfl (jle hf) (Nat.le_of_ble_eq_true rfl) ?_
  intro p e s m below meth c D dA H0 mc ms ls cx hnm e1 e2 hS hl
  have hth := jTh.mk hS hth
  exact wX1_skin_0 cx e1 e2 a0 hth _ _ _ _ _ _ _ _ hf hS hl
def fX1_texts (a0 : Nat) : jM Int32 := jB (fX1_now a0) fun y1 => jB (jgR [3] 3 y1) fun y2 => jB (jrc 4 y2) fun b4 => jB (fJ2_size b4) fun y3 => jR y3
theorem wX1_texts_0 {r : Int32} (cx : jCx p s m args meth c cX1_texts "WornSkin" 1 (Option.some Jvm.ClassFile.FieldType.int) D dA H0 hs.2.2.2.2) (e1 : h'.2.2.1 = hs.2.2.1 + mc) (e2 : h'.2.2.2.1 = hs.2.2.2.1 + ms) (a0 : Nat) (hth : jTh hs a0 0) : ∀ (h : jH) (H : Heap) (locs : List Loc) (cells slots : Nat) (ls : Array Slot), (fX1_texts a0).1 h = some (r, h') → jS D dA H0 hs h H locs cells slots → lv_has ls 1 [(0, .ref a0)] → W p l e { frames := 1, cells := mc, slots := ms, locals := 20 } s m args below meth c H locs cells slots (jQ D dA H0 below s (.returned (some (.int r))) h' mc ms) (F0 m 0 ls []) := by
  have hx := cx.1
  have hb := cx.2.1
  have hown := cx.2.2.2.1
  have hts := cx.2.2.2.2.1
  have hm : h'.2.2.1 ≤ hs.2.2.1 + mc ∧ h'.2.2.2.1 ≤ hs.2.2.2.1 + ms := ⟨Nat.le_of_eq e1, Nat.le_of_eq e2⟩
  intro h H locs cells slots ls hf hS hl
  unfold fX1_texts at hf
  refine lv_aload_n (pc := 0) hx hb dX1_texts_0 rfl (lv_at hl 0 rfl) ?_
  obtain ⟨y1, h1, e9, hf⟩ := jB_some hf
  refine j_callV (pc := 1) (st1 := [va_rf y1]) (As := []) (rest := []) cx hS rfl hl.1 hm (metX1_now l _ _ _ _ (hth.at hS) e9) (jle hf) (hth.at hS) rfl (lw_V q1092 q1094 qs31 q112 q1095) pdX1_now rfl rfl (Nat.le_of_ble_eq_true rfl) ⟨Nat.le_of_ble_eq_true rfl, Nat.le_of_ble_eq_true rfl⟩ dX1_texts_1 rfl (fun H locs cells slots hS => ?_)
  refine j_gR (pc := 4) cx hS hf fd_WornSkin_Library_texts q338 dX1_texts_4 (fun y2 hf => ?_)
  obtain ⟨b4, eb, hrc, hf⟩ := jrc_s hf
  refine j_nn (pc := 7) eb [] [] rfl ?_
  obtain ⟨y3, h1, e9, hf⟩ := jB_some hf
  refine j_callV (pc := 7) (st1 := [.int y3]) (As := []) (rest := []) cx hS rfl hl.1 hm (metJ2_size l _ _ _ _ hrc e9) (jle hf) hrc rfl (lw_V q1157 q376 q377 q118 q378) pdJ2_size rfl rfl (Nat.le_of_ble_eq_true rfl) ⟨Nat.le_of_ble_eq_true rfl, Nat.le_of_ble_eq_true rfl⟩ dX1_texts_7 rfl (fun H locs cells slots hS => ?_)
  exact j_iret (pc := 10) cx hS hf e1 e2 dX1_texts_10
theorem metX1_texts (l : Launch) (a0 : Nat) (h h' : jH) (r : Int32) (hth : jcd h a0 = some 0) (hf : (fX1_texts a0).1 h = some (r, h')) : jMet l yX1_texts (ws_ yX1_texts cX1_texts 1 (Option.some Jvm.ClassFile.FieldType.int)) (1) (20) [.ref a0] h h' (.returned (some (.int r))) := by
  refine jStart rfl (jle hf) (Nat.le_of_ble_eq_true rfl) ?_
  intro p e s m below meth c D dA H0 mc ms ls cx hnm e1 e2 hS hl
  have hth := jTh.mk hS hth
  exact wX1_texts_0 cx e1 e2 a0 hth  _ _ _ _ _ _ hf hS hl
def fX1_isText (a0 : Nat) (x1 : Int32) : jM Int32 := jB (fX1_texts a0) fun y1 => jB (fX1_within x1 0 (y1 - 1)) fun y2 => jRn .boolean y2
theorem wX1_isText_0 {r : Int32} (cx : jCx p s m args meth c cX1_isText "WornSkin" 2 (Option.some Jvm.ClassFile.FieldType.boolean) D dA H0 hs.2.2.2.2) (e1 : h'.2.2.1 = hs.2.2.1 + mc) (e2 : h'.2.2.2.1 = hs.2.2.2.1 + ms) (a0 : Nat) (hth : jTh hs a0 0) : ∀ (x1 : Int32), ∀ (h : jH) (H : Heap) (locs : List Loc) (cells slots : Nat) (ls : Array Slot), (fX1_isText a0 x1).1 h = some (r, h') → jS D dA H0 hs h H locs cells slots → lv_has ls 2 [(0, .ref a0), (1, .int x1)] → W p l e { frames := 2, cells := mc, slots := ms, locals := 40 } s m args below meth c H locs cells slots (jQ D dA H0 below s (.returned (some (.int r))) h' mc ms) (F0 m 0 ls []) := by
  have hx := cx.1
  have hb := cx.2.1
  have hown := cx.2.2.2.1
  have hts := cx.2.2.2.2.1
  have hm : h'.2.2.1 ≤ hs.2.2.1 + mc ∧ h'.2.2.2.1 ≤ hs.2.2.2.1 + ms := ⟨Nat.le_of_eq e1, Nat.le_of_eq e2⟩
  intro x1 h H locs cells slots ls hf hS hl
  unfold fX1_isText at hf
  refine lv_iload_n (pc := 0) hx hb dX1_isText_0 rfl (lv_at hl 1 rfl) ?_
  refine lv_iconst (pc := 1) (v := 0) hx hb dX1_isText_1 rfl ?_
  refine lv_aload_n (pc := 2) hx hb dX1_isText_2 rfl (lv_at hl 0 rfl) ?_
  obtain ⟨y1, h1, e9, hf⟩ := jB_some hf
  refine j_callV (pc := 3) (st1 := [.int y1, .int 0, .int x1]) (As := []) (rest := [.int 0, .int x1]) cx hS rfl hl.1 hm (metX1_texts l _ _ _ _ (hth.at hS) e9) (jle hf) (hth.at hS) rfl (lw_V q1286 q1288 qs37 q112 q1289) pdX1_texts rfl rfl (Nat.le_of_ble_eq_true rfl) ⟨Nat.le_of_ble_eq_true rfl, Nat.le_of_ble_eq_true rfl⟩ dX1_isText_3 rfl (fun H locs cells slots hS => ?_)
  refine lv_iconst (pc := 6) (v := 1) hx hb dX1_isText_6 rfl ?_
  refine lv_isub (pc := 7) hx hb dX1_isText_7 ?_
  obtain ⟨y2, h1, e9, hf⟩ := jB_some hf
  refine j_callS (pc := 8) (st1 := [.int y2]) (As := [.int x1, .int 0, .int (y1 - 1)]) (rest := []) cx hS rfl hl.1 hm (metX1_within l _ _ _ _ _ _ e9) (jle hf) (lw_S q1158 q468 q112 q469) pdX1_within rfl rfl (Nat.le_of_ble_eq_true rfl) ⟨Nat.le_of_ble_eq_true rfl, Nat.le_of_ble_eq_true rfl⟩ dX1_isText_8 rfl (fun H locs cells slots hS => ?_)
  exact j_zret (pc := 11) cx (Or.inl rfl) hS hf e1 e2 dX1_isText_11
theorem metX1_isText (l : Launch) (a0 : Nat) (x1 : Int32) (h h' : jH) (r : Int32) (hth : jcd h a0 = some 0) (hf : (fX1_isText a0 x1).1 h = some (r, h')) : jMet l yX1_isText (ws_ yX1_isText cX1_isText 2 (Option.some Jvm.ClassFile.FieldType.boolean)) (2) (40) [.ref a0, .int x1] h h' (.returned (some (.int r))) := by
  refine jStart rfl (jle hf) (Nat.le_of_ble_eq_true rfl) ?_
  intro p e s m below meth c D dA H0 mc ms ls cx hnm e1 e2 hS hl
  have hth := jTh.mk hS hth
  exact wX1_isText_0 cx e1 e2 a0 hth _ _ _ _ _ _ _ hf hS hl
def fX1_made_2_55 (N : Nat) (a0 : Nat) (x3 : Int32) : jM Int32 := jR x3
def fX1_made_2_49 (N : Nat) (k5 : Int32 → Int32 → Int32 → Int32 → jM Int32) (a0 : Nat) (x1 : Int32) (x2 : Int32) (x3 : Int32) (x4 : Int32) : jM Int32 := k5 x1 x2 x3 (x4 + 1)
def fX1_made_2_43 (N : Nat) (k17 : Int32 → Int32 → Int32 → Int32 → Int32 → jM Int32) (a0 : Nat) (x1 : Int32) (x2 : Int32) (x3 : Int32) (x4 : Int32) (x5 : Int32) : jM Int32 := k17 x1 x2 x3 x4 (x5 + 1)
def fX1_made_2_17 (N : Nat) (k5 : Int32 → Int32 → Int32 → Int32 → jM Int32) (a0 : Nat) : Nat → Int32 → Int32 → Int32 → Int32 → Int32 → jM Int32
  | 0, _, _, _, _, _ => jE
  | n + 1, x1, x2, x3, x4, x5 => if 6 ≤ x5 then (fX1_made_2_49 N k5 a0 x1 x2 x3 x4) else (jB (jgR [0] 1 (some a0)) fun y1 => jB (jrc 2 y1) fun b3 => jB (fX3_read N b3 x4 x5 x2) fun y2 => if y2 = x1 then (fX1_made_2_43 N (fX1_made_2_17 N k5 a0 n) a0 x1 x2 (x3 + 1) x4 x5) else (fX1_made_2_43 N (fX1_made_2_17 N k5 a0 n) a0 x1 x2 x3 x4 x5))
def fX1_made_2_5 (N : Nat) (a0 : Nat) : Nat → Int32 → Int32 → Int32 → Int32 → jM Int32
  | 0, _, _, _, _ => jE
  | n + 1, x1, x2, x3, x4 => jB (fX1_skins a0) fun y1 => if y1 ≤ x4 then (fX1_made_2_55 N a0 x3) else (fX1_made_2_17 N (fX1_made_2_5 N a0 n) a0 N x1 x2 x3 x4 0)
def fX1_made_2 (N : Nat) (a0 : Nat) (x1 : Int32) (x2 : Int32) : jM Int32 := fX1_made_2_5 N a0 N x1 x2 0 0
theorem wX1_made_2_55 {N : Nat} {r : Int32} (cx : jCx p s m args meth c cX1_made_2 "WornSkin" 6 (Option.some Jvm.ClassFile.FieldType.int) D dA H0 hs.2.2.2.2) (e1 : h'.2.2.1 = hs.2.2.1 + mc) (e2 : h'.2.2.2.1 = hs.2.2.2.1 + ms) (a0 : Nat) (hth : jTh hs a0 0) : ∀ (x3 : Int32), ∀ (h : jH) (H : Heap) (locs : List Loc) (cells slots : Nat) (ls : Array Slot), (fX1_made_2_55 N a0 x3).1 h = some (r, h') → jS D dA H0 hs h H locs cells slots → lv_has ls 6 [(0, .ref a0), (3, .int x3)] → W p l e { frames := 123, cells := mc, slots := ms, locals := 2635 } s m args below meth c H locs cells slots (jQ D dA H0 below s (.returned (some (.int r))) h' mc ms) (F0 m 55 ls []) := by
  have hx := cx.1
  have hb := cx.2.1
  have hown := cx.2.2.2.1
  have hts := cx.2.2.2.2.1
  have hm : h'.2.2.1 ≤ hs.2.2.1 + mc ∧ h'.2.2.2.1 ≤ hs.2.2.2.1 + ms := ⟨Nat.le_of_eq e1, Nat.le_of_eq e2⟩
  intro x3 h H locs cells slots ls hf hS hl
  unfold fX1_made_2_55 at hf
  refine lv_iload_n (pc := 55) hx hb dX1_made_2_55 rfl (lv_at hl 1 rfl) ?_
  exact j_iret (pc := 56) cx hS hf e1 e2 dX1_made_2_56
theorem wX1_made_2_49 {N : Nat} {k5 : Int32 → Int32 → Int32 → Int32 → jM Int32} {r : Int32} (cx : jCx p s m args meth c cX1_made_2 "WornSkin" 6 (Option.some Jvm.ClassFile.FieldType.int) D dA H0 hs.2.2.2.2) (e1 : h'.2.2.1 = hs.2.2.1 + mc) (e2 : h'.2.2.2.1 = hs.2.2.2.1 + ms) (a0 : Nat) (hth : jTh hs a0 0) (hk5 : ∀ (x1 : Int32) (x2 : Int32) (x3 : Int32) (x4 : Int32), ∀ (h : jH) (H : Heap) (locs : List Loc) (cells slots : Nat) (ls : Array Slot), (k5 x1 x2 x3 x4).1 h = some (r, h') → jS D dA H0 hs h H locs cells slots → lv_has ls 6 [(0, .ref a0), (1, .int x1), (2, .int x2), (3, .int x3), (4, .int x4)] → W p l e { frames := 123, cells := mc, slots := ms, locals := 2635 } s m args below meth c H locs cells slots (jQ D dA H0 below s (.returned (some (.int r))) h' mc ms) (F0 m 5 ls [])) : ∀ (x1 : Int32) (x2 : Int32) (x3 : Int32) (x4 : Int32), ∀ (h : jH) (H : Heap) (locs : List Loc) (cells slots : Nat) (ls : Array Slot), (fX1_made_2_49 N k5 a0 x1 x2 x3 x4).1 h = some (r, h') → jS D dA H0 hs h H locs cells slots → lv_has ls 6 [(0, .ref a0), (1, .int x1), (2, .int x2), (3, .int x3), (4, .int x4)] → W p l e { frames := 123, cells := mc, slots := ms, locals := 2635 } s m args below meth c H locs cells slots (jQ D dA H0 below s (.returned (some (.int r))) h' mc ms) (F0 m 49 ls []) := by
  have hx := cx.1
  have hb := cx.2.1
  have hown := cx.2.2.2.1
  have hts := cx.2.2.2.2.1
  have hm : h'.2.2.1 ≤ hs.2.2.1 + mc ∧ h'.2.2.2.1 ≤ hs.2.2.2.1 + ms := ⟨Nat.le_of_eq e1, Nat.le_of_eq e2⟩
  intro x1 x2 x3 x4 h H locs cells slots ls hf hS hl
  unfold fX1_made_2_49 at hf
  refine lv_iinc (pc := 49) (v := (x4 + 1)) (lv' := [(4, .int (x4 + 1)), (0, .ref a0), (1, .int x1), (2, .int x2), (3, .int x3)]) hx hb dX1_made_2_49 hl (k := 4) rfl rfl (Nat.le_of_ble_eq_true rfl) rfl (fun ls hl => ?_)
  refine lv_goto (pc := 52) (tgt := 5) hx hb dX1_made_2_52 (by decide) ?_
  exact hk5 _ _ _ _ _ _ _ _ _ _ hf hS (lv_sub hl [1, 2, 3, 4, 0] rfl)
theorem wX1_made_2_43 {N : Nat} {k17 : Int32 → Int32 → Int32 → Int32 → Int32 → jM Int32} {r : Int32} (cx : jCx p s m args meth c cX1_made_2 "WornSkin" 6 (Option.some Jvm.ClassFile.FieldType.int) D dA H0 hs.2.2.2.2) (e1 : h'.2.2.1 = hs.2.2.1 + mc) (e2 : h'.2.2.2.1 = hs.2.2.2.1 + ms) (a0 : Nat) (hth : jTh hs a0 0) (hk17 : ∀ (x1 : Int32) (x2 : Int32) (x3 : Int32) (x4 : Int32) (x5 : Int32), ∀ (h : jH) (H : Heap) (locs : List Loc) (cells slots : Nat) (ls : Array Slot), (k17 x1 x2 x3 x4 x5).1 h = some (r, h') → jS D dA H0 hs h H locs cells slots → lv_has ls 6 [(0, .ref a0), (1, .int x1), (2, .int x2), (3, .int x3), (4, .int x4), (5, .int x5)] → W p l e { frames := 123, cells := mc, slots := ms, locals := 2635 } s m args below meth c H locs cells slots (jQ D dA H0 below s (.returned (some (.int r))) h' mc ms) (F0 m 17 ls [])) : ∀ (x1 : Int32) (x2 : Int32) (x3 : Int32) (x4 : Int32) (x5 : Int32), ∀ (h : jH) (H : Heap) (locs : List Loc) (cells slots : Nat) (ls : Array Slot), (fX1_made_2_43 N k17 a0 x1 x2 x3 x4 x5).1 h = some (r, h') → jS D dA H0 hs h H locs cells slots → lv_has ls 6 [(0, .ref a0), (1, .int x1), (2, .int x2), (3, .int x3), (4, .int x4), (5, .int x5)] → W p l e { frames := 123, cells := mc, slots := ms, locals := 2635 } s m args below meth c H locs cells slots (jQ D dA H0 below s (.returned (some (.int r))) h' mc ms) (F0 m 43 ls []) := by
  have hx := cx.1
  have hb := cx.2.1
  have hown := cx.2.2.2.1
  have hts := cx.2.2.2.2.1
  have hm : h'.2.2.1 ≤ hs.2.2.1 + mc ∧ h'.2.2.2.1 ≤ hs.2.2.2.1 + ms := ⟨Nat.le_of_eq e1, Nat.le_of_eq e2⟩
  intro x1 x2 x3 x4 x5 h H locs cells slots ls hf hS hl
  unfold fX1_made_2_43 at hf
  refine lv_iinc (pc := 43) (v := (x5 + 1)) (lv' := [(5, .int (x5 + 1)), (0, .ref a0), (1, .int x1), (2, .int x2), (3, .int x3), (4, .int x4)]) hx hb dX1_made_2_43 hl (k := 5) rfl rfl (Nat.le_of_ble_eq_true rfl) rfl (fun ls hl => ?_)
  refine lv_goto (pc := 46) (tgt := 17) hx hb dX1_made_2_46 (by decide) ?_
  exact hk17 _ _ _ _ _ _ _ _ _ _ _ hf hS (lv_sub hl [1, 2, 3, 4, 5, 0] rfl)
theorem wX1_made_2_17 {N : Nat} {k5 : Int32 → Int32 → Int32 → Int32 → jM Int32} {r : Int32} (cx : jCx p s m args meth c cX1_made_2 "WornSkin" 6 (Option.some Jvm.ClassFile.FieldType.int) D dA H0 hs.2.2.2.2) (e1 : h'.2.2.1 = hs.2.2.1 + mc) (e2 : h'.2.2.2.1 = hs.2.2.2.1 + ms) (a0 : Nat) (hth : jTh hs a0 0) (hk5 : ∀ (x1 : Int32) (x2 : Int32) (x3 : Int32) (x4 : Int32), ∀ (h : jH) (H : Heap) (locs : List Loc) (cells slots : Nat) (ls : Array Slot), (k5 x1 x2 x3 x4).1 h = some (r, h') → jS D dA H0 hs h H locs cells slots → lv_has ls 6 [(0, .ref a0), (1, .int x1), (2, .int x2), (3, .int x3), (4, .int x4)] → W p l e { frames := 123, cells := mc, slots := ms, locals := 2635 } s m args below meth c H locs cells slots (jQ D dA H0 below s (.returned (some (.int r))) h' mc ms) (F0 m 5 ls [])) : ∀ (n : Nat) (x1 : Int32) (x2 : Int32) (x3 : Int32) (x4 : Int32) (x5 : Int32), ∀ (h : jH) (H : Heap) (locs : List Loc) (cells slots : Nat) (ls : Array Slot), (fX1_made_2_17 N k5 a0 n x1 x2 x3 x4 x5).1 h = some (r, h') → jS D dA H0 hs h H locs cells slots → lv_has ls 6 [(0, .ref a0), (1, .int x1), (2, .int x2), (3, .int x3), (4, .int x4), (5, .int x5)] → W p l e { frames := 123, cells := mc, slots := ms, locals := 2635 } s m args below meth c H locs cells slots (jQ D dA H0 below s (.returned (some (.int r))) h' mc ms) (F0 m 17 ls []) := by
  have hx := cx.1
  have hb := cx.2.1
  have hown := cx.2.2.2.1
  have hts := cx.2.2.2.2.1
  have hm : h'.2.2.1 ≤ hs.2.2.1 + mc ∧ h'.2.2.2.1 ≤ hs.2.2.2.1 + ms := ⟨Nat.le_of_eq e1, Nat.le_of_eq e2⟩
  intro n
  induction n with
  | zero =>
    intro x1 x2 x3 x4 x5 h H locs cells slots ls hf hS hl
    exact jE_f hf
  | succ n ih =>
    intro x1 x2 x3 x4 x5 h H locs cells slots ls hf hS hl
    unfold fX1_made_2_17 at hf
    refine lv_iload (pc := 17) hx hb dX1_made_2_17 (lv_at hl 5 rfl) ?_
    refine lv_bipush (pc := 19) (v := 6) hx hb dX1_made_2_19 rfl ?_
    refine lv_icmp_ge (pc := 21) (tgt := 49) hx hb dX1_made_2_21 (by decide) (fun hc => ?_) (fun hc => ?_)
    · have hf := jI_t hf hc
      exact wX1_made_2_49 cx e1 e2 a0 hth hk5 _ _ _ _ _ _ _ _ _ _ hf hS (lv_sub hl [0, 1, 2, 3, 4] rfl)
    · have hf := jI_f hf hc
      refine lv_aload_n (pc := 24) hx hb dX1_made_2_24 rfl (lv_at hl 0 rfl) ?_
      refine j_gR (pc := 25) cx hS hf fd_WornSkin_shelf q430 dX1_made_2_25 (fun y1 hf => ?_)
      refine lv_iload (pc := 28) hx hb dX1_made_2_28 (lv_at hl 4 rfl) ?_
      refine lv_iload (pc := 30) hx hb dX1_made_2_30 (lv_at hl 5 rfl) ?_
      refine lv_iload_n (pc := 32) hx hb dX1_made_2_32 rfl (lv_at hl 2 rfl) ?_
      obtain ⟨b3, eb, hrc, hf⟩ := jrc_s hf
      refine j_nn (pc := 33) eb [.int x2, .int x5, .int x4] [] rfl ?_
      obtain ⟨y2, h1, e9, hf⟩ := jB_some hf
      refine j_callV (pc := 33) (st1 := [.int y2]) (As := [.int x4, .int x5, .int x2]) (rest := []) cx hS rfl hl.1 hm (metX3_read l _ _ _ _ _ _ _ _ hrc e9) (jle hf) hrc rfl (lw_V q1176 q1177 q1178 q114 q1179) pdX3_read rfl rfl (Nat.le_of_ble_eq_true rfl) ⟨Nat.le_of_ble_eq_true rfl, Nat.le_of_ble_eq_true rfl⟩ dX1_made_2_33 rfl (fun H locs cells slots hS => ?_)
      refine lv_iload_n (pc := 36) hx hb dX1_made_2_36 rfl (lv_at hl 1 rfl) ?_
      refine lv_icmp_ne (pc := 37) (tgt := 43) hx hb dX1_made_2_37 (by decide) (fun hc => ?_) (fun hc => ?_)
      · have hf := jI_f hf hc
        exact wX1_made_2_43 cx e1 e2 a0 hth ih _ _ _ _ _ _ _ _ _ _ _ hf hS hl
      · have hf := jI_t hf hc
        refine lv_iinc (pc := 40) (v := (x3 + 1)) (lv' := [(3, .int (x3 + 1)), (0, .ref a0), (1, .int x1), (2, .int x2), (4, .int x4), (5, .int x5)]) hx hb dX1_made_2_40 hl (k := 3) rfl rfl (Nat.le_of_ble_eq_true rfl) rfl (fun ls hl => ?_)
        exact wX1_made_2_43 cx e1 e2 a0 hth ih _ _ _ _ _ _ _ _ _ _ _ hf hS (lv_sub hl [1, 2, 3, 0, 4, 5] rfl)
theorem wX1_made_2_5 {N : Nat} {r : Int32} (cx : jCx p s m args meth c cX1_made_2 "WornSkin" 6 (Option.some Jvm.ClassFile.FieldType.int) D dA H0 hs.2.2.2.2) (e1 : h'.2.2.1 = hs.2.2.1 + mc) (e2 : h'.2.2.2.1 = hs.2.2.2.1 + ms) (a0 : Nat) (hth : jTh hs a0 0) : ∀ (n : Nat) (x1 : Int32) (x2 : Int32) (x3 : Int32) (x4 : Int32), ∀ (h : jH) (H : Heap) (locs : List Loc) (cells slots : Nat) (ls : Array Slot), (fX1_made_2_5 N a0 n x1 x2 x3 x4).1 h = some (r, h') → jS D dA H0 hs h H locs cells slots → lv_has ls 6 [(0, .ref a0), (1, .int x1), (2, .int x2), (3, .int x3), (4, .int x4)] → W p l e { frames := 123, cells := mc, slots := ms, locals := 2635 } s m args below meth c H locs cells slots (jQ D dA H0 below s (.returned (some (.int r))) h' mc ms) (F0 m 5 ls []) := by
  have hx := cx.1
  have hb := cx.2.1
  have hown := cx.2.2.2.1
  have hts := cx.2.2.2.2.1
  have hm : h'.2.2.1 ≤ hs.2.2.1 + mc ∧ h'.2.2.2.1 ≤ hs.2.2.2.1 + ms := ⟨Nat.le_of_eq e1, Nat.le_of_eq e2⟩
  intro n
  induction n with
  | zero =>
    intro x1 x2 x3 x4 h H locs cells slots ls hf hS hl
    exact jE_f hf
  | succ n ih =>
    intro x1 x2 x3 x4 h H locs cells slots ls hf hS hl
    unfold fX1_made_2_5 at hf
    refine lv_iload (pc := 5) hx hb dX1_made_2_5 (lv_at hl 4 rfl) ?_
    refine lv_aload_n (pc := 7) hx hb dX1_made_2_7 rfl (lv_at hl 0 rfl) ?_
    obtain ⟨y1, h1, e9, hf⟩ := jB_some hf
    refine j_callV (pc := 8) (st1 := [.int y1, .int x4]) (As := []) (rest := [.int x4]) cx hS rfl hl.1 hm (metX1_skins l _ _ _ _ (hth.at hS) e9) (jle hf) (hth.at hS) rfl (lw_V q1153 q1155 qs34 q112 q1156) pdX1_skins rfl rfl (Nat.le_of_ble_eq_true rfl) ⟨Nat.le_of_ble_eq_true rfl, Nat.le_of_ble_eq_true rfl⟩ dX1_made_2_8 rfl (fun H locs cells slots hS => ?_)
    refine lv_icmp_ge (pc := 11) (tgt := 55) hx hb dX1_made_2_11 (by decide) (fun hc => ?_) (fun hc => ?_)
    · have hf := jI_t hf hc
      exact wX1_made_2_55 cx e1 e2 a0 hth _ _ _ _ _ _ _ hf hS (lv_sub hl [0, 3] rfl)
    · have hf := jI_f hf hc
      refine lv_iconst (pc := 14) (v := 0) hx hb dX1_made_2_14 rfl ?_
      refine lv_istore (pc := 15) (i := 5) (lv' := [(5, .int 0), (0, .ref a0), (1, .int x1), (2, .int x2), (3, .int x3), (4, .int x4)]) hx hb dX1_made_2_15 hl (Nat.le_of_ble_eq_true rfl) rfl (fun ls hl => ?_)
      exact wX1_made_2_17 cx e1 e2 a0 hth ih N _ _ _ _ _ _ _ _ _ _ _ hf hS (lv_sub hl [1, 2, 3, 4, 5, 0] rfl)
theorem wX1_made_2_0 {N : Nat} {r : Int32} (cx : jCx p s m args meth c cX1_made_2 "WornSkin" 6 (Option.some Jvm.ClassFile.FieldType.int) D dA H0 hs.2.2.2.2) (e1 : h'.2.2.1 = hs.2.2.1 + mc) (e2 : h'.2.2.2.1 = hs.2.2.2.1 + ms) (a0 : Nat) (hth : jTh hs a0 0) : ∀ (x1 : Int32) (x2 : Int32), ∀ (h : jH) (H : Heap) (locs : List Loc) (cells slots : Nat) (ls : Array Slot), (fX1_made_2 N a0 x1 x2).1 h = some (r, h') → jS D dA H0 hs h H locs cells slots → lv_has ls 6 [(0, .ref a0), (1, .int x1), (2, .int x2)] → W p l e { frames := 123, cells := mc, slots := ms, locals := 2635 } s m args below meth c H locs cells slots (jQ D dA H0 below s (.returned (some (.int r))) h' mc ms) (F0 m 0 ls []) := by
  have hx := cx.1
  have hb := cx.2.1
  have hown := cx.2.2.2.1
  have hts := cx.2.2.2.2.1
  have hm : h'.2.2.1 ≤ hs.2.2.1 + mc ∧ h'.2.2.2.1 ≤ hs.2.2.2.1 + ms := ⟨Nat.le_of_eq e1, Nat.le_of_eq e2⟩
  intro x1 x2 h H locs cells slots ls hf hS hl
  unfold fX1_made_2 at hf
  refine lv_iconst (pc := 0) (v := 0) hx hb dX1_made_2_0 rfl ?_
  refine lv_istore_n (pc := 1) (i := 3) (lv' := [(3, .int 0), (0, .ref a0), (1, .int x1), (2, .int x2)]) hx hb dX1_made_2_1 rfl hl (Nat.le_of_ble_eq_true rfl) rfl (fun ls hl => ?_)
  refine lv_iconst (pc := 2) (v := 0) hx hb dX1_made_2_2 rfl ?_
  refine lv_istore (pc := 3) (i := 4) (lv' := [(4, .int 0), (3, .int 0), (0, .ref a0), (1, .int x1), (2, .int x2)]) hx hb dX1_made_2_3 hl (Nat.le_of_ble_eq_true rfl) rfl (fun ls hl => ?_)
  exact wX1_made_2_5 cx e1 e2 a0 hth N _ _ _ _ _ _ _ _ _ _ hf hS (lv_sub hl [2, 3, 4, 1, 0] rfl)
theorem metX1_made_2 (l : Launch) (N : Nat) (a0 : Nat) (x1 : Int32) (x2 : Int32) (h h' : jH) (r : Int32) (hth : jcd h a0 = some 0) (hf : (fX1_made_2 N a0 x1 x2).1 h = some (r, h')) : jMet l yX1_made_2 (ws_ yX1_made_2 cX1_made_2 6 (Option.some Jvm.ClassFile.FieldType.int)) (123) (2635) [.ref a0, .int x1, .int x2] h h' (.returned (some (.int r))) := by
  refine jStart rfl (jle hf) (Nat.le_of_ble_eq_true rfl) ?_
  intro p e s m below meth c D dA H0 mc ms ls cx hnm e1 e2 hS hl
  have hth := jTh.mk hS hth
  exact wX1_made_2_0 cx e1 e2 a0 hth _ _ _ _ _ _ _ _ hf hS hl
def d_Text_kind (b : Nat) : jM Int32 := jB (jcls (some b)) fun k => if k = 13 then fX10_kind b else if k = 14 then fX11_kind b else if k = 15 then fX12_kind b else if k = 16 then fX13_kind b else jE
theorem md_Text_kind (l : Launch) (b : Nat) (h h' : jH) (r : Int32) (hf : (d_Text_kind b).1 h = some (r, h')) : jVm l { cls := "WornSkin$Text", name := "kind", desc := "()I" } (0) (0) 1 b [] h h' (.returned (some (.int r))) := by
  unfold d_Text_kind at hf
  obtain ⟨k, hk, hf⟩ := jBO_some hf
  by_cases hc13 : k = 13
  · have hf := jI_t hf hc13
    subst hc13
    exact ⟨_, _, _, _, _, metX10_kind l _ _ _ _ hf, hk, ⟨q1293, q1292, q141, q1304⟩, Nat.le_of_ble_eq_true rfl⟩
  have hf := jI_f hf hc13
  by_cases hc14 : k = 14
  · have hf := jI_t hf hc14
    subst hc14
    exact ⟨_, _, _, _, _, metX11_kind l _ _ _ _ hf, hk, ⟨q1298, q1299, q142, q1300⟩, Nat.le_of_ble_eq_true rfl⟩
  have hf := jI_f hf hc14
  by_cases hc15 : k = 15
  · have hf := jI_t hf hc15
    subst hc15
    exact ⟨_, _, _, _, _, metX12_kind l _ _ _ _ hf, hk, ⟨q1301, q1302, q143, q1303⟩, Nat.le_of_ble_eq_true rfl⟩
  have hf := jI_f hf hc15
  by_cases hc16 : k = 16
  · have hf := jI_t hf hc16
    subst hc16
    exact ⟨_, _, _, _, _, metX13_kind l _ _ _ _ hf, hk, ⟨q1295, q1296, q144, q1297⟩, Nat.le_of_ble_eq_true rfl⟩
  have hf := jI_f hf hc16
  exact jE_f hf
def fX1_text_102 (N : Nat) (a0 : Nat) (v0 : Int32) : jM Int32 := jR v0
def fX1_text_73 (N : Nat) (a0 : Nat) (v0 : Int32) : jM Int32 := jR v0
def fX1_text (N : Nat) (a0 : Nat) (x1 : Int32) (x2 : Int32) : jM Int32 := jB (fX1_isText a0 x1) fun y1 => if y1 = 0 then (jR (-2)) else (jB (jgR [0] 1 (some a0)) fun y2 => jB (jrc 2 y2) fun b4 => jB (fX3_text b4 x1) fun y3 => if x2 = 0 then (jB (jnn0 y3) fun b6 => jB (d_Text_kind b6) fun y5 => jR y5) else (if x2 = 1 then (jB (jgI [13, 14, 15, 16] 0 y3) fun y7 => if y7 = 0 then (fX1_text_73 N a0 0) else (fX1_text_73 N a0 1)) else (if x2 = 2 then (jB (jgI [13, 14, 15, 16] 1 y3) fun y8 => jR y8) else (if x2 = 3 then (jB (jgR [0] 1 (some a0)) fun y9 => jB (jgR [0] 1 (some a0)) fun y10 => jB (jrc 2 y10) fun b12 => jB (fX3_damp b12) fun y11 => jB (jrc 2 y9) fun b14 => jB (fX3_isWhole N b14 x1 y11) fun y13 => if y13 = 0 then (fX1_text_102 N a0 0) else (fX1_text_102 N a0 1)) else (if x2 = 4 then (jB (jgR [0] 1 (some a0)) fun y15 => jB (jrc 2 y15) fun b17 => jB (fX3_damp b17) fun y16 => jB (fX1_made_2 N a0 x1 y16) fun y18 => jR y18) else (jR (-2)))))))
theorem wX1_text_102 {N : Nat} {r : Int32} (cx : jCx p s m args meth c cX1_text "WornSkin" 4 (Option.some Jvm.ClassFile.FieldType.int) D dA H0 hs.2.2.2.2) (e1 : h'.2.2.1 = hs.2.2.1 + mc) (e2 : h'.2.2.2.1 = hs.2.2.2.1 + ms) (a0 : Nat) (hth : jTh hs a0 0) : ∀ (v0 : Int32), ∀ (h : jH) (H : Heap) (locs : List Loc) (cells slots : Nat) (ls : Array Slot), (fX1_text_102 N a0 v0).1 h = some (r, h') → jS D dA H0 hs h H locs cells slots → lv_has ls 4 [(0, .ref a0)] → W p l e { frames := 124, cells := mc, slots := ms, locals := 2660 } s m args below meth c H locs cells slots (jQ D dA H0 below s (.returned (some (.int r))) h' mc ms) (F0 m 102 ls [.int v0]) := by
  have hx := cx.1
  have hb := cx.2.1
  have hown := cx.2.2.2.1
  have hts := cx.2.2.2.2.1
  have hm : h'.2.2.1 ≤ hs.2.2.1 + mc ∧ h'.2.2.2.1 ≤ hs.2.2.2.1 + ms := ⟨Nat.le_of_eq e1, Nat.le_of_eq e2⟩
  intro v0 h H locs cells slots ls hf hS hl
  unfold fX1_text_102 at hf
  exact j_iret (pc := 102) cx hS hf e1 e2 dX1_text_102
theorem wX1_text_73 {N : Nat} {r : Int32} (cx : jCx p s m args meth c cX1_text "WornSkin" 4 (Option.some Jvm.ClassFile.FieldType.int) D dA H0 hs.2.2.2.2) (e1 : h'.2.2.1 = hs.2.2.1 + mc) (e2 : h'.2.2.2.1 = hs.2.2.2.1 + ms) (a0 : Nat) (hth : jTh hs a0 0) : ∀ (v0 : Int32), ∀ (h : jH) (H : Heap) (locs : List Loc) (cells slots : Nat) (ls : Array Slot), (fX1_text_73 N a0 v0).1 h = some (r, h') → jS D dA H0 hs h H locs cells slots → lv_has ls 4 [(0, .ref a0)] → W p l e { frames := 124, cells := mc, slots := ms, locals := 2660 } s m args below meth c H locs cells slots (jQ D dA H0 below s (.returned (some (.int r))) h' mc ms) (F0 m 73 ls [.int v0]) := by
  have hx := cx.1
  have hb := cx.2.1
  have hown := cx.2.2.2.1
  have hts := cx.2.2.2.2.1
  have hm : h'.2.2.1 ≤ hs.2.2.1 + mc ∧ h'.2.2.2.1 ≤ hs.2.2.2.1 + ms := ⟨Nat.le_of_eq e1, Nat.le_of_eq e2⟩
  intro v0 h H locs cells slots ls hf hS hl
  unfold fX1_text_73 at hf
  exact j_iret (pc := 73) cx hS hf e1 e2 dX1_text_73
theorem wX1_text_0 {N : Nat} {r : Int32} (cx : jCx p s m args meth c cX1_text "WornSkin" 4 (Option.some Jvm.ClassFile.FieldType.int) D dA H0 hs.2.2.2.2) (e1 : h'.2.2.1 = hs.2.2.1 + mc) (e2 : h'.2.2.2.1 = hs.2.2.2.1 + ms) (a0 : Nat) (hth : jTh hs a0 0) : ∀ (x1 : Int32) (x2 : Int32), ∀ (h : jH) (H : Heap) (locs : List Loc) (cells slots : Nat) (ls : Array Slot), (fX1_text N a0 x1 x2).1 h = some (r, h') → jS D dA H0 hs h H locs cells slots → lv_has ls 4 [(0, .ref a0), (1, .int x1), (2, .int x2)] → W p l e { frames := 124, cells := mc, slots := ms, locals := 2660 } s m args below meth c H locs cells slots (jQ D dA H0 below s (.returned (some (.int r))) h' mc ms) (F0 m 0 ls []) := by
  have hx := cx.1
  have hb := cx.2.1
  have hown := cx.2.2.2.1
  have hts := cx.2.2.2.2.1
  have hm : h'.2.2.1 ≤ hs.2.2.1 + mc ∧ h'.2.2.2.1 ≤ hs.2.2.2.1 + ms := ⟨Nat.le_of_eq e1, Nat.le_of_eq e2⟩
  intro x1 x2 h H locs cells slots ls hf hS hl
  unfold fX1_text at hf
  refine lv_aload_n (pc := 0) hx hb dX1_text_0 rfl (lv_at hl 0 rfl) ?_
  refine lv_iload_n (pc := 1) hx hb dX1_text_1 rfl (lv_at hl 1 rfl) ?_
  obtain ⟨y1, h1, e9, hf⟩ := jB_some hf
  refine j_callV (pc := 2) (st1 := [.int y1]) (As := [.int x1]) (rest := []) cx hS rfl hl.1 hm (metX1_isText l _ _ _ _ _ (hth.at hS) e9) (jle hf) (hth.at hS) rfl (lw_V q1282 q1284 qs36 q112 q1285) pdX1_isText rfl rfl (Nat.le_of_ble_eq_true rfl) ⟨Nat.le_of_ble_eq_true rfl, Nat.le_of_ble_eq_true rfl⟩ dX1_text_2 rfl (fun H locs cells slots hS => ?_)
  refine lv_if_ne (pc := 5) (tgt := 11) hx hb dX1_text_5 (by decide) (fun hc => ?_) (fun hc => ?_)
  · have hf := jI_f hf hc
    refine lv_aload_n (pc := 11) hx hb dX1_text_11 rfl (lv_at hl 0 rfl) ?_
    refine j_gR (pc := 12) cx hS hf fd_WornSkin_shelf q430 dX1_text_12 (fun y2 hf => ?_)
    refine lv_iload_n (pc := 15) hx hb dX1_text_15 rfl (lv_at hl 1 rfl) ?_
    obtain ⟨b4, eb, hrc, hf⟩ := jrc_s hf
    refine j_nn (pc := 16) eb [.int x1] [] rfl ?_
    obtain ⟨y3, h1, e9, hf⟩ := jB_some hf
    refine j_callV (pc := 16) (st1 := [va_rf y3]) (As := [.int x1]) (rest := []) cx hS rfl hl.1 hm (metX3_text l _ _ _ _ _ hrc e9) (jle hf) hrc rfl (lw_V q1290 q1194 q1195 q114 q1196) pdX3_text rfl rfl (Nat.le_of_ble_eq_true rfl) ⟨Nat.le_of_ble_eq_true rfl, Nat.le_of_ble_eq_true rfl⟩ dX1_text_16 rfl (fun H locs cells slots hS => ?_)
    refine j_astore_n (pc := 19) (i := 3) (r := y3) (lv' := [(3, va_rf y3), (0, .ref a0), (1, .int x1), (2, .int x2)]) hx hb dX1_text_19 rfl hl (Nat.le_of_ble_eq_true rfl) rfl (fun ls hl => ?_)
    refine lv_iload_n (pc := 20) hx hb dX1_text_20 rfl (lv_at hl 3 rfl) ?_
    by_cases hc0 : x2 = 0
    · have hf := jI_t hf hc0
      refine lv_tableIn (pc := 21) (off := 35) (tgt := 56) hx hb dX1_text_21 (by rw [hc0]; decide) (by rw [hc0]; decide) (by rw [hc0]; rfl) (by decide) ?_
      refine j_aload_n (pc := 56) (r := y3) hx hb dX1_text_56 rfl (lv_at hl 0 rfl) ?_
      obtain ⟨b6, eb, hf⟩ := jnn0_s hf
      refine j_nn (pc := 57) eb [] [] rfl ?_
      obtain ⟨y5, h1, e9, hf⟩ := jB_some hf
      refine j_callU (pc := 57) (st1 := [.int y5]) (As := []) (rest := []) (x := { cls := "WornSkin$Text", name := "kind", desc := "()I" }) cx hS rfl hl.1 hm (md_Text_kind l _ _ _ _ e9) (jle hf) q1291 q1294 (Or.inr ⟨_, _, _, q1292, q1304⟩) pd_WornSkin_Text_kind rfl rfl (Nat.le_of_ble_eq_true rfl) ⟨Nat.le_of_ble_eq_true rfl, Nat.le_of_ble_eq_true rfl⟩ dX1_text_57 rfl (fun H locs cells slots hS => ?_)
      exact j_iret (pc := 60) cx hS hf e1 e2 dX1_text_60
    have hf := jI_f hf hc0
    by_cases hc1 : x2 = 1
    · have hf := jI_t hf hc1
      refine lv_tableIn (pc := 21) (off := 40) (tgt := 61) hx hb dX1_text_21 (by rw [hc1]; decide) (by rw [hc1]; decide) (by rw [hc1]; rfl) (by decide) ?_
      refine j_aload_n (pc := 61) (r := y3) hx hb dX1_text_61 rfl (lv_at hl 0 rfl) ?_
      refine j_gI (pc := 62) cx hS hf fd_WornSkin_Text_gall q888 dX1_text_62 (fun y7 hf => ?_)
      refine lv_if_eq (pc := 65) (tgt := 72) hx hb dX1_text_65 (by decide) (fun hc => ?_) (fun hc => ?_)
      · have hf := jI_t hf hc
        refine lv_iconst (pc := 72) (v := 0) hx hb dX1_text_72 rfl ?_
        exact wX1_text_73 cx e1 e2 a0 hth _ _ _ _ _ _ _ hf hS (lv_sub hl [1] rfl)
      · have hf := jI_f hf hc
        refine lv_iconst (pc := 68) (v := 1) hx hb dX1_text_68 rfl ?_
        refine lv_goto (pc := 69) (tgt := 73) hx hb dX1_text_69 (by decide) ?_
        exact wX1_text_73 cx e1 e2 a0 hth _ _ _ _ _ _ _ hf hS (lv_sub hl [1] rfl)
    have hf := jI_f hf hc1
    by_cases hc2 : x2 = 2
    · have hf := jI_t hf hc2
      refine lv_tableIn (pc := 21) (off := 53) (tgt := 74) hx hb dX1_text_21 (by rw [hc2]; decide) (by rw [hc2]; decide) (by rw [hc2]; rfl) (by decide) ?_
      refine j_aload_n (pc := 74) (r := y3) hx hb dX1_text_74 rfl (lv_at hl 0 rfl) ?_
      refine j_gI (pc := 75) cx hS hf fd_WornSkin_Text_lines q892 dX1_text_75 (fun y8 hf => ?_)
      exact j_iret (pc := 78) cx hS hf e1 e2 dX1_text_78
    have hf := jI_f hf hc2
    by_cases hc3 : x2 = 3
    · have hf := jI_t hf hc3
      refine lv_tableIn (pc := 21) (off := 58) (tgt := 79) hx hb dX1_text_21 (by rw [hc3]; decide) (by rw [hc3]; decide) (by rw [hc3]; rfl) (by decide) ?_
      refine lv_aload_n (pc := 79) hx hb dX1_text_79 rfl (lv_at hl 1 rfl) ?_
      refine j_gR (pc := 80) cx hS hf fd_WornSkin_shelf q430 dX1_text_80 (fun y9 hf => ?_)
      refine lv_iload_n (pc := 83) hx hb dX1_text_83 rfl (lv_at hl 2 rfl) ?_
      refine lv_aload_n (pc := 84) hx hb dX1_text_84 rfl (lv_at hl 1 rfl) ?_
      refine j_gR (pc := 85) cx hS hf fd_WornSkin_shelf q430 dX1_text_85 (fun y10 hf => ?_)
      obtain ⟨b12, eb, hrc, hf⟩ := jrc_s hf
      refine j_nn (pc := 88) eb [] [.int x1, va_rf y9] rfl ?_
      obtain ⟨y11, h1, e9, hf⟩ := jB_some hf
      refine j_callV (pc := 88) (st1 := [.int y11, .int x1, va_rf y9]) (As := []) (rest := [.int x1, va_rf y9]) cx hS rfl hl.1 hm (metX3_damp l _ _ _ _ hrc e9) (jle hf) hrc rfl (lw_V q1168 q1169 q1170 q114 q1171) pdX3_damp rfl rfl (by simp only [List.map_cons, List.map_nil, List.sum_cons, List.sum_nil, jrfc]; exact Nat.le_of_ble_eq_true rfl) ⟨Nat.le_of_ble_eq_true rfl, Nat.le_of_ble_eq_true rfl⟩ dX1_text_88 rfl (fun H locs cells slots hS => ?_)
      obtain ⟨b14, eb, hrc, hf⟩ := jrc_s hf
      refine j_nn (pc := 91) eb [.int y11, .int x1] [] rfl ?_
      obtain ⟨y13, h1, e9, hf⟩ := jB_some hf
      refine j_callV (pc := 91) (st1 := [.int y13]) (As := [.int x1, .int y11]) (rest := []) cx hS rfl hl.1 hm (metX3_isWhole l _ _ _ _ _ _ _ hrc e9) (jle hf) hrc rfl (lw_V q1305 q1306 q1307 q114 q1308) pdX3_isWhole rfl rfl (Nat.le_of_ble_eq_true rfl) ⟨Nat.le_of_ble_eq_true rfl, Nat.le_of_ble_eq_true rfl⟩ dX1_text_91 rfl (fun H locs cells slots hS => ?_)
      refine lv_if_eq (pc := 94) (tgt := 101) hx hb dX1_text_94 (by decide) (fun hc => ?_) (fun hc => ?_)
      · have hf := jI_t hf hc
        refine lv_iconst (pc := 101) (v := 0) hx hb dX1_text_101 rfl ?_
        exact wX1_text_102 cx e1 e2 a0 hth _ _ _ _ _ _ _ hf hS (lv_sub hl [1] rfl)
      · have hf := jI_f hf hc
        refine lv_iconst (pc := 97) (v := 1) hx hb dX1_text_97 rfl ?_
        refine lv_goto (pc := 98) (tgt := 102) hx hb dX1_text_98 (by decide) ?_
        exact wX1_text_102 cx e1 e2 a0 hth _ _ _ _ _ _ _ hf hS (lv_sub hl [1] rfl)
    have hf := jI_f hf hc3
    by_cases hc4 : x2 = 4
    · have hf := jI_t hf hc4
      refine lv_tableIn (pc := 21) (off := 82) (tgt := 103) hx hb dX1_text_21 (by rw [hc4]; decide) (by rw [hc4]; decide) (by rw [hc4]; rfl) (by decide) ?_
      refine lv_aload_n (pc := 103) hx hb dX1_text_103 rfl (lv_at hl 1 rfl) ?_
      refine lv_iload_n (pc := 104) hx hb dX1_text_104 rfl (lv_at hl 2 rfl) ?_
      refine lv_aload_n (pc := 105) hx hb dX1_text_105 rfl (lv_at hl 1 rfl) ?_
      refine j_gR (pc := 106) cx hS hf fd_WornSkin_shelf q430 dX1_text_106 (fun y15 hf => ?_)
      obtain ⟨b17, eb, hrc, hf⟩ := jrc_s hf
      refine j_nn (pc := 109) eb [] [.int x1, .ref a0] rfl ?_
      obtain ⟨y16, h1, e9, hf⟩ := jB_some hf
      refine j_callV (pc := 109) (st1 := [.int y16, .int x1, .ref a0]) (As := []) (rest := [.int x1, .ref a0]) cx hS rfl hl.1 hm (metX3_damp l _ _ _ _ hrc e9) (jle hf) hrc rfl (lw_V q1168 q1169 q1170 q114 q1171) pdX3_damp rfl rfl (Nat.le_of_ble_eq_true rfl) ⟨Nat.le_of_ble_eq_true rfl, Nat.le_of_ble_eq_true rfl⟩ dX1_text_109 rfl (fun H locs cells slots hS => ?_)
      obtain ⟨y18, h1, e9, hf⟩ := jB_some hf
      refine j_callV (pc := 112) (st1 := [.int y18]) (As := [.int x1, .int y16]) (rest := []) cx hS rfl hl.1 hm (metX1_made_2 l _ _ _ _ _ _ _ (hth.at hS) e9) (jle hf) (hth.at hS) rfl (lw_V q1310 q1312 qs38 q112 q1313) pdX1_made_2 rfl rfl (Nat.le_of_ble_eq_true rfl) ⟨Nat.le_of_ble_eq_true rfl, Nat.le_of_ble_eq_true rfl⟩ dX1_text_112 rfl (fun H locs cells slots hS => ?_)
      exact j_iret (pc := 115) cx hS hf e1 e2 dX1_text_115
    have hf := jI_f hf hc4
    refine lv_tableOut (pc := 21) (tgt := 116) hx hb dX1_text_21 (by have i0 := lv_neT hc0 (by decide : (0 : Int32).toInt = 0); have i1 := lv_neT hc1 (by decide : (1 : Int32).toInt = 1); have i2 := lv_neT hc2 (by decide : (2 : Int32).toInt = 2); have i3 := lv_neT hc3 (by decide : (3 : Int32).toInt = 3); have i4 := lv_neT hc4 (by decide : (4 : Int32).toInt = 4); omega) (by decide) ?_
    refine lv_bipush (pc := 116) (v := (-2)) hx hb dX1_text_116 rfl ?_
    exact j_iret (pc := 118) cx hS hf e1 e2 dX1_text_118
  · have hf := jI_t hf hc
    refine lv_bipush (pc := 8) (v := (-2)) hx hb dX1_text_8 rfl ?_
    exact j_iret (pc := 10) cx hS hf e1 e2 dX1_text_10
theorem metX1_text (l : Launch) (N : Nat) (a0 : Nat) (x1 : Int32) (x2 : Int32) (h h' : jH) (r : Int32) (hth : jcd h a0 = some 0) (hf : (fX1_text N a0 x1 x2).1 h = some (r, h')) : jMet l yX1_text (ws_ yX1_text cX1_text 4 (Option.some Jvm.ClassFile.FieldType.int)) (124) (2660) [.ref a0, .int x1, .int x2] h h' (.returned (some (.int r))) := by
  refine jStart rfl (jle hf) (Nat.le_of_ble_eq_true rfl) ?_
  intro p e s m below meth c D dA H0 mc ms ls cx hnm e1 e2 hS hl
  have hth := jTh.mk hS hth
  exact wX1_text_0 cx e1 e2 a0 hth _ _ _ _ _ _ _ _ hf hS hl
def fX1_isLine_34 (a0 : Nat) (v0 : Int32) : jM Int32 := jRn .boolean v0
def fX1_isLine_33 (a0 : Nat) : jM Int32 := fX1_isLine_34 a0 0
def fX1_isLine (a0 : Nat) (x1 : Int32) (x2 : Int32) : jM Int32 := jB (fX1_isSkin a0 x1) fun y1 => if y1 = 0 then (fX1_isLine_33 a0) else (jB (jgR [0] 1 (some a0)) fun y2 => jB (jrc 2 y2) fun b4 => jB (fX3_skin b4 x1) fun y3 => jB (jgI [12] 0 y3) fun y5 => jB (fX1_within x2 0 (y5 - 1)) fun y6 => if y6 = 0 then (fX1_isLine_33 a0) else (fX1_isLine_34 a0 1))
theorem wX1_isLine_34 {r : Int32} (cx : jCx p s m args meth c cX1_isLine "WornSkin" 3 (Option.some Jvm.ClassFile.FieldType.boolean) D dA H0 hs.2.2.2.2) (e1 : h'.2.2.1 = hs.2.2.1 + mc) (e2 : h'.2.2.2.1 = hs.2.2.2.1 + ms) (a0 : Nat) (hth : jTh hs a0 0) : ∀ (v0 : Int32), ∀ (h : jH) (H : Heap) (locs : List Loc) (cells slots : Nat) (ls : Array Slot), (fX1_isLine_34 a0 v0).1 h = some (r, h') → jS D dA H0 hs h H locs cells slots → lv_has ls 3 [(0, .ref a0)] → W p l e { frames := 4, cells := mc, slots := ms, locals := 85 } s m args below meth c H locs cells slots (jQ D dA H0 below s (.returned (some (.int r))) h' mc ms) (F0 m 34 ls [.int v0]) := by
  have hx := cx.1
  have hb := cx.2.1
  have hown := cx.2.2.2.1
  have hts := cx.2.2.2.2.1
  have hm : h'.2.2.1 ≤ hs.2.2.1 + mc ∧ h'.2.2.2.1 ≤ hs.2.2.2.1 + ms := ⟨Nat.le_of_eq e1, Nat.le_of_eq e2⟩
  intro v0 h H locs cells slots ls hf hS hl
  unfold fX1_isLine_34 at hf
  exact j_zret (pc := 34) cx (Or.inl rfl) hS hf e1 e2 dX1_isLine_34
theorem wX1_isLine_33 {r : Int32} (cx : jCx p s m args meth c cX1_isLine "WornSkin" 3 (Option.some Jvm.ClassFile.FieldType.boolean) D dA H0 hs.2.2.2.2) (e1 : h'.2.2.1 = hs.2.2.1 + mc) (e2 : h'.2.2.2.1 = hs.2.2.2.1 + ms) (a0 : Nat) (hth : jTh hs a0 0) : ∀ (h : jH) (H : Heap) (locs : List Loc) (cells slots : Nat) (ls : Array Slot), (fX1_isLine_33 a0).1 h = some (r, h') → jS D dA H0 hs h H locs cells slots → lv_has ls 3 [(0, .ref a0)] → W p l e { frames := 4, cells := mc, slots := ms, locals := 85 } s m args below meth c H locs cells slots (jQ D dA H0 below s (.returned (some (.int r))) h' mc ms) (F0 m 33 ls []) := by
  have hx := cx.1
  have hb := cx.2.1
  have hown := cx.2.2.2.1
  have hts := cx.2.2.2.2.1
  have hm : h'.2.2.1 ≤ hs.2.2.1 + mc ∧ h'.2.2.2.1 ≤ hs.2.2.2.1 + ms := ⟨Nat.le_of_eq e1, Nat.le_of_eq e2⟩
  intro h H locs cells slots ls hf hS hl
  unfold fX1_isLine_33 at hf
  refine lv_iconst (pc := 33) (v := 0) hx hb dX1_isLine_33 rfl ?_
  exact wX1_isLine_34 cx e1 e2 a0 hth _ _ _ _ _ _ _ hf hS hl
theorem wX1_isLine_0 {r : Int32} (cx : jCx p s m args meth c cX1_isLine "WornSkin" 3 (Option.some Jvm.ClassFile.FieldType.boolean) D dA H0 hs.2.2.2.2) (e1 : h'.2.2.1 = hs.2.2.1 + mc) (e2 : h'.2.2.2.1 = hs.2.2.2.1 + ms) (a0 : Nat) (hth : jTh hs a0 0) : ∀ (x1 : Int32) (x2 : Int32), ∀ (h : jH) (H : Heap) (locs : List Loc) (cells slots : Nat) (ls : Array Slot), (fX1_isLine a0 x1 x2).1 h = some (r, h') → jS D dA H0 hs h H locs cells slots → lv_has ls 3 [(0, .ref a0), (1, .int x1), (2, .int x2)] → W p l e { frames := 4, cells := mc, slots := ms, locals := 85 } s m args below meth c H locs cells slots (jQ D dA H0 below s (.returned (some (.int r))) h' mc ms) (F0 m 0 ls []) := by
  have hx := cx.1
  have hb := cx.2.1
  have hown := cx.2.2.2.1
  have hts := cx.2.2.2.2.1
  have hm : h'.2.2.1 ≤ hs.2.2.1 + mc ∧ h'.2.2.2.1 ≤ hs.2.2.2.1 + ms := ⟨Nat.le_of_eq e1, Nat.le_of_eq e2⟩
  intro x1 x2 h H locs cells slots ls hf hS hl
  unfold fX1_isLine at hf
  refine lv_aload_n (pc := 0) hx hb dX1_isLine_0 rfl (lv_at hl 0 rfl) ?_
  refine lv_iload_n (pc := 1) hx hb dX1_isLine_1 rfl (lv_at hl 1 rfl) ?_
  obtain ⟨y1, h1, e9, hf⟩ := jB_some hf
  refine j_callV (pc := 2) (st1 := [.int y1]) (As := [.int x1]) (rest := []) cx hS rfl hl.1 hm (metX1_isSkin l _ _ _ _ _ (hth.at hS) e9) (jle hf) (hth.at hS) rfl (lw_V q1149 q1151 qs33 q112 q1152) pdX1_isSkin rfl rfl (Nat.le_of_ble_eq_true rfl) ⟨Nat.le_of_ble_eq_true rfl, Nat.le_of_ble_eq_true rfl⟩ dX1_isLine_2 rfl (fun H locs cells slots hS => ?_)
  refine lv_if_eq (pc := 5) (tgt := 33) hx hb dX1_isLine_5 (by decide) (fun hc => ?_) (fun hc => ?_)
  · have hf := jI_t hf hc
    exact wX1_isLine_33 cx e1 e2 a0 hth _ _ _ _ _ _ hf hS (lv_sub hl [0] rfl)
  · have hf := jI_f hf hc
    refine lv_iload_n (pc := 8) hx hb dX1_isLine_8 rfl (lv_at hl 2 rfl) ?_
    refine lv_iconst (pc := 9) (v := 0) hx hb dX1_isLine_9 rfl ?_
    refine lv_aload_n (pc := 10) hx hb dX1_isLine_10 rfl (lv_at hl 0 rfl) ?_
    refine j_gR (pc := 11) cx hS hf fd_WornSkin_shelf q430 dX1_isLine_11 (fun y2 hf => ?_)
    refine lv_iload_n (pc := 14) hx hb dX1_isLine_14 rfl (lv_at hl 1 rfl) ?_
    obtain ⟨b4, eb, hrc, hf⟩ := jrc_s hf
    refine j_nn (pc := 15) eb [.int x1] [.int 0, .int x2] rfl ?_
    obtain ⟨y3, h1, e9, hf⟩ := jB_some hf
    refine j_callV (pc := 15) (st1 := [va_rf y3, .int 0, .int x2]) (As := [.int x1]) (rest := [.int 0, .int x2]) cx hS rfl hl.1 hm (metX3_skin l _ _ _ _ _ hrc e9) (jle hf) hrc rfl (lw_V q1159 q380 q381 q114 q382) pdX3_skin rfl rfl (Nat.le_of_ble_eq_true rfl) ⟨Nat.le_of_ble_eq_true rfl, Nat.le_of_ble_eq_true rfl⟩ dX1_isLine_15 rfl (fun H locs cells slots hS => ?_)
    refine j_gI (pc := 18) cx hS hf fd_WornSkin_Skin_lines q839 dX1_isLine_18 (fun y5 hf => ?_)
    refine lv_iconst (pc := 21) (v := 1) hx hb dX1_isLine_21 rfl ?_
    refine lv_isub (pc := 22) hx hb dX1_isLine_22 ?_
    obtain ⟨y6, h1, e9, hf⟩ := jB_some hf
    refine j_callS (pc := 23) (st1 := [.int y6]) (As := [.int x2, .int 0, .int (y5 - 1)]) (rest := []) cx hS rfl hl.1 hm (metX1_within l _ _ _ _ _ _ e9) (jle hf) (lw_S q1158 q468 q112 q469) pdX1_within rfl rfl (Nat.le_of_ble_eq_true rfl) ⟨Nat.le_of_ble_eq_true rfl, Nat.le_of_ble_eq_true rfl⟩ dX1_isLine_23 rfl (fun H locs cells slots hS => ?_)
    refine lv_if_eq (pc := 26) (tgt := 33) hx hb dX1_isLine_26 (by decide) (fun hc => ?_) (fun hc => ?_)
    · have hf := jI_t hf hc
      exact wX1_isLine_33 cx e1 e2 a0 hth _ _ _ _ _ _ hf hS (lv_sub hl [0] rfl)
    · have hf := jI_f hf hc
      refine lv_iconst (pc := 29) (v := 1) hx hb dX1_isLine_29 rfl ?_
      refine lv_goto (pc := 30) (tgt := 34) hx hb dX1_isLine_30 (by decide) ?_
      exact wX1_isLine_34 cx e1 e2 a0 hth _ _ _ _ _ _ _ hf hS (lv_sub hl [0] rfl)
theorem metX1_isLine (l : Launch) (a0 : Nat) (x1 : Int32) (x2 : Int32) (h h' : jH) (r : Int32) (hth : jcd h a0 = some 0) (hf : (fX1_isLine a0 x1 x2).1 h = some (r, h')) : jMet l yX1_isLine (ws_ yX1_isLine cX1_isLine 3 (Option.some Jvm.ClassFile.FieldType.boolean)) (4) (85) [.ref a0, .int x1, .int x2] h h' (.returned (some (.int r))) := by
  refine jStart rfl (jle hf) (Nat.le_of_ble_eq_true rfl) ?_
  intro p e s m below meth c D dA H0 mc ms ls cx hnm e1 e2 hS hl
  have hth := jTh.mk hS hth
  exact wX1_isLine_0 cx e1 e2 a0 hth _ _ _ _ _ _ _ _ hf hS hl
def fX1_layers_27 (a0 : Nat) (v0 : Int32) : jM Int32 := jR v0
def fX1_layers (a0 : Nat) (x1 : Int32) (x2 : Int32) : jM Int32 := jB (fX1_isLine a0 x1 x2) fun y1 => if y1 = 0 then (fX1_layers_27 a0 (-1)) else (jB (jgR [0] 1 (some a0)) fun y2 => jB (jgR [2] 5 y2) fun y3 => jB (jaI 0 y3 ((6 * x1) + x2)) fun y4 => fX1_layers_27 a0 y4)
theorem wX1_layers_27 {r : Int32} (cx : jCx p s m args meth c cX1_layers "WornSkin" 3 (Option.some Jvm.ClassFile.FieldType.int) D dA H0 hs.2.2.2.2) (e1 : h'.2.2.1 = hs.2.2.1 + mc) (e2 : h'.2.2.2.1 = hs.2.2.2.1 + ms) (a0 : Nat) (hth : jTh hs a0 0) : ∀ (v0 : Int32), ∀ (h : jH) (H : Heap) (locs : List Loc) (cells slots : Nat) (ls : Array Slot), (fX1_layers_27 a0 v0).1 h = some (r, h') → jS D dA H0 hs h H locs cells slots → lv_has ls 3 [(0, .ref a0)] → W p l e { frames := 5, cells := mc, slots := ms, locals := 107 } s m args below meth c H locs cells slots (jQ D dA H0 below s (.returned (some (.int r))) h' mc ms) (F0 m 27 ls [.int v0]) := by
  have hx := cx.1
  have hb := cx.2.1
  have hown := cx.2.2.2.1
  have hts := cx.2.2.2.2.1
  have hm : h'.2.2.1 ≤ hs.2.2.1 + mc ∧ h'.2.2.2.1 ≤ hs.2.2.2.1 + ms := ⟨Nat.le_of_eq e1, Nat.le_of_eq e2⟩
  intro v0 h H locs cells slots ls hf hS hl
  unfold fX1_layers_27 at hf
  exact j_iret (pc := 27) cx hS hf e1 e2 dX1_layers_27
theorem wX1_layers_0 {r : Int32} (cx : jCx p s m args meth c cX1_layers "WornSkin" 3 (Option.some Jvm.ClassFile.FieldType.int) D dA H0 hs.2.2.2.2) (e1 : h'.2.2.1 = hs.2.2.1 + mc) (e2 : h'.2.2.2.1 = hs.2.2.2.1 + ms) (a0 : Nat) (hth : jTh hs a0 0) : ∀ (x1 : Int32) (x2 : Int32), ∀ (h : jH) (H : Heap) (locs : List Loc) (cells slots : Nat) (ls : Array Slot), (fX1_layers a0 x1 x2).1 h = some (r, h') → jS D dA H0 hs h H locs cells slots → lv_has ls 3 [(0, .ref a0), (1, .int x1), (2, .int x2)] → W p l e { frames := 5, cells := mc, slots := ms, locals := 107 } s m args below meth c H locs cells slots (jQ D dA H0 below s (.returned (some (.int r))) h' mc ms) (F0 m 0 ls []) := by
  have hx := cx.1
  have hb := cx.2.1
  have hown := cx.2.2.2.1
  have hts := cx.2.2.2.2.1
  have hm : h'.2.2.1 ≤ hs.2.2.1 + mc ∧ h'.2.2.2.1 ≤ hs.2.2.2.1 + ms := ⟨Nat.le_of_eq e1, Nat.le_of_eq e2⟩
  intro x1 x2 h H locs cells slots ls hf hS hl
  unfold fX1_layers at hf
  refine lv_aload_n (pc := 0) hx hb dX1_layers_0 rfl (lv_at hl 0 rfl) ?_
  refine lv_iload_n (pc := 1) hx hb dX1_layers_1 rfl (lv_at hl 1 rfl) ?_
  refine lv_iload_n (pc := 2) hx hb dX1_layers_2 rfl (lv_at hl 2 rfl) ?_
  obtain ⟨y1, h1, e9, hf⟩ := jB_some hf
  refine j_callV (pc := 3) (st1 := [.int y1]) (As := [.int x1, .int x2]) (rest := []) cx hS rfl hl.1 hm (metX1_isLine l _ _ _ _ _ _ (hth.at hS) e9) (jle hf) (hth.at hS) rfl (lw_V q1318 q1320 qs39 q112 q1321) pdX1_isLine rfl rfl (Nat.le_of_ble_eq_true rfl) ⟨Nat.le_of_ble_eq_true rfl, Nat.le_of_ble_eq_true rfl⟩ dX1_layers_3 rfl (fun H locs cells slots hS => ?_)
  refine lv_if_eq (pc := 6) (tgt := 26) hx hb dX1_layers_6 (by decide) (fun hc => ?_) (fun hc => ?_)
  · have hf := jI_t hf hc
    refine lv_iconst (pc := 26) (v := (-1)) hx hb dX1_layers_26 rfl ?_
    exact wX1_layers_27 cx e1 e2 a0 hth _ _ _ _ _ _ _ hf hS (lv_sub hl [0] rfl)
  · have hf := jI_f hf hc
    refine lv_aload_n (pc := 9) hx hb dX1_layers_9 rfl (lv_at hl 0 rfl) ?_
    refine j_gR (pc := 10) cx hS hf fd_WornSkin_shelf q430 dX1_layers_10 (fun y2 hf => ?_)
    refine j_gR (pc := 13) cx hS hf fd_WornSkin_Shelf_many q268 dX1_layers_13 (fun y3 hf => ?_)
    refine lv_bipush (pc := 16) (v := 6) hx hb dX1_layers_16 rfl ?_
    refine lv_iload_n (pc := 18) hx hb dX1_layers_18 rfl (lv_at hl 1 rfl) ?_
    refine lv_imul (pc := 19) hx hb dX1_layers_19 ?_
    refine lv_iload_n (pc := 20) hx hb dX1_layers_20 rfl (lv_at hl 2 rfl) ?_
    refine lv_iadd (pc := 21) hx hb dX1_layers_21 ?_
    refine j_aI (pc := 22) cx hS hf rfl dX1_layers_22 (fun y4 hf => ?_)
    refine lv_goto (pc := 23) (tgt := 27) hx hb dX1_layers_23 (by decide) ?_
    exact wX1_layers_27 cx e1 e2 a0 hth _ _ _ _ _ _ _ hf hS (lv_sub hl [0] rfl)
theorem metX1_layers (l : Launch) (a0 : Nat) (x1 : Int32) (x2 : Int32) (h h' : jH) (r : Int32) (hth : jcd h a0 = some 0) (hf : (fX1_layers a0 x1 x2).1 h = some (r, h')) : jMet l yX1_layers (ws_ yX1_layers cX1_layers 3 (Option.some Jvm.ClassFile.FieldType.int)) (5) (107) [.ref a0, .int x1, .int x2] h h' (.returned (some (.int r))) := by
  refine jStart rfl (jle hf) (Nat.le_of_ble_eq_true rfl) ?_
  intro p e s m below meth c D dA H0 mc ms ls cx hnm e1 e2 hS hl
  have hth := jTh.mk hS hth
  exact wX1_layers_0 cx e1 e2 a0 hth _ _ _ _ _ _ _ _ hf hS hl
def fX1_layer_43 (a0 : Nat) (v0 : Int32) : jM Int32 := jR v0
def fX1_layer_42 (a0 : Nat) : jM Int32 := fX1_layer_43 a0 (-1)
def fX1_layer (a0 : Nat) (x1 : Int32) (x2 : Int32) (x3 : Int32) : jM Int32 := jB (fX1_isLine a0 x1 x2) fun y1 => if y1 = 0 then (fX1_layer_42 a0) else (jB (fX1_layers a0 x1 x2) fun y2 => jB (fX1_within x3 0 (y2 - 1)) fun y3 => if y3 = 0 then (fX1_layer_42 a0) else (jB (jgR [0] 1 (some a0)) fun y4 => jB (jrc 2 y4) fun b6 => jB (fX3_layer b6 ((6 * x1) + x2) x3) fun y5 => fX1_layer_43 a0 y5))
theorem wX1_layer_43 {r : Int32} (cx : jCx p s m args meth c cX1_layer "WornSkin" 4 (Option.some Jvm.ClassFile.FieldType.int) D dA H0 hs.2.2.2.2) (e1 : h'.2.2.1 = hs.2.2.1 + mc) (e2 : h'.2.2.2.1 = hs.2.2.2.1 + ms) (a0 : Nat) (hth : jTh hs a0 0) : ∀ (v0 : Int32), ∀ (h : jH) (H : Heap) (locs : List Loc) (cells slots : Nat) (ls : Array Slot), (fX1_layer_43 a0 v0).1 h = some (r, h') → jS D dA H0 hs h H locs cells slots → lv_has ls 4 [(0, .ref a0)] → W p l e { frames := 6, cells := mc, slots := ms, locals := 129 } s m args below meth c H locs cells slots (jQ D dA H0 below s (.returned (some (.int r))) h' mc ms) (F0 m 43 ls [.int v0]) := by
  have hx := cx.1
  have hb := cx.2.1
  have hown := cx.2.2.2.1
  have hts := cx.2.2.2.2.1
  have hm : h'.2.2.1 ≤ hs.2.2.1 + mc ∧ h'.2.2.2.1 ≤ hs.2.2.2.1 + ms := ⟨Nat.le_of_eq e1, Nat.le_of_eq e2⟩
  intro v0 h H locs cells slots ls hf hS hl
  unfold fX1_layer_43 at hf
  exact j_iret (pc := 43) cx hS hf e1 e2 dX1_layer_43
theorem wX1_layer_42 {r : Int32} (cx : jCx p s m args meth c cX1_layer "WornSkin" 4 (Option.some Jvm.ClassFile.FieldType.int) D dA H0 hs.2.2.2.2) (e1 : h'.2.2.1 = hs.2.2.1 + mc) (e2 : h'.2.2.2.1 = hs.2.2.2.1 + ms) (a0 : Nat) (hth : jTh hs a0 0) : ∀ (h : jH) (H : Heap) (locs : List Loc) (cells slots : Nat) (ls : Array Slot), (fX1_layer_42 a0).1 h = some (r, h') → jS D dA H0 hs h H locs cells slots → lv_has ls 4 [(0, .ref a0)] → W p l e { frames := 6, cells := mc, slots := ms, locals := 129 } s m args below meth c H locs cells slots (jQ D dA H0 below s (.returned (some (.int r))) h' mc ms) (F0 m 42 ls []) := by
  have hx := cx.1
  have hb := cx.2.1
  have hown := cx.2.2.2.1
  have hts := cx.2.2.2.2.1
  have hm : h'.2.2.1 ≤ hs.2.2.1 + mc ∧ h'.2.2.2.1 ≤ hs.2.2.2.1 + ms := ⟨Nat.le_of_eq e1, Nat.le_of_eq e2⟩
  intro h H locs cells slots ls hf hS hl
  unfold fX1_layer_42 at hf
  refine lv_iconst (pc := 42) (v := (-1)) hx hb dX1_layer_42 rfl ?_
  exact wX1_layer_43 cx e1 e2 a0 hth _ _ _ _ _ _ _ hf hS hl
theorem wX1_layer_0 {r : Int32} (cx : jCx p s m args meth c cX1_layer "WornSkin" 4 (Option.some Jvm.ClassFile.FieldType.int) D dA H0 hs.2.2.2.2) (e1 : h'.2.2.1 = hs.2.2.1 + mc) (e2 : h'.2.2.2.1 = hs.2.2.2.1 + ms) (a0 : Nat) (hth : jTh hs a0 0) : ∀ (x1 : Int32) (x2 : Int32) (x3 : Int32), ∀ (h : jH) (H : Heap) (locs : List Loc) (cells slots : Nat) (ls : Array Slot), (fX1_layer a0 x1 x2 x3).1 h = some (r, h') → jS D dA H0 hs h H locs cells slots → lv_has ls 4 [(0, .ref a0), (1, .int x1), (2, .int x2), (3, .int x3)] → W p l e { frames := 6, cells := mc, slots := ms, locals := 129 } s m args below meth c H locs cells slots (jQ D dA H0 below s (.returned (some (.int r))) h' mc ms) (F0 m 0 ls []) := by
  have hx := cx.1
  have hb := cx.2.1
  have hown := cx.2.2.2.1
  have hts := cx.2.2.2.2.1
  have hm : h'.2.2.1 ≤ hs.2.2.1 + mc ∧ h'.2.2.2.1 ≤ hs.2.2.2.1 + ms := ⟨Nat.le_of_eq e1, Nat.le_of_eq e2⟩
  intro x1 x2 x3 h H locs cells slots ls hf hS hl
  unfold fX1_layer at hf
  refine lv_aload_n (pc := 0) hx hb dX1_layer_0 rfl (lv_at hl 0 rfl) ?_
  refine lv_iload_n (pc := 1) hx hb dX1_layer_1 rfl (lv_at hl 1 rfl) ?_
  refine lv_iload_n (pc := 2) hx hb dX1_layer_2 rfl (lv_at hl 2 rfl) ?_
  obtain ⟨y1, h1, e9, hf⟩ := jB_some hf
  refine j_callV (pc := 3) (st1 := [.int y1]) (As := [.int x1, .int x2]) (rest := []) cx hS rfl hl.1 hm (metX1_isLine l _ _ _ _ _ _ (hth.at hS) e9) (jle hf) (hth.at hS) rfl (lw_V q1318 q1320 qs39 q112 q1321) pdX1_isLine rfl rfl (Nat.le_of_ble_eq_true rfl) ⟨Nat.le_of_ble_eq_true rfl, Nat.le_of_ble_eq_true rfl⟩ dX1_layer_3 rfl (fun H locs cells slots hS => ?_)
  refine lv_if_eq (pc := 6) (tgt := 42) hx hb dX1_layer_6 (by decide) (fun hc => ?_) (fun hc => ?_)
  · have hf := jI_t hf hc
    exact wX1_layer_42 cx e1 e2 a0 hth _ _ _ _ _ _ hf hS (lv_sub hl [0] rfl)
  · have hf := jI_f hf hc
    refine lv_iload_n (pc := 9) hx hb dX1_layer_9 rfl (lv_at hl 3 rfl) ?_
    refine lv_iconst (pc := 10) (v := 0) hx hb dX1_layer_10 rfl ?_
    refine lv_aload_n (pc := 11) hx hb dX1_layer_11 rfl (lv_at hl 0 rfl) ?_
    refine lv_iload_n (pc := 12) hx hb dX1_layer_12 rfl (lv_at hl 1 rfl) ?_
    refine lv_iload_n (pc := 13) hx hb dX1_layer_13 rfl (lv_at hl 2 rfl) ?_
    obtain ⟨y2, h1, e9, hf⟩ := jB_some hf
    refine j_callV (pc := 14) (st1 := [.int y2, .int 0, .int x3]) (As := [.int x1, .int x2]) (rest := [.int 0, .int x3]) cx hS rfl hl.1 hm (metX1_layers l _ _ _ _ _ _ (hth.at hS) e9) (jle hf) (hth.at hS) rfl (lw_V q1326 q1315 q1316 q112 q1317) pdX1_layers rfl rfl (Nat.le_of_ble_eq_true rfl) ⟨Nat.le_of_ble_eq_true rfl, Nat.le_of_ble_eq_true rfl⟩ dX1_layer_14 rfl (fun H locs cells slots hS => ?_)
    refine lv_iconst (pc := 17) (v := 1) hx hb dX1_layer_17 rfl ?_
    refine lv_isub (pc := 18) hx hb dX1_layer_18 ?_
    obtain ⟨y3, h1, e9, hf⟩ := jB_some hf
    refine j_callS (pc := 19) (st1 := [.int y3]) (As := [.int x3, .int 0, .int (y2 - 1)]) (rest := []) cx hS rfl hl.1 hm (metX1_within l _ _ _ _ _ _ e9) (jle hf) (lw_S q1158 q468 q112 q469) pdX1_within rfl rfl (Nat.le_of_ble_eq_true rfl) ⟨Nat.le_of_ble_eq_true rfl, Nat.le_of_ble_eq_true rfl⟩ dX1_layer_19 rfl (fun H locs cells slots hS => ?_)
    refine lv_if_eq (pc := 22) (tgt := 42) hx hb dX1_layer_22 (by decide) (fun hc => ?_) (fun hc => ?_)
    · have hf := jI_t hf hc
      exact wX1_layer_42 cx e1 e2 a0 hth _ _ _ _ _ _ hf hS (lv_sub hl [0] rfl)
    · have hf := jI_f hf hc
      refine lv_aload_n (pc := 25) hx hb dX1_layer_25 rfl (lv_at hl 0 rfl) ?_
      refine j_gR (pc := 26) cx hS hf fd_WornSkin_shelf q430 dX1_layer_26 (fun y4 hf => ?_)
      refine lv_bipush (pc := 29) (v := 6) hx hb dX1_layer_29 rfl ?_
      refine lv_iload_n (pc := 31) hx hb dX1_layer_31 rfl (lv_at hl 1 rfl) ?_
      refine lv_imul (pc := 32) hx hb dX1_layer_32 ?_
      refine lv_iload_n (pc := 33) hx hb dX1_layer_33 rfl (lv_at hl 2 rfl) ?_
      refine lv_iadd (pc := 34) hx hb dX1_layer_34 ?_
      refine lv_iload_n (pc := 35) hx hb dX1_layer_35 rfl (lv_at hl 3 rfl) ?_
      obtain ⟨b6, eb, hrc, hf⟩ := jrc_s hf
      refine j_nn (pc := 36) eb [.int x3, .int ((6 * x1) + x2)] [] rfl ?_
      obtain ⟨y5, h1, e9, hf⟩ := jB_some hf
      refine j_callV (pc := 36) (st1 := [.int y5]) (As := [.int ((6 * x1) + x2), .int x3]) (rest := []) cx hS rfl hl.1 hm (metX3_layer l _ _ _ _ _ _ hrc e9) (jle hf) hrc rfl (lw_V q1327 q1190 q1191 q114 q1192) pdX3_layer rfl rfl (Nat.le_of_ble_eq_true rfl) ⟨Nat.le_of_ble_eq_true rfl, Nat.le_of_ble_eq_true rfl⟩ dX1_layer_36 rfl (fun H locs cells slots hS => ?_)
      refine lv_goto (pc := 39) (tgt := 43) hx hb dX1_layer_39 (by decide) ?_
      exact wX1_layer_43 cx e1 e2 a0 hth _ _ _ _ _ _ _ hf hS (lv_sub hl [0] rfl)
theorem metX1_layer (l : Launch) (a0 : Nat) (x1 : Int32) (x2 : Int32) (x3 : Int32) (h h' : jH) (r : Int32) (hth : jcd h a0 = some 0) (hf : (fX1_layer a0 x1 x2 x3).1 h = some (r, h')) : jMet l yX1_layer (ws_ yX1_layer cX1_layer 4 (Option.some Jvm.ClassFile.FieldType.int)) (6) (129) [.ref a0, .int x1, .int x2, .int x3] h h' (.returned (some (.int r))) := by
  refine jStart rfl (jle hf) (Nat.le_of_ble_eq_true rfl) ?_
  intro p e s m below meth c D dA H0 mc ms ls cx hnm e1 e2 hS hl
  have hth := jTh.mk hS hth
  exact wX1_layer_0 cx e1 e2 a0 hth _ _ _ _ _ _ _ _ _ hf hS hl
def fX1_read_29 (N : Nat) (a0 : Nat) (v0 : Int32) : jM Int32 := jR v0
def fX1_read (N : Nat) (a0 : Nat) (x1 : Int32) (x2 : Int32) : jM Int32 := jB (fX1_isLine a0 x1 x2) fun y1 => if y1 = 0 then (fX1_read_29 N a0 (-1)) else (jB (jgR [0] 1 (some a0)) fun y2 => jB (jgR [0] 1 (some a0)) fun y3 => jB (jrc 2 y3) fun b5 => jB (fX3_damp b5) fun y4 => jB (jrc 2 y2) fun b7 => jB (fX3_read N b7 x1 x2 y4) fun y6 => fX1_read_29 N a0 y6)
theorem wX1_read_29 {N : Nat} {r : Int32} (cx : jCx p s m args meth c cX1_read "WornSkin" 3 (Option.some Jvm.ClassFile.FieldType.int) D dA H0 hs.2.2.2.2) (e1 : h'.2.2.1 = hs.2.2.1 + mc) (e2 : h'.2.2.2.1 = hs.2.2.2.1 + ms) (a0 : Nat) (hth : jTh hs a0 0) : ∀ (v0 : Int32), ∀ (h : jH) (H : Heap) (locs : List Loc) (cells slots : Nat) (ls : Array Slot), (fX1_read_29 N a0 v0).1 h = some (r, h') → jS D dA H0 hs h H locs cells slots → lv_has ls 3 [(0, .ref a0)] → W p l e { frames := 123, cells := mc, slots := ms, locals := 2635 } s m args below meth c H locs cells slots (jQ D dA H0 below s (.returned (some (.int r))) h' mc ms) (F0 m 29 ls [.int v0]) := by
  have hx := cx.1
  have hb := cx.2.1
  have hown := cx.2.2.2.1
  have hts := cx.2.2.2.2.1
  have hm : h'.2.2.1 ≤ hs.2.2.1 + mc ∧ h'.2.2.2.1 ≤ hs.2.2.2.1 + ms := ⟨Nat.le_of_eq e1, Nat.le_of_eq e2⟩
  intro v0 h H locs cells slots ls hf hS hl
  unfold fX1_read_29 at hf
  exact j_iret (pc := 29) cx hS hf e1 e2 dX1_read_29
theorem wX1_read_0 {N : Nat} {r : Int32} (cx : jCx p s m args meth c cX1_read "WornSkin" 3 (Option.some Jvm.ClassFile.FieldType.int) D dA H0 hs.2.2.2.2) (e1 : h'.2.2.1 = hs.2.2.1 + mc) (e2 : h'.2.2.2.1 = hs.2.2.2.1 + ms) (a0 : Nat) (hth : jTh hs a0 0) : ∀ (x1 : Int32) (x2 : Int32), ∀ (h : jH) (H : Heap) (locs : List Loc) (cells slots : Nat) (ls : Array Slot), (fX1_read N a0 x1 x2).1 h = some (r, h') → jS D dA H0 hs h H locs cells slots → lv_has ls 3 [(0, .ref a0), (1, .int x1), (2, .int x2)] → W p l e { frames := 123, cells := mc, slots := ms, locals := 2635 } s m args below meth c H locs cells slots (jQ D dA H0 below s (.returned (some (.int r))) h' mc ms) (F0 m 0 ls []) := by
  have hx := cx.1
  have hb := cx.2.1
  have hown := cx.2.2.2.1
  have hts := cx.2.2.2.2.1
  have hm : h'.2.2.1 ≤ hs.2.2.1 + mc ∧ h'.2.2.2.1 ≤ hs.2.2.2.1 + ms := ⟨Nat.le_of_eq e1, Nat.le_of_eq e2⟩
  intro x1 x2 h H locs cells slots ls hf hS hl
  unfold fX1_read at hf
  refine lv_aload_n (pc := 0) hx hb dX1_read_0 rfl (lv_at hl 0 rfl) ?_
  refine lv_iload_n (pc := 1) hx hb dX1_read_1 rfl (lv_at hl 1 rfl) ?_
  refine lv_iload_n (pc := 2) hx hb dX1_read_2 rfl (lv_at hl 2 rfl) ?_
  obtain ⟨y1, h1, e9, hf⟩ := jB_some hf
  refine j_callV (pc := 3) (st1 := [.int y1]) (As := [.int x1, .int x2]) (rest := []) cx hS rfl hl.1 hm (metX1_isLine l _ _ _ _ _ _ (hth.at hS) e9) (jle hf) (hth.at hS) rfl (lw_V q1318 q1320 qs39 q112 q1321) pdX1_isLine rfl rfl (Nat.le_of_ble_eq_true rfl) ⟨Nat.le_of_ble_eq_true rfl, Nat.le_of_ble_eq_true rfl⟩ dX1_read_3 rfl (fun H locs cells slots hS => ?_)
  refine lv_if_eq (pc := 6) (tgt := 28) hx hb dX1_read_6 (by decide) (fun hc => ?_) (fun hc => ?_)
  · have hf := jI_t hf hc
    refine lv_iconst (pc := 28) (v := (-1)) hx hb dX1_read_28 rfl ?_
    exact wX1_read_29 cx e1 e2 a0 hth _ _ _ _ _ _ _ hf hS (lv_sub hl [0] rfl)
  · have hf := jI_f hf hc
    refine lv_aload_n (pc := 9) hx hb dX1_read_9 rfl (lv_at hl 0 rfl) ?_
    refine j_gR (pc := 10) cx hS hf fd_WornSkin_shelf q430 dX1_read_10 (fun y2 hf => ?_)
    refine lv_iload_n (pc := 13) hx hb dX1_read_13 rfl (lv_at hl 1 rfl) ?_
    refine lv_iload_n (pc := 14) hx hb dX1_read_14 rfl (lv_at hl 2 rfl) ?_
    refine lv_aload_n (pc := 15) hx hb dX1_read_15 rfl (lv_at hl 0 rfl) ?_
    refine j_gR (pc := 16) cx hS hf fd_WornSkin_shelf q430 dX1_read_16 (fun y3 hf => ?_)
    obtain ⟨b5, eb, hrc, hf⟩ := jrc_s hf
    refine j_nn (pc := 19) eb [] [.int x2, .int x1, va_rf y2] rfl ?_
    obtain ⟨y4, h1, e9, hf⟩ := jB_some hf
    refine j_callV (pc := 19) (st1 := [.int y4, .int x2, .int x1, va_rf y2]) (As := []) (rest := [.int x2, .int x1, va_rf y2]) cx hS rfl hl.1 hm (metX3_damp l _ _ _ _ hrc e9) (jle hf) hrc rfl (lw_V q1168 q1169 q1170 q114 q1171) pdX3_damp rfl rfl (by simp only [List.map_cons, List.map_nil, List.sum_cons, List.sum_nil, jrfc]; exact Nat.le_of_ble_eq_true rfl) ⟨Nat.le_of_ble_eq_true rfl, Nat.le_of_ble_eq_true rfl⟩ dX1_read_19 rfl (fun H locs cells slots hS => ?_)
    obtain ⟨b7, eb, hrc, hf⟩ := jrc_s hf
    refine j_nn (pc := 22) eb [.int y4, .int x2, .int x1] [] rfl ?_
    obtain ⟨y6, h1, e9, hf⟩ := jB_some hf
    refine j_callV (pc := 22) (st1 := [.int y6]) (As := [.int x1, .int x2, .int y4]) (rest := []) cx hS rfl hl.1 hm (metX3_read l _ _ _ _ _ _ _ _ hrc e9) (jle hf) hrc rfl (lw_V q1176 q1177 q1178 q114 q1179) pdX3_read rfl rfl (Nat.le_of_ble_eq_true rfl) ⟨Nat.le_of_ble_eq_true rfl, Nat.le_of_ble_eq_true rfl⟩ dX1_read_22 rfl (fun H locs cells slots hS => ?_)
    refine lv_goto (pc := 25) (tgt := 29) hx hb dX1_read_25 (by decide) ?_
    exact wX1_read_29 cx e1 e2 a0 hth _ _ _ _ _ _ _ hf hS (lv_sub hl [0] rfl)
theorem metX1_read (l : Launch) (N : Nat) (a0 : Nat) (x1 : Int32) (x2 : Int32) (h h' : jH) (r : Int32) (hth : jcd h a0 = some 0) (hf : (fX1_read N a0 x1 x2).1 h = some (r, h')) : jMet l yX1_read (ws_ yX1_read cX1_read 3 (Option.some Jvm.ClassFile.FieldType.int)) (123) (2635) [.ref a0, .int x1, .int x2] h h' (.returned (some (.int r))) := by
  refine jStart rfl (jle hf) (Nat.le_of_ble_eq_true rfl) ?_
  intro p e s m below meth c D dA H0 mc ms ls cx hnm e1 e2 hS hl
  have hth := jTh.mk hS hth
  exact wX1_read_0 cx e1 e2 a0 hth _ _ _ _ _ _ _ _ hf hS hl
def fX1_keep_21 (a0 : Nat) : jM Unit := jB (jgR [0] 5 (some a0)) fun y1 => jB (jgR [0] 1 (some a0)) fun y2 => jB (jrc 2 y2) fun b4 => jB (fX3_copied b4) fun y3 => jB (jrc 4 y1) fun b6 => jB (fJ2_add b6 y3) fun y5 => jR ()
def fX1_keep (a0 : Nat) : jM Unit := jB (jgR [0] 5 (some a0)) fun y1 => jB (jrc 4 y1) fun b3 => jB (fJ2_size b3) fun y2 => if y2 = 16 then (jB (jgR [0] 5 (some a0)) fun y4 => jB (jrc 4 y4) fun b6 => jB (fJ2_remove b6 0) fun y5 => fX1_keep_21 a0) else (fX1_keep_21 a0)
theorem wX1_keep_21 {r : Unit} (cx : jCx p s m args meth c cX1_keep "WornSkin" 1 (Option.none : Option Jvm.ClassFile.FieldType) D dA H0 hs.2.2.2.2) (e1 : h'.2.2.1 = hs.2.2.1 + mc) (e2 : h'.2.2.2.1 = hs.2.2.2.1 + ms) (a0 : Nat) (hth : jTh hs a0 0) : ∀ (h : jH) (H : Heap) (locs : List Loc) (cells slots : Nat) (ls : Array Slot), (fX1_keep_21 a0).1 h = some (r, h') → jS D dA H0 hs h H locs cells slots → lv_has ls 1 [(0, .ref a0)] → W p l e { frames := 7, cells := mc, slots := ms, locals := 161 } s m args below meth c H locs cells slots (jQ D dA H0 below s (.returned none) h' mc ms) (F0 m 21 ls []) := by
  have hx := cx.1
  have hb := cx.2.1
  have hown := cx.2.2.2.1
  have hts := cx.2.2.2.2.1
  have hm : h'.2.2.1 ≤ hs.2.2.1 + mc ∧ h'.2.2.2.1 ≤ hs.2.2.2.1 + ms := ⟨Nat.le_of_eq e1, Nat.le_of_eq e2⟩
  intro h H locs cells slots ls hf hS hl
  unfold fX1_keep_21 at hf
  refine lv_aload_n (pc := 21) hx hb dX1_keep_21 rfl (lv_at hl 0 rfl) ?_
  refine j_gR (pc := 22) cx hS hf fd_WornSkin_behind q435 dX1_keep_22 (fun y1 hf => ?_)
  refine lv_aload_n (pc := 25) hx hb dX1_keep_25 rfl (lv_at hl 0 rfl) ?_
  refine j_gR (pc := 26) cx hS hf fd_WornSkin_shelf q430 dX1_keep_26 (fun y2 hf => ?_)
  obtain ⟨b4, eb, hrc, hf⟩ := jrc_s hf
  refine j_nn (pc := 29) eb [] [va_rf y1] rfl ?_
  obtain ⟨y3, h1, e9, hf⟩ := jB_some hf
  refine j_callV (pc := 29) (st1 := [va_rf y3, va_rf y1]) (As := []) (rest := [va_rf y1]) cx hS rfl hl.1 hm (metX3_copied l _ _ _ _ hrc e9) (jle hf) hrc rfl (lw_V q1361 q1362 q1363 q114 q1364) pdX3_copied rfl rfl (by simp only [List.map_cons, List.map_nil, List.sum_cons, List.sum_nil, jrfc]; exact Nat.le_of_ble_eq_true rfl) ⟨Nat.le_of_ble_eq_true rfl, Nat.le_of_ble_eq_true rfl⟩ dX1_keep_29 rfl (fun H locs cells slots hS => ?_)
  obtain ⟨b6, eb, hrc, hf⟩ := jrc_s hf
  refine j_nn (pc := 32) eb [va_rf y3] [] rfl ?_
  obtain ⟨y5, h1, e9, hf⟩ := jB_some hf
  refine j_callV (pc := 32) (st1 := [.int y5]) (As := [va_rf y3]) (rest := []) cx hS rfl hl.1 hm (metJ2_add l _ _ _ _ _ hrc e9) (jle hf) hrc rfl (lw_V q1372 q727 q728 q118 q729) pdJ2_add rfl rfl (Nat.le_of_ble_eq_true rfl) ⟨Nat.le_of_ble_eq_true rfl, Nat.le_of_ble_eq_true rfl⟩ dX1_keep_32 rfl (fun H locs cells slots hS => ?_)
  refine lv_pop (pc := 35) hx hb dX1_keep_35 rfl ?_
  exact j_vret (pc := 36) cx hS hf e1 e2 dX1_keep_36
theorem wX1_keep_0 {r : Unit} (cx : jCx p s m args meth c cX1_keep "WornSkin" 1 (Option.none : Option Jvm.ClassFile.FieldType) D dA H0 hs.2.2.2.2) (e1 : h'.2.2.1 = hs.2.2.1 + mc) (e2 : h'.2.2.2.1 = hs.2.2.2.1 + ms) (a0 : Nat) (hth : jTh hs a0 0) : ∀ (h : jH) (H : Heap) (locs : List Loc) (cells slots : Nat) (ls : Array Slot), (fX1_keep a0).1 h = some (r, h') → jS D dA H0 hs h H locs cells slots → lv_has ls 1 [(0, .ref a0)] → W p l e { frames := 7, cells := mc, slots := ms, locals := 161 } s m args below meth c H locs cells slots (jQ D dA H0 below s (.returned none) h' mc ms) (F0 m 0 ls []) := by
  have hx := cx.1
  have hb := cx.2.1
  have hown := cx.2.2.2.1
  have hts := cx.2.2.2.2.1
  have hm : h'.2.2.1 ≤ hs.2.2.1 + mc ∧ h'.2.2.2.1 ≤ hs.2.2.2.1 + ms := ⟨Nat.le_of_eq e1, Nat.le_of_eq e2⟩
  intro h H locs cells slots ls hf hS hl
  unfold fX1_keep at hf
  refine lv_aload_n (pc := 0) hx hb dX1_keep_0 rfl (lv_at hl 0 rfl) ?_
  refine j_gR (pc := 1) cx hS hf fd_WornSkin_behind q435 dX1_keep_1 (fun y1 hf => ?_)
  obtain ⟨b3, eb, hrc, hf⟩ := jrc_s hf
  refine j_nn (pc := 4) eb [] [] rfl ?_
  obtain ⟨y2, h1, e9, hf⟩ := jB_some hf
  refine j_callV (pc := 4) (st1 := [.int y2]) (As := []) (rest := []) cx hS rfl hl.1 hm (metJ2_size l _ _ _ _ hrc e9) (jle hf) hrc rfl (lw_V q1157 q376 q377 q118 q378) pdJ2_size rfl rfl (Nat.le_of_ble_eq_true rfl) ⟨Nat.le_of_ble_eq_true rfl, Nat.le_of_ble_eq_true rfl⟩ dX1_keep_4 rfl (fun H locs cells slots hS => ?_)
  refine lv_bipush (pc := 7) (v := 16) hx hb dX1_keep_7 rfl ?_
  refine lv_icmp_ne (pc := 9) (tgt := 21) hx hb dX1_keep_9 (by decide) (fun hc => ?_) (fun hc => ?_)
  · have hf := jI_f hf hc
    exact wX1_keep_21 cx e1 e2 a0 hth _ _ _ _ _ _ hf hS hl
  · have hf := jI_t hf hc
    refine lv_aload_n (pc := 12) hx hb dX1_keep_12 rfl (lv_at hl 0 rfl) ?_
    refine j_gR (pc := 13) cx hS hf fd_WornSkin_behind q435 dX1_keep_13 (fun y4 hf => ?_)
    refine lv_iconst (pc := 16) (v := 0) hx hb dX1_keep_16 rfl ?_
    obtain ⟨b6, eb, hrc, hf⟩ := jrc_s hf
    refine j_nn (pc := 17) eb [.int 0] [] rfl ?_
    obtain ⟨y5, h1, e9, hf⟩ := jB_some hf
    refine j_callV (pc := 17) (st1 := [va_rf y5]) (As := [.int 0]) (rest := []) cx hS rfl hl.1 hm (metJ2_remove l _ _ _ _ _ hrc e9) (jle hf) hrc rfl (lw_V q1352 q1353 q1354 q118 q1355) pdJ2_remove rfl rfl (Nat.le_of_ble_eq_true rfl) ⟨Nat.le_of_ble_eq_true rfl, Nat.le_of_ble_eq_true rfl⟩ dX1_keep_17 rfl (fun H locs cells slots hS => ?_)
    refine lv_pop (pc := 20) hx hb dX1_keep_20 (jrfc _) ?_
    exact wX1_keep_21 cx e1 e2 a0 hth _ _ _ _ _ _ hf hS hl
theorem metX1_keep (l : Launch) (a0 : Nat) (h h' : jH) (r : Unit) (hth : jcd h a0 = some 0) (hf : (fX1_keep a0).1 h = some (r, h')) : jMet l yX1_keep (ws_ yX1_keep cX1_keep 1 (Option.none : Option Jvm.ClassFile.FieldType)) (7) (161) [.ref a0] h h' (.returned none) := by
  refine jStart rfl (jle hf) (Nat.le_of_ble_eq_true rfl) ?_
  intro p e s m below meth c D dA H0 mc ms ls cx hnm e1 e2 hS hl
  have hth := jTh.mk hS hth
  exact wX1_keep_0 cx e1 e2 a0 hth  _ _ _ _ _ _ hf hS hl
def fX1_write_30 (N : Nat) (a0 : Nat) : jM Int32 := jRn .boolean 0
def fX1_write (N : Nat) (a0 : Nat) (x1 : Int32) (x2 : Int32) (x3 : Int32) : jM Int32 := jB (fX1_isText a0 x1) fun y1 => if y1 = 0 then (fX1_write_30 N a0) else (jB (fX1_isLine a0 x2 x3) fun y2 => if y2 = 0 then (fX1_write_30 N a0) else (jB (jgR [0] 1 (some a0)) fun y3 => jB (jrc 2 y3) fun b5 => jB (fX3_mayWrite N b5 x1 x2 x3) fun y4 => if y4 = 0 then (fX1_write_30 N a0) else (jB (fX1_keep a0) fun _ => jB (jgR [0] 1 (some a0)) fun y7 => jB (jrc 2 y7) fun b9 => jB (fX3_writes N b9 x1 x2 x3) fun _ => jRn .boolean 1)))
theorem wX1_write_30 {N : Nat} {r : Int32} (cx : jCx p s m args meth c cX1_write "WornSkin" 4 (Option.some Jvm.ClassFile.FieldType.boolean) D dA H0 hs.2.2.2.2) (e1 : h'.2.2.1 = hs.2.2.1 + mc) (e2 : h'.2.2.2.1 = hs.2.2.2.1 + ms) (a0 : Nat) (hth : jTh hs a0 0) : ∀ (h : jH) (H : Heap) (locs : List Loc) (cells slots : Nat) (ls : Array Slot), (fX1_write_30 N a0).1 h = some (r, h') → jS D dA H0 hs h H locs cells slots → lv_has ls 4 [(0, .ref a0)] → W p l e { frames := 8, cells := mc, slots := ms, locals := 181 } s m args below meth c H locs cells slots (jQ D dA H0 below s (.returned (some (.int r))) h' mc ms) (F0 m 30 ls []) := by
  have hx := cx.1
  have hb := cx.2.1
  have hown := cx.2.2.2.1
  have hts := cx.2.2.2.2.1
  have hm : h'.2.2.1 ≤ hs.2.2.1 + mc ∧ h'.2.2.2.1 ≤ hs.2.2.2.1 + ms := ⟨Nat.le_of_eq e1, Nat.le_of_eq e2⟩
  intro h H locs cells slots ls hf hS hl
  unfold fX1_write_30 at hf
  refine lv_iconst (pc := 30) (v := 0) hx hb dX1_write_30 rfl ?_
  exact j_zret (pc := 31) cx (Or.inl rfl) hS hf e1 e2 dX1_write_31
theorem wX1_write_0 {N : Nat} {r : Int32} (cx : jCx p s m args meth c cX1_write "WornSkin" 4 (Option.some Jvm.ClassFile.FieldType.boolean) D dA H0 hs.2.2.2.2) (e1 : h'.2.2.1 = hs.2.2.1 + mc) (e2 : h'.2.2.2.1 = hs.2.2.2.1 + ms) (a0 : Nat) (hth : jTh hs a0 0) : ∀ (x1 : Int32) (x2 : Int32) (x3 : Int32), ∀ (h : jH) (H : Heap) (locs : List Loc) (cells slots : Nat) (ls : Array Slot), (fX1_write N a0 x1 x2 x3).1 h = some (r, h') → jS D dA H0 hs h H locs cells slots → lv_has ls 4 [(0, .ref a0), (1, .int x1), (2, .int x2), (3, .int x3)] → W p l e { frames := 8, cells := mc, slots := ms, locals := 181 } s m args below meth c H locs cells slots (jQ D dA H0 below s (.returned (some (.int r))) h' mc ms) (F0 m 0 ls []) := by
  have hx := cx.1
  have hb := cx.2.1
  have hown := cx.2.2.2.1
  have hts := cx.2.2.2.2.1
  have hm : h'.2.2.1 ≤ hs.2.2.1 + mc ∧ h'.2.2.2.1 ≤ hs.2.2.2.1 + ms := ⟨Nat.le_of_eq e1, Nat.le_of_eq e2⟩
  intro x1 x2 x3 h H locs cells slots ls hf hS hl
  unfold fX1_write at hf
  refine lv_aload_n (pc := 0) hx hb dX1_write_0 rfl (lv_at hl 0 rfl) ?_
  refine lv_iload_n (pc := 1) hx hb dX1_write_1 rfl (lv_at hl 1 rfl) ?_
  obtain ⟨y1, h1, e9, hf⟩ := jB_some hf
  refine j_callV (pc := 2) (st1 := [.int y1]) (As := [.int x1]) (rest := []) cx hS rfl hl.1 hm (metX1_isText l _ _ _ _ _ (hth.at hS) e9) (jle hf) (hth.at hS) rfl (lw_V q1282 q1284 qs36 q112 q1285) pdX1_isText rfl rfl (Nat.le_of_ble_eq_true rfl) ⟨Nat.le_of_ble_eq_true rfl, Nat.le_of_ble_eq_true rfl⟩ dX1_write_2 rfl (fun H locs cells slots hS => ?_)
  refine lv_if_eq (pc := 5) (tgt := 30) hx hb dX1_write_5 (by decide) (fun hc => ?_) (fun hc => ?_)
  · have hf := jI_t hf hc
    exact wX1_write_30 cx e1 e2 a0 hth _ _ _ _ _ _ hf hS (lv_sub hl [0] rfl)
  · have hf := jI_f hf hc
    refine lv_aload_n (pc := 8) hx hb dX1_write_8 rfl (lv_at hl 0 rfl) ?_
    refine lv_iload_n (pc := 9) hx hb dX1_write_9 rfl (lv_at hl 2 rfl) ?_
    refine lv_iload_n (pc := 10) hx hb dX1_write_10 rfl (lv_at hl 3 rfl) ?_
    obtain ⟨y2, h1, e9, hf⟩ := jB_some hf
    refine j_callV (pc := 11) (st1 := [.int y2]) (As := [.int x2, .int x3]) (rest := []) cx hS rfl hl.1 hm (metX1_isLine l _ _ _ _ _ _ (hth.at hS) e9) (jle hf) (hth.at hS) rfl (lw_V q1318 q1320 qs39 q112 q1321) pdX1_isLine rfl rfl (Nat.le_of_ble_eq_true rfl) ⟨Nat.le_of_ble_eq_true rfl, Nat.le_of_ble_eq_true rfl⟩ dX1_write_11 rfl (fun H locs cells slots hS => ?_)
    refine lv_if_eq (pc := 14) (tgt := 30) hx hb dX1_write_14 (by decide) (fun hc => ?_) (fun hc => ?_)
    · have hf := jI_t hf hc
      exact wX1_write_30 cx e1 e2 a0 hth _ _ _ _ _ _ hf hS (lv_sub hl [0] rfl)
    · have hf := jI_f hf hc
      refine lv_aload_n (pc := 17) hx hb dX1_write_17 rfl (lv_at hl 0 rfl) ?_
      refine j_gR (pc := 18) cx hS hf fd_WornSkin_shelf q430 dX1_write_18 (fun y3 hf => ?_)
      refine lv_iload_n (pc := 21) hx hb dX1_write_21 rfl (lv_at hl 1 rfl) ?_
      refine lv_iload_n (pc := 22) hx hb dX1_write_22 rfl (lv_at hl 2 rfl) ?_
      refine lv_iload_n (pc := 23) hx hb dX1_write_23 rfl (lv_at hl 3 rfl) ?_
      obtain ⟨b5, eb, hrc, hf⟩ := jrc_s hf
      refine j_nn (pc := 24) eb [.int x3, .int x2, .int x1] [] rfl ?_
      obtain ⟨y4, h1, e9, hf⟩ := jB_some hf
      refine j_callV (pc := 24) (st1 := [.int y4]) (As := [.int x1, .int x2, .int x3]) (rest := []) cx hS rfl hl.1 hm (metX3_mayWrite l _ _ _ _ _ _ _ _ hrc e9) (jle hf) hrc rfl (lw_V q1336 q1337 q1338 q114 q1339) pdX3_mayWrite rfl rfl (Nat.le_of_ble_eq_true rfl) ⟨Nat.le_of_ble_eq_true rfl, Nat.le_of_ble_eq_true rfl⟩ dX1_write_24 rfl (fun H locs cells slots hS => ?_)
      refine lv_if_ne (pc := 27) (tgt := 32) hx hb dX1_write_27 (by decide) (fun hc => ?_) (fun hc => ?_)
      · have hf := jI_f hf hc
        refine lv_aload_n (pc := 32) hx hb dX1_write_32 rfl (lv_at hl 0 rfl) ?_
        obtain ⟨_, h1, e9, hf⟩ := jB_some hf
        refine j_callV (pc := 33) (st1 := []) (As := []) (rest := []) cx hS rfl hl.1 hm (metX1_keep l _ _ _ _ (hth.at hS) e9) (jle hf) (hth.at hS) rfl (lw_V q1348 q1350 qs40 q112 q1351) pdX1_keep rfl rfl (Nat.le_of_ble_eq_true rfl) ⟨Nat.le_of_ble_eq_true rfl, Nat.le_of_ble_eq_true rfl⟩ dX1_write_33 rfl (fun H locs cells slots hS => ?_)
        refine lv_aload_n (pc := 36) hx hb dX1_write_36 rfl (lv_at hl 0 rfl) ?_
        refine j_gR (pc := 37) cx hS hf fd_WornSkin_shelf q430 dX1_write_37 (fun y7 hf => ?_)
        refine lv_iload_n (pc := 40) hx hb dX1_write_40 rfl (lv_at hl 1 rfl) ?_
        refine lv_iload_n (pc := 41) hx hb dX1_write_41 rfl (lv_at hl 2 rfl) ?_
        refine lv_iload_n (pc := 42) hx hb dX1_write_42 rfl (lv_at hl 3 rfl) ?_
        obtain ⟨b9, eb, hrc, hf⟩ := jrc_s hf
        refine j_nn (pc := 43) eb [.int x3, .int x2, .int x1] [] rfl ?_
        obtain ⟨_, h1, e9, hf⟩ := jB_some hf
        refine j_callV (pc := 43) (st1 := []) (As := [.int x1, .int x2, .int x3]) (rest := []) cx hS rfl hl.1 hm (metX3_writes l _ _ _ _ _ _ _ _ hrc e9) (jle hf) hrc rfl (lw_V q1373 q1374 q1375 q114 q1376) pdX3_writes rfl rfl (Nat.le_of_ble_eq_true rfl) ⟨Nat.le_of_ble_eq_true rfl, Nat.le_of_ble_eq_true rfl⟩ dX1_write_43 rfl (fun H locs cells slots hS => ?_)
        refine lv_iconst (pc := 46) (v := 1) hx hb dX1_write_46 rfl ?_
        exact j_zret (pc := 47) cx (Or.inl rfl) hS hf e1 e2 dX1_write_47
      · have hf := jI_t hf hc
        exact wX1_write_30 cx e1 e2 a0 hth _ _ _ _ _ _ hf hS (lv_sub hl [0] rfl)
theorem metX1_write (l : Launch) (N : Nat) (a0 : Nat) (x1 : Int32) (x2 : Int32) (x3 : Int32) (h h' : jH) (r : Int32) (hth : jcd h a0 = some 0) (hf : (fX1_write N a0 x1 x2 x3).1 h = some (r, h')) : jMet l yX1_write (ws_ yX1_write cX1_write 4 (Option.some Jvm.ClassFile.FieldType.boolean)) (8) (181) [.ref a0, .int x1, .int x2, .int x3] h h' (.returned (some (.int r))) := by
  refine jStart rfl (jle hf) (Nat.le_of_ble_eq_true rfl) ?_
  intro p e s m below meth c D dA H0 mc ms ls cx hnm e1 e2 hS hl
  have hth := jTh.mk hS hth
  exact wX1_write_0 cx e1 e2 a0 hth _ _ _ _ _ _ _ _ _ hf hS hl
def fX1_scrapes_20 (N : Nat) (a0 : Nat) : jM Int32 := jR (-1)
def fX1_scrapes (N : Nat) (a0 : Nat) (x1 : Int32) (x2 : Int32) : jM Int32 := jB (fX1_isSkin a0 x1) fun y1 => if y1 = 0 then (fX1_scrapes_20 N a0) else (jB (jgR [0] 1 (some a0)) fun y2 => jB (jrc 2 y2) fun b4 => jB (fX3_mayScrape b4 x1 x2) fun y3 => if y3 = 0 then (fX1_scrapes_20 N a0) else (jB (fX1_keep a0) fun _ => jB (jgR [0] 1 (some a0)) fun y6 => jB (jrc 2 y6) fun b8 => jB (fX3_scrapes N b8 x1 x2) fun _ => jB (jgR [0] 1 (some a0)) fun y9 => jB (jgR [2] 3 y9) fun y10 => jB (jaI 0 y10 x1) fun y11 => jR y11))
theorem wX1_scrapes_20 {N : Nat} {r : Int32} (cx : jCx p s m args meth c cX1_scrapes "WornSkin" 3 (Option.some Jvm.ClassFile.FieldType.int) D dA H0 hs.2.2.2.2) (e1 : h'.2.2.1 = hs.2.2.1 + mc) (e2 : h'.2.2.2.1 = hs.2.2.2.1 + ms) (a0 : Nat) (hth : jTh hs a0 0) : ∀ (h : jH) (H : Heap) (locs : List Loc) (cells slots : Nat) (ls : Array Slot), (fX1_scrapes_20 N a0).1 h = some (r, h') → jS D dA H0 hs h H locs cells slots → lv_has ls 3 [(0, .ref a0)] → W p l e { frames := 8, cells := mc, slots := ms, locals := 181 } s m args below meth c H locs cells slots (jQ D dA H0 below s (.returned (some (.int r))) h' mc ms) (F0 m 20 ls []) := by
  have hx := cx.1
  have hb := cx.2.1
  have hown := cx.2.2.2.1
  have hts := cx.2.2.2.2.1
  have hm : h'.2.2.1 ≤ hs.2.2.1 + mc ∧ h'.2.2.2.1 ≤ hs.2.2.2.1 + ms := ⟨Nat.le_of_eq e1, Nat.le_of_eq e2⟩
  intro h H locs cells slots ls hf hS hl
  unfold fX1_scrapes_20 at hf
  refine lv_iconst (pc := 20) (v := (-1)) hx hb dX1_scrapes_20 rfl ?_
  exact j_iret (pc := 21) cx hS hf e1 e2 dX1_scrapes_21
theorem wX1_scrapes_0 {N : Nat} {r : Int32} (cx : jCx p s m args meth c cX1_scrapes "WornSkin" 3 (Option.some Jvm.ClassFile.FieldType.int) D dA H0 hs.2.2.2.2) (e1 : h'.2.2.1 = hs.2.2.1 + mc) (e2 : h'.2.2.2.1 = hs.2.2.2.1 + ms) (a0 : Nat) (hth : jTh hs a0 0) : ∀ (x1 : Int32) (x2 : Int32), ∀ (h : jH) (H : Heap) (locs : List Loc) (cells slots : Nat) (ls : Array Slot), (fX1_scrapes N a0 x1 x2).1 h = some (r, h') → jS D dA H0 hs h H locs cells slots → lv_has ls 3 [(0, .ref a0), (1, .int x1), (2, .int x2)] → W p l e { frames := 8, cells := mc, slots := ms, locals := 181 } s m args below meth c H locs cells slots (jQ D dA H0 below s (.returned (some (.int r))) h' mc ms) (F0 m 0 ls []) := by
  have hx := cx.1
  have hb := cx.2.1
  have hown := cx.2.2.2.1
  have hts := cx.2.2.2.2.1
  have hm : h'.2.2.1 ≤ hs.2.2.1 + mc ∧ h'.2.2.2.1 ≤ hs.2.2.2.1 + ms := ⟨Nat.le_of_eq e1, Nat.le_of_eq e2⟩
  intro x1 x2 h H locs cells slots ls hf hS hl
  unfold fX1_scrapes at hf
  refine lv_aload_n (pc := 0) hx hb dX1_scrapes_0 rfl (lv_at hl 0 rfl) ?_
  refine lv_iload_n (pc := 1) hx hb dX1_scrapes_1 rfl (lv_at hl 1 rfl) ?_
  obtain ⟨y1, h1, e9, hf⟩ := jB_some hf
  refine j_callV (pc := 2) (st1 := [.int y1]) (As := [.int x1]) (rest := []) cx hS rfl hl.1 hm (metX1_isSkin l _ _ _ _ _ (hth.at hS) e9) (jle hf) (hth.at hS) rfl (lw_V q1149 q1151 qs33 q112 q1152) pdX1_isSkin rfl rfl (Nat.le_of_ble_eq_true rfl) ⟨Nat.le_of_ble_eq_true rfl, Nat.le_of_ble_eq_true rfl⟩ dX1_scrapes_2 rfl (fun H locs cells slots hS => ?_)
  refine lv_if_eq (pc := 5) (tgt := 20) hx hb dX1_scrapes_5 (by decide) (fun hc => ?_) (fun hc => ?_)
  · have hf := jI_t hf hc
    exact wX1_scrapes_20 cx e1 e2 a0 hth _ _ _ _ _ _ hf hS (lv_sub hl [0] rfl)
  · have hf := jI_f hf hc
    refine lv_aload_n (pc := 8) hx hb dX1_scrapes_8 rfl (lv_at hl 0 rfl) ?_
    refine j_gR (pc := 9) cx hS hf fd_WornSkin_shelf q430 dX1_scrapes_9 (fun y2 hf => ?_)
    refine lv_iload_n (pc := 12) hx hb dX1_scrapes_12 rfl (lv_at hl 1 rfl) ?_
    refine lv_iload_n (pc := 13) hx hb dX1_scrapes_13 rfl (lv_at hl 2 rfl) ?_
    obtain ⟨b4, eb, hrc, hf⟩ := jrc_s hf
    refine j_nn (pc := 14) eb [.int x2, .int x1] [] rfl ?_
    obtain ⟨y3, h1, e9, hf⟩ := jB_some hf
    refine j_callV (pc := 14) (st1 := [.int y3]) (As := [.int x1, .int x2]) (rest := []) cx hS rfl hl.1 hm (metX3_mayScrape l _ _ _ _ _ _ hrc e9) (jle hf) hrc rfl (lw_V q1385 q1386 q1387 q114 q1388) pdX3_mayScrape rfl rfl (Nat.le_of_ble_eq_true rfl) ⟨Nat.le_of_ble_eq_true rfl, Nat.le_of_ble_eq_true rfl⟩ dX1_scrapes_14 rfl (fun H locs cells slots hS => ?_)
    refine lv_if_ne (pc := 17) (tgt := 22) hx hb dX1_scrapes_17 (by decide) (fun hc => ?_) (fun hc => ?_)
    · have hf := jI_f hf hc
      refine lv_aload_n (pc := 22) hx hb dX1_scrapes_22 rfl (lv_at hl 0 rfl) ?_
      obtain ⟨_, h1, e9, hf⟩ := jB_some hf
      refine j_callV (pc := 23) (st1 := []) (As := []) (rest := []) cx hS rfl hl.1 hm (metX1_keep l _ _ _ _ (hth.at hS) e9) (jle hf) (hth.at hS) rfl (lw_V q1348 q1350 qs40 q112 q1351) pdX1_keep rfl rfl (Nat.le_of_ble_eq_true rfl) ⟨Nat.le_of_ble_eq_true rfl, Nat.le_of_ble_eq_true rfl⟩ dX1_scrapes_23 rfl (fun H locs cells slots hS => ?_)
      refine lv_aload_n (pc := 26) hx hb dX1_scrapes_26 rfl (lv_at hl 0 rfl) ?_
      refine j_gR (pc := 27) cx hS hf fd_WornSkin_shelf q430 dX1_scrapes_27 (fun y6 hf => ?_)
      refine lv_iload_n (pc := 30) hx hb dX1_scrapes_30 rfl (lv_at hl 1 rfl) ?_
      refine lv_iload_n (pc := 31) hx hb dX1_scrapes_31 rfl (lv_at hl 2 rfl) ?_
      obtain ⟨b8, eb, hrc, hf⟩ := jrc_s hf
      refine j_nn (pc := 32) eb [.int x2, .int x1] [] rfl ?_
      obtain ⟨_, h1, e9, hf⟩ := jB_some hf
      refine j_callV (pc := 32) (st1 := []) (As := [.int x1, .int x2]) (rest := []) cx hS rfl hl.1 hm (metX3_scrapes l _ _ _ _ _ _ _ hrc e9) (jle hf) hrc rfl (lw_V q1394 q1395 q1396 q114 q1397) pdX3_scrapes rfl rfl (Nat.le_of_ble_eq_true rfl) ⟨Nat.le_of_ble_eq_true rfl, Nat.le_of_ble_eq_true rfl⟩ dX1_scrapes_32 rfl (fun H locs cells slots hS => ?_)
      refine lv_aload_n (pc := 35) hx hb dX1_scrapes_35 rfl (lv_at hl 0 rfl) ?_
      refine j_gR (pc := 36) cx hS hf fd_WornSkin_shelf q430 dX1_scrapes_36 (fun y9 hf => ?_)
      refine j_gR (pc := 39) cx hS hf fd_WornSkin_Shelf_thick q263 dX1_scrapes_39 (fun y10 hf => ?_)
      refine lv_iload_n (pc := 42) hx hb dX1_scrapes_42 rfl (lv_at hl 1 rfl) ?_
      refine j_aI (pc := 43) cx hS hf rfl dX1_scrapes_43 (fun y11 hf => ?_)
      exact j_iret (pc := 44) cx hS hf e1 e2 dX1_scrapes_44
    · have hf := jI_t hf hc
      exact wX1_scrapes_20 cx e1 e2 a0 hth _ _ _ _ _ _ hf hS (lv_sub hl [0] rfl)
theorem metX1_scrapes (l : Launch) (N : Nat) (a0 : Nat) (x1 : Int32) (x2 : Int32) (h h' : jH) (r : Int32) (hth : jcd h a0 = some 0) (hf : (fX1_scrapes N a0 x1 x2).1 h = some (r, h')) : jMet l yX1_scrapes (ws_ yX1_scrapes cX1_scrapes 3 (Option.some Jvm.ClassFile.FieldType.int)) (8) (181) [.ref a0, .int x1, .int x2] h h' (.returned (some (.int r))) := by
  refine jStart rfl (jle hf) (Nat.le_of_ble_eq_true rfl) ?_
  intro p e s m below meth c D dA H0 mc ms ls cx hnm e1 e2 hS hl
  have hth := jTh.mk hS hth
  exact wX1_scrapes_0 cx e1 e2 a0 hth _ _ _ _ _ _ _ _ hf hS hl
def fX1_scrape (N : Nat) (a0 : Nat) (x1 : Int32) : jM Int32 := jB (fX1_scrapes N a0 x1 0) fun y1 => jR y1
theorem wX1_scrape_0 {N : Nat} {r : Int32} (cx : jCx p s m args meth c cX1_scrape "WornSkin" 2 (Option.some Jvm.ClassFile.FieldType.int) D dA H0 hs.2.2.2.2) (e1 : h'.2.2.1 = hs.2.2.1 + mc) (e2 : h'.2.2.2.1 = hs.2.2.2.1 + ms) (a0 : Nat) (hth : jTh hs a0 0) : ∀ (x1 : Int32), ∀ (h : jH) (H : Heap) (locs : List Loc) (cells slots : Nat) (ls : Array Slot), (fX1_scrape N a0 x1).1 h = some (r, h') → jS D dA H0 hs h H locs cells slots → lv_has ls 2 [(0, .ref a0), (1, .int x1)] → W p l e { frames := 9, cells := mc, slots := ms, locals := 203 } s m args below meth c H locs cells slots (jQ D dA H0 below s (.returned (some (.int r))) h' mc ms) (F0 m 0 ls []) := by
  have hx := cx.1
  have hb := cx.2.1
  have hown := cx.2.2.2.1
  have hts := cx.2.2.2.2.1
  have hm : h'.2.2.1 ≤ hs.2.2.1 + mc ∧ h'.2.2.2.1 ≤ hs.2.2.2.1 + ms := ⟨Nat.le_of_eq e1, Nat.le_of_eq e2⟩
  intro x1 h H locs cells slots ls hf hS hl
  unfold fX1_scrape at hf
  refine lv_aload_n (pc := 0) hx hb dX1_scrape_0 rfl (lv_at hl 0 rfl) ?_
  refine lv_iload_n (pc := 1) hx hb dX1_scrape_1 rfl (lv_at hl 1 rfl) ?_
  refine lv_iconst (pc := 2) (v := 0) hx hb dX1_scrape_2 rfl ?_
  obtain ⟨y1, h1, e9, hf⟩ := jB_some hf
  refine j_callV (pc := 3) (st1 := [.int y1]) (As := [.int x1, .int 0]) (rest := []) cx hS rfl hl.1 hm (metX1_scrapes l _ _ _ _ _ _ _ (hth.at hS) e9) (jle hf) (hth.at hS) rfl (lw_V q1381 q1383 qs42 q112 q1384) pdX1_scrapes rfl rfl (Nat.le_of_ble_eq_true rfl) ⟨Nat.le_of_ble_eq_true rfl, Nat.le_of_ble_eq_true rfl⟩ dX1_scrape_3 rfl (fun H locs cells slots hS => ?_)
  exact j_iret (pc := 6) cx hS hf e1 e2 dX1_scrape_6
theorem metX1_scrape (l : Launch) (N : Nat) (a0 : Nat) (x1 : Int32) (h h' : jH) (r : Int32) (hth : jcd h a0 = some 0) (hf : (fX1_scrape N a0 x1).1 h = some (r, h')) : jMet l yX1_scrape (ws_ yX1_scrape cX1_scrape 2 (Option.some Jvm.ClassFile.FieldType.int)) (9) (203) [.ref a0, .int x1] h h' (.returned (some (.int r))) := by
  refine jStart rfl (jle hf) (Nat.le_of_ble_eq_true rfl) ?_
  intro p e s m below meth c D dA H0 mc ms ls cx hnm e1 e2 hS hl
  have hth := jTh.mk hS hth
  exact wX1_scrape_0 cx e1 e2 a0 hth _ _ _ _ _ _ _ hf hS hl
def fX1_third (N : Nat) (a0 : Nat) (x1 : Int32) : jM Int32 := jB (fX1_scrapes N a0 x1 1) fun y1 => jR y1
theorem wX1_third_0 {N : Nat} {r : Int32} (cx : jCx p s m args meth c cX1_third "WornSkin" 2 (Option.some Jvm.ClassFile.FieldType.int) D dA H0 hs.2.2.2.2) (e1 : h'.2.2.1 = hs.2.2.1 + mc) (e2 : h'.2.2.2.1 = hs.2.2.2.1 + ms) (a0 : Nat) (hth : jTh hs a0 0) : ∀ (x1 : Int32), ∀ (h : jH) (H : Heap) (locs : List Loc) (cells slots : Nat) (ls : Array Slot), (fX1_third N a0 x1).1 h = some (r, h') → jS D dA H0 hs h H locs cells slots → lv_has ls 2 [(0, .ref a0), (1, .int x1)] → W p l e { frames := 9, cells := mc, slots := ms, locals := 203 } s m args below meth c H locs cells slots (jQ D dA H0 below s (.returned (some (.int r))) h' mc ms) (F0 m 0 ls []) := by
  have hx := cx.1
  have hb := cx.2.1
  have hown := cx.2.2.2.1
  have hts := cx.2.2.2.2.1
  have hm : h'.2.2.1 ≤ hs.2.2.1 + mc ∧ h'.2.2.2.1 ≤ hs.2.2.2.1 + ms := ⟨Nat.le_of_eq e1, Nat.le_of_eq e2⟩
  intro x1 h H locs cells slots ls hf hS hl
  unfold fX1_third at hf
  refine lv_aload_n (pc := 0) hx hb dX1_third_0 rfl (lv_at hl 0 rfl) ?_
  refine lv_iload_n (pc := 1) hx hb dX1_third_1 rfl (lv_at hl 1 rfl) ?_
  refine lv_iconst (pc := 2) (v := 1) hx hb dX1_third_2 rfl ?_
  obtain ⟨y1, h1, e9, hf⟩ := jB_some hf
  refine j_callV (pc := 3) (st1 := [.int y1]) (As := [.int x1, .int 1]) (rest := []) cx hS rfl hl.1 hm (metX1_scrapes l _ _ _ _ _ _ _ (hth.at hS) e9) (jle hf) (hth.at hS) rfl (lw_V q1381 q1383 qs42 q112 q1384) pdX1_scrapes rfl rfl (Nat.le_of_ble_eq_true rfl) ⟨Nat.le_of_ble_eq_true rfl, Nat.le_of_ble_eq_true rfl⟩ dX1_third_3 rfl (fun H locs cells slots hS => ?_)
  exact j_iret (pc := 6) cx hS hf e1 e2 dX1_third_6
theorem metX1_third (l : Launch) (N : Nat) (a0 : Nat) (x1 : Int32) (h h' : jH) (r : Int32) (hth : jcd h a0 = some 0) (hf : (fX1_third N a0 x1).1 h = some (r, h')) : jMet l yX1_third (ws_ yX1_third cX1_third 2 (Option.some Jvm.ClassFile.FieldType.int)) (9) (203) [.ref a0, .int x1] h h' (.returned (some (.int r))) := by
  refine jStart rfl (jle hf) (Nat.le_of_ble_eq_true rfl) ?_
  intro p e s m below meth c D dA H0 mc ms ls cx hnm e1 e2 hS hl
  have hth := jTh.mk hS hth
  exact wX1_third_0 cx e1 e2 a0 hth _ _ _ _ _ _ _ hf hS hl
def fX1_week (a0 : Nat) : jM Int32 := jB (fX1_keep a0) fun _ => jB (jgR [0] 1 (some a0)) fun y2 => jB (jgI [2] 1 y2) fun y3 => jB (jpI [2] 1 y2 (y3 + 1)) fun _ => jB (jgR [0] 1 (some a0)) fun y4 => jB (jgI [2] 1 y4) fun y5 => jR y5
theorem wX1_week_0 {r : Int32} (cx : jCx p s m args meth c cX1_week "WornSkin" 1 (Option.some Jvm.ClassFile.FieldType.int) D dA H0 hs.2.2.2.2) (e1 : h'.2.2.1 = hs.2.2.1 + mc) (e2 : h'.2.2.2.1 = hs.2.2.2.1 + ms) (a0 : Nat) (hth : jTh hs a0 0) : ∀ (h : jH) (H : Heap) (locs : List Loc) (cells slots : Nat) (ls : Array Slot), (fX1_week a0).1 h = some (r, h') → jS D dA H0 hs h H locs cells slots → lv_has ls 1 [(0, .ref a0)] → W p l e { frames := 8, cells := mc, slots := ms, locals := 181 } s m args below meth c H locs cells slots (jQ D dA H0 below s (.returned (some (.int r))) h' mc ms) (F0 m 0 ls []) := by
  have hx := cx.1
  have hb := cx.2.1
  have hown := cx.2.2.2.1
  have hts := cx.2.2.2.2.1
  have hm : h'.2.2.1 ≤ hs.2.2.1 + mc ∧ h'.2.2.2.1 ≤ hs.2.2.2.1 + ms := ⟨Nat.le_of_eq e1, Nat.le_of_eq e2⟩
  intro h H locs cells slots ls hf hS hl
  unfold fX1_week at hf
  refine lv_aload_n (pc := 0) hx hb dX1_week_0 rfl (lv_at hl 0 rfl) ?_
  obtain ⟨_, h1, e9, hf⟩ := jB_some hf
  refine j_callV (pc := 1) (st1 := []) (As := []) (rest := []) cx hS rfl hl.1 hm (metX1_keep l _ _ _ _ (hth.at hS) e9) (jle hf) (hth.at hS) rfl (lw_V q1348 q1350 qs40 q112 q1351) pdX1_keep rfl rfl (Nat.le_of_ble_eq_true rfl) ⟨Nat.le_of_ble_eq_true rfl, Nat.le_of_ble_eq_true rfl⟩ dX1_week_1 rfl (fun H locs cells slots hS => ?_)
  refine lv_aload_n (pc := 4) hx hb dX1_week_4 rfl (lv_at hl 0 rfl) ?_
  refine j_gR (pc := 5) cx hS hf fd_WornSkin_shelf q430 dX1_week_5 (fun y2 hf => ?_)
  refine lv_dup (pc := 8) hx hb dX1_week_8 (jrfc _) ?_
  refine j_gI (pc := 9) cx hS hf fd_WornSkin_Shelf_week q259 dX1_week_9 (fun y3 hf => ?_)
  refine lv_iconst (pc := 12) (v := 1) hx hb dX1_week_12 rfl ?_
  refine lv_iadd (pc := 13) hx hb dX1_week_13 ?_
  refine j_pI (pc := 14) cx hS hf fp_WornSkin_Shelf_week (Or.inl rfl) q259 dX1_week_14 (fun h H locs hf hS => ?_)
  refine lv_aload_n (pc := 17) hx hb dX1_week_17 rfl (lv_at hl 0 rfl) ?_
  refine j_gR (pc := 18) cx hS hf fd_WornSkin_shelf q430 dX1_week_18 (fun y4 hf => ?_)
  refine j_gI (pc := 21) cx hS hf fd_WornSkin_Shelf_week q259 dX1_week_21 (fun y5 hf => ?_)
  exact j_iret (pc := 24) cx hS hf e1 e2 dX1_week_24
theorem metX1_week (l : Launch) (a0 : Nat) (h h' : jH) (r : Int32) (hth : jcd h a0 = some 0) (hf : (fX1_week a0).1 h = some (r, h')) : jMet l yX1_week (ws_ yX1_week cX1_week 1 (Option.some Jvm.ClassFile.FieldType.int)) (8) (181) [.ref a0] h h' (.returned (some (.int r))) := by
  refine jStart rfl (jle hf) (Nat.le_of_ble_eq_true rfl) ?_
  intro p e s m below meth c D dA H0 mc ms ls cx hnm e1 e2 hS hl
  have hth := jTh.mk hS hth
  exact wX1_week_0 cx e1 e2 a0 hth  _ _ _ _ _ _ hf hS hl
def fX1_undo (a0 : Nat) : jM Int32 := jB (jgR [0] 5 (some a0)) fun y1 => jB (jrc 4 y1) fun b3 => jB (fJ2_isEmpty b3) fun y2 => if y2 = 0 then (jB (jgR [0] 5 (some a0)) fun y4 => jB (jgR [0] 5 (some a0)) fun y5 => jB (jrc 4 y5) fun b7 => jB (fJ2_size b7) fun y6 => jB (jrc 4 y4) fun b9 => jB (fJ2_remove b9 (y6 - 1)) fun y8 => jB (jck [2] y8) fun _ => jB (jpR [0] 1 (some a0) y8) fun _ => jRn .boolean 1) else (jRn .boolean 0)
theorem wX1_undo_0 {r : Int32} (cx : jCx p s m args meth c cX1_undo "WornSkin" 1 (Option.some Jvm.ClassFile.FieldType.boolean) D dA H0 hs.2.2.2.2) (e1 : h'.2.2.1 = hs.2.2.1 + mc) (e2 : h'.2.2.2.1 = hs.2.2.2.1 + ms) (a0 : Nat) (hth : jTh hs a0 0) : ∀ (h : jH) (H : Heap) (locs : List Loc) (cells slots : Nat) (ls : Array Slot), (fX1_undo a0).1 h = some (r, h') → jS D dA H0 hs h H locs cells slots → lv_has ls 1 [(0, .ref a0)] → W p l e { frames := 3, cells := mc, slots := ms, locals := 76 } s m args below meth c H locs cells slots (jQ D dA H0 below s (.returned (some (.int r))) h' mc ms) (F0 m 0 ls []) := by
  have hx := cx.1
  have hb := cx.2.1
  have hown := cx.2.2.2.1
  have hts := cx.2.2.2.2.1
  have hm : h'.2.2.1 ≤ hs.2.2.1 + mc ∧ h'.2.2.2.1 ≤ hs.2.2.2.1 + ms := ⟨Nat.le_of_eq e1, Nat.le_of_eq e2⟩
  intro h H locs cells slots ls hf hS hl
  unfold fX1_undo at hf
  refine lv_aload_n (pc := 0) hx hb dX1_undo_0 rfl (lv_at hl 0 rfl) ?_
  refine j_gR (pc := 1) cx hS hf fd_WornSkin_behind q435 dX1_undo_1 (fun y1 hf => ?_)
  obtain ⟨b3, eb, hrc, hf⟩ := jrc_s hf
  refine j_nn (pc := 4) eb [] [] rfl ?_
  obtain ⟨y2, h1, e9, hf⟩ := jB_some hf
  refine j_callV (pc := 4) (st1 := [.int y2]) (As := []) (rest := []) cx hS rfl hl.1 hm (metJ2_isEmpty l _ _ _ _ hrc e9) (jle hf) hrc rfl (lw_V q1421 q1422 q1423 q118 q1424) pdJ2_isEmpty rfl rfl (Nat.le_of_ble_eq_true rfl) ⟨Nat.le_of_ble_eq_true rfl, Nat.le_of_ble_eq_true rfl⟩ dX1_undo_4 rfl (fun H locs cells slots hS => ?_)
  refine lv_if_eq (pc := 7) (tgt := 12) hx hb dX1_undo_7 (by decide) (fun hc => ?_) (fun hc => ?_)
  · have hf := jI_t hf hc
    refine lv_aload_n (pc := 12) hx hb dX1_undo_12 rfl (lv_at hl 0 rfl) ?_
    refine lv_aload_n (pc := 13) hx hb dX1_undo_13 rfl (lv_at hl 0 rfl) ?_
    refine j_gR (pc := 14) cx hS hf fd_WornSkin_behind q435 dX1_undo_14 (fun y4 hf => ?_)
    refine lv_aload_n (pc := 17) hx hb dX1_undo_17 rfl (lv_at hl 0 rfl) ?_
    refine j_gR (pc := 18) cx hS hf fd_WornSkin_behind q435 dX1_undo_18 (fun y5 hf => ?_)
    obtain ⟨b7, eb, hrc, hf⟩ := jrc_s hf
    refine j_nn (pc := 21) eb [] [va_rf y4, .ref a0] rfl ?_
    obtain ⟨y6, h1, e9, hf⟩ := jB_some hf
    refine j_callV (pc := 21) (st1 := [.int y6, va_rf y4, .ref a0]) (As := []) (rest := [va_rf y4, .ref a0]) cx hS rfl hl.1 hm (metJ2_size l _ _ _ _ hrc e9) (jle hf) hrc rfl (lw_V q1157 q376 q377 q118 q378) pdJ2_size rfl rfl (by simp only [List.map_cons, List.map_nil, List.sum_cons, List.sum_nil, jrfc]; exact Nat.le_of_ble_eq_true rfl) ⟨Nat.le_of_ble_eq_true rfl, Nat.le_of_ble_eq_true rfl⟩ dX1_undo_21 rfl (fun H locs cells slots hS => ?_)
    refine lv_iconst (pc := 24) (v := 1) hx hb dX1_undo_24 rfl ?_
    refine lv_isub (pc := 25) hx hb dX1_undo_25 ?_
    obtain ⟨b9, eb, hrc, hf⟩ := jrc_s hf
    refine j_nn (pc := 26) eb [.int (y6 - 1)] [.ref a0] rfl ?_
    obtain ⟨y8, h1, e9, hf⟩ := jB_some hf
    refine j_callV (pc := 26) (st1 := [va_rf y8, .ref a0]) (As := [.int (y6 - 1)]) (rest := [.ref a0]) cx hS rfl hl.1 hm (metJ2_remove l _ _ _ _ _ hrc e9) (jle hf) hrc rfl (lw_V q1352 q1353 q1354 q118 q1355) pdJ2_remove rfl rfl (Nat.le_of_ble_eq_true rfl) ⟨Nat.le_of_ble_eq_true rfl, Nat.le_of_ble_eq_true rfl⟩ dX1_undo_26 rfl (fun H locs cells slots hS => ?_)
    refine j_cast (pc := 29) cx hS hf ok_WornSkin_Shelf q249 dX1_undo_29 (fun hf => ?_)
    refine j_pR (pc := 32) cx hS hf fp_WornSkin_shelf (Or.inl rfl) q430 dX1_undo_32 (fun h H locs hf hS => ?_)
    refine lv_iconst (pc := 35) (v := 1) hx hb dX1_undo_35 rfl ?_
    exact j_zret (pc := 36) cx (Or.inl rfl) hS hf e1 e2 dX1_undo_36
  · have hf := jI_f hf hc
    refine lv_iconst (pc := 10) (v := 0) hx hb dX1_undo_10 rfl ?_
    exact j_zret (pc := 11) cx (Or.inl rfl) hS hf e1 e2 dX1_undo_11
theorem metX1_undo (l : Launch) (a0 : Nat) (h h' : jH) (r : Int32) (hth : jcd h a0 = some 0) (hf : (fX1_undo a0).1 h = some (r, h')) : jMet l yX1_undo (ws_ yX1_undo cX1_undo 1 (Option.some Jvm.ClassFile.FieldType.boolean)) (3) (76) [.ref a0] h h' (.returned (some (.int r))) := by
  refine jStart rfl (jle hf) (Nat.le_of_ble_eq_true rfl) ?_
  intro p e s m below meth c D dA H0 mc ms ls cx hnm e1 e2 hS hl
  have hth := jTh.mk hS hth
  exact wX1_undo_0 cx e1 e2 a0 hth  _ _ _ _ _ _ hf hS hl
def d_Line_isDone (N : Nat) (b : Nat) (x1 : Option Nat) : jM Int32 := jB (jcls (some b)) fun k => if k = 28 then fX28_isDone b x1 else if k = 29 then fX29_isDone N b x1 else if k = 30 then fX30_isDone N b x1 else jE
theorem md_Line_isDone (l : Launch) (N : Nat) (b : Nat) (x1 : Option Nat) (h h' : jH) (r : Int32) (hf : (d_Line_isDone N b x1).1 h = some (r, h')) : jVm l { cls := "WornSkin$Line", name := "isDone", desc := "(LWornSkin$Shelf;)Z" } (6) (132) 2 b [va_rf x1] h h' (.returned (some (.int r))) := by
  unfold d_Line_isDone at hf
  obtain ⟨k, hk, hf⟩ := jBO_some hf
  by_cases hc28 : k = 28
  · have hf := jI_t hf hc28
    subst hc28
    exact ⟨_, _, _, _, _, metX28_isDone l _ _ _ _ _ hf, hk, ⟨q1439, q1440, q159, q1441⟩, Nat.le_of_ble_eq_true rfl⟩
  have hf := jI_f hf hc28
  by_cases hc29 : k = 29
  · have hf := jI_t hf hc29
    subst hc29
    exact ⟨_, _, _, _, _, metX29_isDone l _ _ _ _ _ _ hf, hk, ⟨q1434, q1435, q160, q1436⟩, Nat.le_of_ble_eq_true rfl⟩
  have hf := jI_f hf hc29
  by_cases hc30 : k = 30
  · have hf := jI_t hf hc30
    subst hc30
    exact ⟨_, _, _, _, _, metX30_isDone l _ _ _ _ _ _ hf, hk, ⟨q1442, q1443, q161, q1444⟩, Nat.le_of_ble_eq_true rfl⟩
  have hf := jI_f hf hc30
  exact jE_f hf
def fX1_judged_131 (N : Nat) (a0 : Nat) (v0 : Int32) : jM Int32 := jR v0
def fX1_judged_97 (N : Nat) (a0 : Nat) (x1 : Int32) (x2 : Int32) (x3 : Int32) : jM Int32 := if x1 = 0 then (fX1_judged_131 N a0 x2) else (if x1 = 1 then (fX1_judged_131 N a0 x3) else (jB (jgR [0] 2 (some a0)) fun y1 => jB (jgR [0] 2 (some a0)) fun y2 => jB (jrc 2 y2) fun b4 => jB (fX3_damp b4) fun y3 => jB (jrc 2 y1) fun b6 => jB (fX3_whole N b6 y3) fun y5 => jB (fX1_bits N y5) fun y7 => fX1_judged_131 N a0 y7))
def fX1_judged_91 (N : Nat) (k31 : Int32 → Int32 → Int32 → Int32 → jM Int32) (a0 : Nat) (x1 : Int32) (x2 : Int32) (x3 : Int32) (x4 : Int32) : jM Int32 := k31 x1 x2 x3 (x4 + 1)
def fX1_judged_73 (N : Nat) (k31 : Int32 → Int32 → Int32 → Int32 → jM Int32) (a0 : Nat) (x1 : Int32) (x2 : Int32) (x3 : Int32) (x4 : Int32) : jM Int32 := if x3 = (-1) then (jB (jgR [0] 2 (some a0)) fun y1 => jB (jrc 2 y1) fun b3 => jB (fX3_gone N b3) fun y2 => if y2 = 0 then (fX1_judged_91 N k31 a0 x1 x2 x3 x4) else (fX1_judged_91 N k31 a0 x1 x2 x4 x4)) else (fX1_judged_91 N k31 a0 x1 x2 x3 x4)
def fX1_judged_31 (N : Nat) (a0 : Nat) : Nat → Int32 → Int32 → Int32 → Int32 → jM Int32
  | 0, _, _, _, _ => jE
  | n + 1, x1, x2, x3, x4 => jB (jgR [0] 3 (some a0)) fun y1 => jB (jrc 4 y1) fun b3 => jB (fJ2_size b3) fun y2 => if y2 ≤ x4 then (fX1_judged_97 N a0 x1 x2 x3) else (jB (jgR [0] 3 (some a0)) fun y4 => jB (jrc 4 y4) fun b6 => jB (fJ2_get b6 x4) fun y5 => jB (jck [28, 29, 30] y5) fun _ => jB (jgR [0] 2 (some a0)) fun y7 => jB (jnn0 y5) fun b9 => jB (d_Line_isDone N b9 y7) fun y8 => if y8 = 0 then (if x2 = (-1) then (fX1_judged_73 N (fX1_judged_31 N a0 n) a0 x1 x4 x3 x4) else (fX1_judged_73 N (fX1_judged_31 N a0 n) a0 x1 x2 x3 x4)) else (fX1_judged_73 N (fX1_judged_31 N a0 n) a0 x1 x2 x3 x4))
def fX1_judged (N : Nat) (a0 : Nat) (x1 : Int32) : jM Int32 := jB (fX1_within x1 0 2) fun y1 => if y1 = 0 then (jR (-2)) else (jB (jgR [0] 2 (some a0)) fun y2 => jB (fX1_now a0) fun y3 => jB (jrc 2 y2) fun b5 => jB (fX3_begins N b5 y3) fun y4 => fX1_judged_31 N a0 N x1 (-1) (-1) 0)
theorem wX1_judged_131 {N : Nat} {r : Int32} (cx : jCx p s m args meth c cX1_judged "WornSkin" 5 (Option.some Jvm.ClassFile.FieldType.int) D dA H0 hs.2.2.2.2) (e1 : h'.2.2.1 = hs.2.2.1 + mc) (e2 : h'.2.2.2.1 = hs.2.2.2.1 + ms) (a0 : Nat) (hth : jTh hs a0 0) : ∀ (v0 : Int32), ∀ (h : jH) (H : Heap) (locs : List Loc) (cells slots : Nat) (ls : Array Slot), (fX1_judged_131 N a0 v0).1 h = some (r, h') → jS D dA H0 hs h H locs cells slots → lv_has ls 5 [(0, .ref a0)] → W p l e { frames := 125, cells := mc, slots := ms, locals := 2683 } s m args below meth c H locs cells slots (jQ D dA H0 below s (.returned (some (.int r))) h' mc ms) (F0 m 131 ls [.int v0]) := by
  have hx := cx.1
  have hb := cx.2.1
  have hown := cx.2.2.2.1
  have hts := cx.2.2.2.2.1
  have hm : h'.2.2.1 ≤ hs.2.2.1 + mc ∧ h'.2.2.2.1 ≤ hs.2.2.2.1 + ms := ⟨Nat.le_of_eq e1, Nat.le_of_eq e2⟩
  intro v0 h H locs cells slots ls hf hS hl
  unfold fX1_judged_131 at hf
  exact j_iret (pc := 131) cx hS hf e1 e2 dX1_judged_131
theorem wX1_judged_97 {N : Nat} {r : Int32} (cx : jCx p s m args meth c cX1_judged "WornSkin" 5 (Option.some Jvm.ClassFile.FieldType.int) D dA H0 hs.2.2.2.2) (e1 : h'.2.2.1 = hs.2.2.1 + mc) (e2 : h'.2.2.2.1 = hs.2.2.2.1 + ms) (a0 : Nat) (hth : jTh hs a0 0) : ∀ (x1 : Int32) (x2 : Int32) (x3 : Int32), ∀ (h : jH) (H : Heap) (locs : List Loc) (cells slots : Nat) (ls : Array Slot), (fX1_judged_97 N a0 x1 x2 x3).1 h = some (r, h') → jS D dA H0 hs h H locs cells slots → lv_has ls 5 [(0, .ref a0), (1, .int x1), (2, .int x2), (3, .int x3)] → W p l e { frames := 125, cells := mc, slots := ms, locals := 2683 } s m args below meth c H locs cells slots (jQ D dA H0 below s (.returned (some (.int r))) h' mc ms) (F0 m 97 ls []) := by
  have hx := cx.1
  have hb := cx.2.1
  have hown := cx.2.2.2.1
  have hts := cx.2.2.2.2.1
  have hm : h'.2.2.1 ≤ hs.2.2.1 + mc ∧ h'.2.2.2.1 ≤ hs.2.2.2.1 + ms := ⟨Nat.le_of_eq e1, Nat.le_of_eq e2⟩
  intro x1 x2 x3 h H locs cells slots ls hf hS hl
  unfold fX1_judged_97 at hf
  refine lv_iload_n (pc := 97) hx hb dX1_judged_97 rfl (lv_at hl 1 rfl) ?_
  refine lv_if_ne (pc := 98) (tgt := 105) hx hb dX1_judged_98 (by decide) (fun hc => ?_) (fun hc => ?_)
  · have hf := jI_f hf hc
    refine lv_iload_n (pc := 105) hx hb dX1_judged_105 rfl (lv_at hl 1 rfl) ?_
    refine lv_iconst (pc := 106) (v := 1) hx hb dX1_judged_106 rfl ?_
    refine lv_icmp_ne (pc := 107) (tgt := 114) hx hb dX1_judged_107 (by decide) (fun hc => ?_) (fun hc => ?_)
    · have hf := jI_f hf hc
      refine lv_aload_n (pc := 114) hx hb dX1_judged_114 rfl (lv_at hl 0 rfl) ?_
      refine j_gR (pc := 115) cx hS hf fd_WornSkin_trial q432 dX1_judged_115 (fun y1 hf => ?_)
      refine lv_aload_n (pc := 118) hx hb dX1_judged_118 rfl (lv_at hl 0 rfl) ?_
      refine j_gR (pc := 119) cx hS hf fd_WornSkin_trial q432 dX1_judged_119 (fun y2 hf => ?_)
      obtain ⟨b4, eb, hrc, hf⟩ := jrc_s hf
      refine j_nn (pc := 122) eb [] [va_rf y1] rfl ?_
      obtain ⟨y3, h1, e9, hf⟩ := jB_some hf
      refine j_callV (pc := 122) (st1 := [.int y3, va_rf y1]) (As := []) (rest := [va_rf y1]) cx hS rfl hl.1 hm (metX3_damp l _ _ _ _ hrc e9) (jle hf) hrc rfl (lw_V q1168 q1169 q1170 q114 q1171) pdX3_damp rfl rfl (by simp only [List.map_cons, List.map_nil, List.sum_cons, List.sum_nil, jrfc]; exact Nat.le_of_ble_eq_true rfl) ⟨Nat.le_of_ble_eq_true rfl, Nat.le_of_ble_eq_true rfl⟩ dX1_judged_122 rfl (fun H locs cells slots hS => ?_)
      obtain ⟨b6, eb, hrc, hf⟩ := jrc_s hf
      refine j_nn (pc := 125) eb [.int y3] [] rfl ?_
      obtain ⟨y5, h1, e9, hf⟩ := jB_some hf
      refine j_callV (pc := 125) (st1 := [.int y5]) (As := [.int y3]) (rest := []) cx hS rfl hl.1 hm (metX3_whole l _ _ _ _ _ _ hrc e9) (jle hf) hrc rfl (lw_V q1451 q1452 q1453 q114 q1454) pdX3_whole rfl rfl (Nat.le_of_ble_eq_true rfl) ⟨Nat.le_of_ble_eq_true rfl, Nat.le_of_ble_eq_true rfl⟩ dX1_judged_125 rfl (fun H locs cells slots hS => ?_)
      obtain ⟨y7, h1, e9, hf⟩ := jB_some hf
      refine j_callS (pc := 128) (st1 := [.int y7]) (As := [.int y5]) (rest := []) cx hS rfl hl.1 hm (metX1_bits l _ _ _ _ _ e9) (jle hf) (lw_S q1460 q1461 q112 q1462) pdX1_bits rfl rfl (Nat.le_of_ble_eq_true rfl) ⟨Nat.le_of_ble_eq_true rfl, Nat.le_of_ble_eq_true rfl⟩ dX1_judged_128 rfl (fun H locs cells slots hS => ?_)
      exact wX1_judged_131 cx e1 e2 a0 hth _ _ _ _ _ _ _ hf hS (lv_sub hl [0] rfl)
    · have hf := jI_t hf hc
      refine lv_iload_n (pc := 110) hx hb dX1_judged_110 rfl (lv_at hl 3 rfl) ?_
      refine lv_goto (pc := 111) (tgt := 131) hx hb dX1_judged_111 (by decide) ?_
      exact wX1_judged_131 cx e1 e2 a0 hth _ _ _ _ _ _ _ hf hS (lv_sub hl [0] rfl)
  · have hf := jI_t hf hc
    refine lv_iload_n (pc := 101) hx hb dX1_judged_101 rfl (lv_at hl 2 rfl) ?_
    refine lv_goto (pc := 102) (tgt := 131) hx hb dX1_judged_102 (by decide) ?_
    exact wX1_judged_131 cx e1 e2 a0 hth _ _ _ _ _ _ _ hf hS (lv_sub hl [0] rfl)
theorem wX1_judged_91 {N : Nat} {k31 : Int32 → Int32 → Int32 → Int32 → jM Int32} {r : Int32} (cx : jCx p s m args meth c cX1_judged "WornSkin" 5 (Option.some Jvm.ClassFile.FieldType.int) D dA H0 hs.2.2.2.2) (e1 : h'.2.2.1 = hs.2.2.1 + mc) (e2 : h'.2.2.2.1 = hs.2.2.2.1 + ms) (a0 : Nat) (hth : jTh hs a0 0) (hk31 : ∀ (x1 : Int32) (x2 : Int32) (x3 : Int32) (x4 : Int32), ∀ (h : jH) (H : Heap) (locs : List Loc) (cells slots : Nat) (ls : Array Slot), (k31 x1 x2 x3 x4).1 h = some (r, h') → jS D dA H0 hs h H locs cells slots → lv_has ls 5 [(0, .ref a0), (1, .int x1), (2, .int x2), (3, .int x3), (4, .int x4)] → W p l e { frames := 125, cells := mc, slots := ms, locals := 2683 } s m args below meth c H locs cells slots (jQ D dA H0 below s (.returned (some (.int r))) h' mc ms) (F0 m 31 ls [])) : ∀ (x1 : Int32) (x2 : Int32) (x3 : Int32) (x4 : Int32), ∀ (h : jH) (H : Heap) (locs : List Loc) (cells slots : Nat) (ls : Array Slot), (fX1_judged_91 N k31 a0 x1 x2 x3 x4).1 h = some (r, h') → jS D dA H0 hs h H locs cells slots → lv_has ls 5 [(0, .ref a0), (1, .int x1), (2, .int x2), (3, .int x3), (4, .int x4)] → W p l e { frames := 125, cells := mc, slots := ms, locals := 2683 } s m args below meth c H locs cells slots (jQ D dA H0 below s (.returned (some (.int r))) h' mc ms) (F0 m 91 ls []) := by
  have hx := cx.1
  have hb := cx.2.1
  have hown := cx.2.2.2.1
  have hts := cx.2.2.2.2.1
  have hm : h'.2.2.1 ≤ hs.2.2.1 + mc ∧ h'.2.2.2.1 ≤ hs.2.2.2.1 + ms := ⟨Nat.le_of_eq e1, Nat.le_of_eq e2⟩
  intro x1 x2 x3 x4 h H locs cells slots ls hf hS hl
  unfold fX1_judged_91 at hf
  refine lv_iinc (pc := 91) (v := (x4 + 1)) (lv' := [(4, .int (x4 + 1)), (0, .ref a0), (1, .int x1), (2, .int x2), (3, .int x3)]) hx hb dX1_judged_91 hl (k := 4) rfl rfl (Nat.le_of_ble_eq_true rfl) rfl (fun ls hl => ?_)
  refine lv_goto (pc := 94) (tgt := 31) hx hb dX1_judged_94 (by decide) ?_
  exact hk31 _ _ _ _ _ _ _ _ _ _ hf hS (lv_sub hl [1, 2, 3, 4, 0] rfl)
theorem wX1_judged_73 {N : Nat} {k31 : Int32 → Int32 → Int32 → Int32 → jM Int32} {r : Int32} (cx : jCx p s m args meth c cX1_judged "WornSkin" 5 (Option.some Jvm.ClassFile.FieldType.int) D dA H0 hs.2.2.2.2) (e1 : h'.2.2.1 = hs.2.2.1 + mc) (e2 : h'.2.2.2.1 = hs.2.2.2.1 + ms) (a0 : Nat) (hth : jTh hs a0 0) (hk31 : ∀ (x1 : Int32) (x2 : Int32) (x3 : Int32) (x4 : Int32), ∀ (h : jH) (H : Heap) (locs : List Loc) (cells slots : Nat) (ls : Array Slot), (k31 x1 x2 x3 x4).1 h = some (r, h') → jS D dA H0 hs h H locs cells slots → lv_has ls 5 [(0, .ref a0), (1, .int x1), (2, .int x2), (3, .int x3), (4, .int x4)] → W p l e { frames := 125, cells := mc, slots := ms, locals := 2683 } s m args below meth c H locs cells slots (jQ D dA H0 below s (.returned (some (.int r))) h' mc ms) (F0 m 31 ls [])) : ∀ (x1 : Int32) (x2 : Int32) (x3 : Int32) (x4 : Int32), ∀ (h : jH) (H : Heap) (locs : List Loc) (cells slots : Nat) (ls : Array Slot), (fX1_judged_73 N k31 a0 x1 x2 x3 x4).1 h = some (r, h') → jS D dA H0 hs h H locs cells slots → lv_has ls 5 [(0, .ref a0), (1, .int x1), (2, .int x2), (3, .int x3), (4, .int x4)] → W p l e { frames := 125, cells := mc, slots := ms, locals := 2683 } s m args below meth c H locs cells slots (jQ D dA H0 below s (.returned (some (.int r))) h' mc ms) (F0 m 73 ls []) := by
  have hx := cx.1
  have hb := cx.2.1
  have hown := cx.2.2.2.1
  have hts := cx.2.2.2.2.1
  have hm : h'.2.2.1 ≤ hs.2.2.1 + mc ∧ h'.2.2.2.1 ≤ hs.2.2.2.1 + ms := ⟨Nat.le_of_eq e1, Nat.le_of_eq e2⟩
  intro x1 x2 x3 x4 h H locs cells slots ls hf hS hl
  unfold fX1_judged_73 at hf
  refine lv_iload_n (pc := 73) hx hb dX1_judged_73 rfl (lv_at hl 3 rfl) ?_
  refine lv_iconst (pc := 74) (v := (-1)) hx hb dX1_judged_74 rfl ?_
  refine lv_icmp_ne (pc := 75) (tgt := 91) hx hb dX1_judged_75 (by decide) (fun hc => ?_) (fun hc => ?_)
  · have hf := jI_f hf hc
    exact wX1_judged_91 cx e1 e2 a0 hth hk31 _ _ _ _ _ _ _ _ _ _ hf hS hl
  · have hf := jI_t hf hc
    refine lv_aload_n (pc := 78) hx hb dX1_judged_78 rfl (lv_at hl 0 rfl) ?_
    refine j_gR (pc := 79) cx hS hf fd_WornSkin_trial q432 dX1_judged_79 (fun y1 hf => ?_)
    obtain ⟨b3, eb, hrc, hf⟩ := jrc_s hf
    refine j_nn (pc := 82) eb [] [] rfl ?_
    obtain ⟨y2, h1, e9, hf⟩ := jB_some hf
    refine j_callV (pc := 82) (st1 := [.int y2]) (As := []) (rest := []) cx hS rfl hl.1 hm (metX3_gone l _ _ _ _ _ hrc e9) (jle hf) hrc rfl (lw_V q1447 q1448 q1449 q114 q1450) pdX3_gone rfl rfl (Nat.le_of_ble_eq_true rfl) ⟨Nat.le_of_ble_eq_true rfl, Nat.le_of_ble_eq_true rfl⟩ dX1_judged_82 rfl (fun H locs cells slots hS => ?_)
    refine lv_if_eq (pc := 85) (tgt := 91) hx hb dX1_judged_85 (by decide) (fun hc => ?_) (fun hc => ?_)
    · have hf := jI_t hf hc
      exact wX1_judged_91 cx e1 e2 a0 hth hk31 _ _ _ _ _ _ _ _ _ _ hf hS hl
    · have hf := jI_f hf hc
      refine lv_iload (pc := 88) hx hb dX1_judged_88 (lv_at hl 4 rfl) ?_
      refine lv_istore_n (pc := 90) (i := 3) (lv' := [(3, .int x4), (0, .ref a0), (1, .int x1), (2, .int x2), (4, .int x4)]) hx hb dX1_judged_90 rfl hl (Nat.le_of_ble_eq_true rfl) rfl (fun ls hl => ?_)
      exact wX1_judged_91 cx e1 e2 a0 hth hk31 _ _ _ _ _ _ _ _ _ _ hf hS (lv_sub hl [1, 2, 3, 0, 4] rfl)
theorem wX1_judged_31 {N : Nat} {r : Int32} (cx : jCx p s m args meth c cX1_judged "WornSkin" 5 (Option.some Jvm.ClassFile.FieldType.int) D dA H0 hs.2.2.2.2) (e1 : h'.2.2.1 = hs.2.2.1 + mc) (e2 : h'.2.2.2.1 = hs.2.2.2.1 + ms) (a0 : Nat) (hth : jTh hs a0 0) : ∀ (n : Nat) (x1 : Int32) (x2 : Int32) (x3 : Int32) (x4 : Int32), ∀ (h : jH) (H : Heap) (locs : List Loc) (cells slots : Nat) (ls : Array Slot), (fX1_judged_31 N a0 n x1 x2 x3 x4).1 h = some (r, h') → jS D dA H0 hs h H locs cells slots → lv_has ls 5 [(0, .ref a0), (1, .int x1), (2, .int x2), (3, .int x3), (4, .int x4)] → W p l e { frames := 125, cells := mc, slots := ms, locals := 2683 } s m args below meth c H locs cells slots (jQ D dA H0 below s (.returned (some (.int r))) h' mc ms) (F0 m 31 ls []) := by
  have hx := cx.1
  have hb := cx.2.1
  have hown := cx.2.2.2.1
  have hts := cx.2.2.2.2.1
  have hm : h'.2.2.1 ≤ hs.2.2.1 + mc ∧ h'.2.2.2.1 ≤ hs.2.2.2.1 + ms := ⟨Nat.le_of_eq e1, Nat.le_of_eq e2⟩
  intro n
  induction n with
  | zero =>
    intro x1 x2 x3 x4 h H locs cells slots ls hf hS hl
    exact jE_f hf
  | succ n ih =>
    intro x1 x2 x3 x4 h H locs cells slots ls hf hS hl
    unfold fX1_judged_31 at hf
    refine lv_iload (pc := 31) hx hb dX1_judged_31 (lv_at hl 4 rfl) ?_
    refine lv_aload_n (pc := 33) hx hb dX1_judged_33 rfl (lv_at hl 0 rfl) ?_
    refine j_gR (pc := 34) cx hS hf fd_WornSkin_lines q433 dX1_judged_34 (fun y1 hf => ?_)
    obtain ⟨b3, eb, hrc, hf⟩ := jrc_s hf
    refine j_nn (pc := 37) eb [] [.int x4] rfl ?_
    obtain ⟨y2, h1, e9, hf⟩ := jB_some hf
    refine j_callV (pc := 37) (st1 := [.int y2, .int x4]) (As := []) (rest := [.int x4]) cx hS rfl hl.1 hm (metJ2_size l _ _ _ _ hrc e9) (jle hf) hrc rfl (lw_V q1157 q376 q377 q118 q378) pdJ2_size rfl rfl (Nat.le_of_ble_eq_true rfl) ⟨Nat.le_of_ble_eq_true rfl, Nat.le_of_ble_eq_true rfl⟩ dX1_judged_37 rfl (fun H locs cells slots hS => ?_)
    refine lv_icmp_ge (pc := 40) (tgt := 97) hx hb dX1_judged_40 (by decide) (fun hc => ?_) (fun hc => ?_)
    · have hf := jI_t hf hc
      exact wX1_judged_97 cx e1 e2 a0 hth _ _ _ _ _ _ _ _ _ hf hS (lv_sub hl [0, 1, 2, 3] rfl)
    · have hf := jI_f hf hc
      refine lv_aload_n (pc := 43) hx hb dX1_judged_43 rfl (lv_at hl 0 rfl) ?_
      refine j_gR (pc := 44) cx hS hf fd_WornSkin_lines q433 dX1_judged_44 (fun y4 hf => ?_)
      refine lv_iload (pc := 47) hx hb dX1_judged_47 (lv_at hl 4 rfl) ?_
      obtain ⟨b6, eb, hrc, hf⟩ := jrc_s hf
      refine j_nn (pc := 49) eb [.int x4] [] rfl ?_
      obtain ⟨y5, h1, e9, hf⟩ := jB_some hf
      refine j_callV (pc := 49) (st1 := [va_rf y5]) (As := [.int x4]) (rest := []) cx hS rfl hl.1 hm (metJ2_get l _ _ _ _ _ hrc e9) (jle hf) hrc rfl (lw_V q1429 q384 q385 q118 q386) pdJ2_get rfl rfl (Nat.le_of_ble_eq_true rfl) ⟨Nat.le_of_ble_eq_true rfl, Nat.le_of_ble_eq_true rfl⟩ dX1_judged_49 rfl (fun H locs cells slots hS => ?_)
      refine j_cast (pc := 52) cx hS hf ok_WornSkin_Line q1430 dX1_judged_52 (fun hf => ?_)
      refine lv_aload_n (pc := 55) hx hb dX1_judged_55 rfl (lv_at hl 0 rfl) ?_
      refine j_gR (pc := 56) cx hS hf fd_WornSkin_trial q432 dX1_judged_56 (fun y7 hf => ?_)
      obtain ⟨b9, eb, hf⟩ := jnn0_s hf
      refine j_nn (pc := 59) eb [va_rf y7] [] rfl ?_
      obtain ⟨y8, h1, e9, hf⟩ := jB_some hf
      refine j_callU (pc := 59) (st1 := [.int y8]) (As := [va_rf y7]) (rest := []) (x := { cls := "WornSkin$Line", name := "isDone", desc := "(LWornSkin$Shelf;)Z" }) cx hS rfl hl.1 hm (md_Line_isDone l _ _ _ _ _ _ e9) (jle hf) q1431 q1433 (Or.inl q1432) pd_WornSkin_Line_isDone rfl rfl (Nat.le_of_ble_eq_true rfl) ⟨Nat.le_of_ble_eq_true rfl, Nat.le_of_ble_eq_true rfl⟩ dX1_judged_59 rfl (fun H locs cells slots hS => ?_)
      refine lv_if_ne (pc := 62) (tgt := 73) hx hb dX1_judged_62 (by decide) (fun hc => ?_) (fun hc => ?_)
      · have hf := jI_f hf hc
        exact wX1_judged_73 cx e1 e2 a0 hth ih _ _ _ _ _ _ _ _ _ _ hf hS hl
      · have hf := jI_t hf hc
        refine lv_iload_n (pc := 65) hx hb dX1_judged_65 rfl (lv_at hl 2 rfl) ?_
        refine lv_iconst (pc := 66) (v := (-1)) hx hb dX1_judged_66 rfl ?_
        refine lv_icmp_ne (pc := 67) (tgt := 73) hx hb dX1_judged_67 (by decide) (fun hc => ?_) (fun hc => ?_)
        · have hf := jI_f hf hc
          exact wX1_judged_73 cx e1 e2 a0 hth ih _ _ _ _ _ _ _ _ _ _ hf hS hl
        · have hf := jI_t hf hc
          refine lv_iload (pc := 70) hx hb dX1_judged_70 (lv_at hl 4 rfl) ?_
          refine lv_istore_n (pc := 72) (i := 2) (lv' := [(2, .int x4), (0, .ref a0), (1, .int x1), (3, .int x3), (4, .int x4)]) hx hb dX1_judged_72 rfl hl (Nat.le_of_ble_eq_true rfl) rfl (fun ls hl => ?_)
          exact wX1_judged_73 cx e1 e2 a0 hth ih _ _ _ _ _ _ _ _ _ _ hf hS (lv_sub hl [1, 2, 0, 3, 4] rfl)
theorem wX1_judged_0 {N : Nat} {r : Int32} (cx : jCx p s m args meth c cX1_judged "WornSkin" 5 (Option.some Jvm.ClassFile.FieldType.int) D dA H0 hs.2.2.2.2) (e1 : h'.2.2.1 = hs.2.2.1 + mc) (e2 : h'.2.2.2.1 = hs.2.2.2.1 + ms) (a0 : Nat) (hth : jTh hs a0 0) : ∀ (x1 : Int32), ∀ (h : jH) (H : Heap) (locs : List Loc) (cells slots : Nat) (ls : Array Slot), (fX1_judged N a0 x1).1 h = some (r, h') → jS D dA H0 hs h H locs cells slots → lv_has ls 5 [(0, .ref a0), (1, .int x1)] → W p l e { frames := 125, cells := mc, slots := ms, locals := 2683 } s m args below meth c H locs cells slots (jQ D dA H0 below s (.returned (some (.int r))) h' mc ms) (F0 m 0 ls []) := by
  have hx := cx.1
  have hb := cx.2.1
  have hown := cx.2.2.2.1
  have hts := cx.2.2.2.2.1
  have hm : h'.2.2.1 ≤ hs.2.2.1 + mc ∧ h'.2.2.2.1 ≤ hs.2.2.2.1 + ms := ⟨Nat.le_of_eq e1, Nat.le_of_eq e2⟩
  intro x1 h H locs cells slots ls hf hS hl
  unfold fX1_judged at hf
  refine lv_iload_n (pc := 0) hx hb dX1_judged_0 rfl (lv_at hl 1 rfl) ?_
  refine lv_iconst (pc := 1) (v := 0) hx hb dX1_judged_1 rfl ?_
  refine lv_iconst (pc := 2) (v := 2) hx hb dX1_judged_2 rfl ?_
  obtain ⟨y1, h1, e9, hf⟩ := jB_some hf
  refine j_callS (pc := 3) (st1 := [.int y1]) (As := [.int x1, .int 0, .int 2]) (rest := []) cx hS rfl hl.1 hm (metX1_within l _ _ _ _ _ _ e9) (jle hf) (lw_S q1158 q468 q112 q469) pdX1_within rfl rfl (Nat.le_of_ble_eq_true rfl) ⟨Nat.le_of_ble_eq_true rfl, Nat.le_of_ble_eq_true rfl⟩ dX1_judged_3 rfl (fun H locs cells slots hS => ?_)
  refine lv_if_ne (pc := 6) (tgt := 12) hx hb dX1_judged_6 (by decide) (fun hc => ?_) (fun hc => ?_)
  · have hf := jI_f hf hc
    refine lv_aload_n (pc := 12) hx hb dX1_judged_12 rfl (lv_at hl 0 rfl) ?_
    refine j_gR (pc := 13) cx hS hf fd_WornSkin_trial q432 dX1_judged_13 (fun y2 hf => ?_)
    refine lv_aload_n (pc := 16) hx hb dX1_judged_16 rfl (lv_at hl 0 rfl) ?_
    obtain ⟨y3, h1, e9, hf⟩ := jB_some hf
    refine j_callV (pc := 17) (st1 := [va_rf y3, va_rf y2]) (As := []) (rest := [va_rf y2]) cx hS rfl hl.1 hm (metX1_now l _ _ _ _ (hth.at hS) e9) (jle hf) (hth.at hS) rfl (lw_V q1092 q1094 qs31 q112 q1095) pdX1_now rfl rfl (by simp only [List.map_cons, List.map_nil, List.sum_cons, List.sum_nil, jrfc]; exact Nat.le_of_ble_eq_true rfl) ⟨Nat.le_of_ble_eq_true rfl, Nat.le_of_ble_eq_true rfl⟩ dX1_judged_17 rfl (fun H locs cells slots hS => ?_)
    obtain ⟨b5, eb, hrc, hf⟩ := jrc_s hf
    refine j_nn (pc := 20) eb [va_rf y3] [] rfl ?_
    obtain ⟨y4, h1, e9, hf⟩ := jB_some hf
    refine j_callV (pc := 20) (st1 := [va_rf y4]) (As := [va_rf y3]) (rest := []) cx hS rfl hl.1 hm (metX3_begins l _ _ _ _ _ _ hrc e9) (jle hf) hrc rfl (lw_V q363 q364 q365 q114 q366) pdX3_begins rfl rfl (Nat.le_of_ble_eq_true rfl) ⟨Nat.le_of_ble_eq_true rfl, Nat.le_of_ble_eq_true rfl⟩ dX1_judged_20 rfl (fun H locs cells slots hS => ?_)
    refine lv_pop (pc := 23) hx hb dX1_judged_23 (jrfc _) ?_
    refine lv_iconst (pc := 24) (v := (-1)) hx hb dX1_judged_24 rfl ?_
    refine lv_istore_n (pc := 25) (i := 2) (lv' := [(2, .int (-1)), (0, .ref a0), (1, .int x1)]) hx hb dX1_judged_25 rfl hl (Nat.le_of_ble_eq_true rfl) rfl (fun ls hl => ?_)
    refine lv_iconst (pc := 26) (v := (-1)) hx hb dX1_judged_26 rfl ?_
    refine lv_istore_n (pc := 27) (i := 3) (lv' := [(3, .int (-1)), (2, .int (-1)), (0, .ref a0), (1, .int x1)]) hx hb dX1_judged_27 rfl hl (Nat.le_of_ble_eq_true rfl) rfl (fun ls hl => ?_)
    refine lv_iconst (pc := 28) (v := 0) hx hb dX1_judged_28 rfl ?_
    refine lv_istore (pc := 29) (i := 4) (lv' := [(4, .int 0), (3, .int (-1)), (2, .int (-1)), (0, .ref a0), (1, .int x1)]) hx hb dX1_judged_29 hl (Nat.le_of_ble_eq_true rfl) rfl (fun ls hl => ?_)
    exact wX1_judged_31 cx e1 e2 a0 hth N _ _ _ _ _ _ _ _ _ _ hf hS (lv_sub hl [3, 4, 2, 1, 0] rfl)
  · have hf := jI_t hf hc
    refine lv_bipush (pc := 9) (v := (-2)) hx hb dX1_judged_9 rfl ?_
    exact j_iret (pc := 11) cx hS hf e1 e2 dX1_judged_11
theorem metX1_judged (l : Launch) (N : Nat) (a0 : Nat) (x1 : Int32) (h h' : jH) (r : Int32) (hth : jcd h a0 = some 0) (hf : (fX1_judged N a0 x1).1 h = some (r, h')) : jMet l yX1_judged (ws_ yX1_judged cX1_judged 5 (Option.some Jvm.ClassFile.FieldType.int)) (125) (2683) [.ref a0, .int x1] h h' (.returned (some (.int r))) := by
  refine jStart rfl (jle hf) (Nat.le_of_ble_eq_true rfl) ?_
  intro p e s m below meth c D dA H0 mc ms ls cx hnm e1 e2 hS hl
  have hth := jTh.mk hS hth
  exact wX1_judged_0 cx e1 e2 a0 hth _ _ _ _ _ _ _ hf hS hl
def fX1_later_48 (N : Nat) (a0 : Nat) (v0 : Int32) : jM Int32 := jR v0
def fX1_later_47 (N : Nat) (a0 : Nat) : jM Int32 := fX1_later_48 N a0 (-1)
def fX1_later (N : Nat) (a0 : Nat) (x1 : Int32) (x2 : Int32) (x3 : Int32) : jM Int32 := jB (fX1_isLine a0 x1 x2) fun y1 => if y1 = 0 then (fX1_later_47 N a0) else (jB (fX1_within x3 0 40) fun y2 => if y2 = 0 then (fX1_later_47 N a0) else (jB (jgR [0] 1 (some a0)) fun y3 => jB (fX1_now a0) fun y4 => jB (jgR [0] 1 (some a0)) fun y5 => jB (jgI [2] 1 y5) fun y6 => jB (jrc 3 y4) fun b8 => jB (fX4_damp b8 (y6 + x3)) fun y7 => jB (jrc 2 y3) fun b10 => jB (fX3_read N b10 x1 x2 y7) fun y9 => fX1_later_48 N a0 y9))
theorem wX1_later_48 {N : Nat} {r : Int32} (cx : jCx p s m args meth c cX1_later "WornSkin" 4 (Option.some Jvm.ClassFile.FieldType.int) D dA H0 hs.2.2.2.2) (e1 : h'.2.2.1 = hs.2.2.1 + mc) (e2 : h'.2.2.2.1 = hs.2.2.2.1 + ms) (a0 : Nat) (hth : jTh hs a0 0) : ∀ (v0 : Int32), ∀ (h : jH) (H : Heap) (locs : List Loc) (cells slots : Nat) (ls : Array Slot), (fX1_later_48 N a0 v0).1 h = some (r, h') → jS D dA H0 hs h H locs cells slots → lv_has ls 4 [(0, .ref a0)] → W p l e { frames := 123, cells := mc, slots := ms, locals := 2635 } s m args below meth c H locs cells slots (jQ D dA H0 below s (.returned (some (.int r))) h' mc ms) (F0 m 48 ls [.int v0]) := by
  have hx := cx.1
  have hb := cx.2.1
  have hown := cx.2.2.2.1
  have hts := cx.2.2.2.2.1
  have hm : h'.2.2.1 ≤ hs.2.2.1 + mc ∧ h'.2.2.2.1 ≤ hs.2.2.2.1 + ms := ⟨Nat.le_of_eq e1, Nat.le_of_eq e2⟩
  intro v0 h H locs cells slots ls hf hS hl
  unfold fX1_later_48 at hf
  exact j_iret (pc := 48) cx hS hf e1 e2 dX1_later_48
theorem wX1_later_47 {N : Nat} {r : Int32} (cx : jCx p s m args meth c cX1_later "WornSkin" 4 (Option.some Jvm.ClassFile.FieldType.int) D dA H0 hs.2.2.2.2) (e1 : h'.2.2.1 = hs.2.2.1 + mc) (e2 : h'.2.2.2.1 = hs.2.2.2.1 + ms) (a0 : Nat) (hth : jTh hs a0 0) : ∀ (h : jH) (H : Heap) (locs : List Loc) (cells slots : Nat) (ls : Array Slot), (fX1_later_47 N a0).1 h = some (r, h') → jS D dA H0 hs h H locs cells slots → lv_has ls 4 [(0, .ref a0)] → W p l e { frames := 123, cells := mc, slots := ms, locals := 2635 } s m args below meth c H locs cells slots (jQ D dA H0 below s (.returned (some (.int r))) h' mc ms) (F0 m 47 ls []) := by
  have hx := cx.1
  have hb := cx.2.1
  have hown := cx.2.2.2.1
  have hts := cx.2.2.2.2.1
  have hm : h'.2.2.1 ≤ hs.2.2.1 + mc ∧ h'.2.2.2.1 ≤ hs.2.2.2.1 + ms := ⟨Nat.le_of_eq e1, Nat.le_of_eq e2⟩
  intro h H locs cells slots ls hf hS hl
  unfold fX1_later_47 at hf
  refine lv_iconst (pc := 47) (v := (-1)) hx hb dX1_later_47 rfl ?_
  exact wX1_later_48 cx e1 e2 a0 hth _ _ _ _ _ _ _ hf hS hl
theorem wX1_later_0 {N : Nat} {r : Int32} (cx : jCx p s m args meth c cX1_later "WornSkin" 4 (Option.some Jvm.ClassFile.FieldType.int) D dA H0 hs.2.2.2.2) (e1 : h'.2.2.1 = hs.2.2.1 + mc) (e2 : h'.2.2.2.1 = hs.2.2.2.1 + ms) (a0 : Nat) (hth : jTh hs a0 0) : ∀ (x1 : Int32) (x2 : Int32) (x3 : Int32), ∀ (h : jH) (H : Heap) (locs : List Loc) (cells slots : Nat) (ls : Array Slot), (fX1_later N a0 x1 x2 x3).1 h = some (r, h') → jS D dA H0 hs h H locs cells slots → lv_has ls 4 [(0, .ref a0), (1, .int x1), (2, .int x2), (3, .int x3)] → W p l e { frames := 123, cells := mc, slots := ms, locals := 2635 } s m args below meth c H locs cells slots (jQ D dA H0 below s (.returned (some (.int r))) h' mc ms) (F0 m 0 ls []) := by
  have hx := cx.1
  have hb := cx.2.1
  have hown := cx.2.2.2.1
  have hts := cx.2.2.2.2.1
  have hm : h'.2.2.1 ≤ hs.2.2.1 + mc ∧ h'.2.2.2.1 ≤ hs.2.2.2.1 + ms := ⟨Nat.le_of_eq e1, Nat.le_of_eq e2⟩
  intro x1 x2 x3 h H locs cells slots ls hf hS hl
  unfold fX1_later at hf
  refine lv_aload_n (pc := 0) hx hb dX1_later_0 rfl (lv_at hl 0 rfl) ?_
  refine lv_iload_n (pc := 1) hx hb dX1_later_1 rfl (lv_at hl 1 rfl) ?_
  refine lv_iload_n (pc := 2) hx hb dX1_later_2 rfl (lv_at hl 2 rfl) ?_
  obtain ⟨y1, h1, e9, hf⟩ := jB_some hf
  refine j_callV (pc := 3) (st1 := [.int y1]) (As := [.int x1, .int x2]) (rest := []) cx hS rfl hl.1 hm (metX1_isLine l _ _ _ _ _ _ (hth.at hS) e9) (jle hf) (hth.at hS) rfl (lw_V q1318 q1320 qs39 q112 q1321) pdX1_isLine rfl rfl (Nat.le_of_ble_eq_true rfl) ⟨Nat.le_of_ble_eq_true rfl, Nat.le_of_ble_eq_true rfl⟩ dX1_later_3 rfl (fun H locs cells slots hS => ?_)
  refine lv_if_eq (pc := 6) (tgt := 47) hx hb dX1_later_6 (by decide) (fun hc => ?_) (fun hc => ?_)
  · have hf := jI_t hf hc
    exact wX1_later_47 cx e1 e2 a0 hth _ _ _ _ _ _ hf hS (lv_sub hl [0] rfl)
  · have hf := jI_f hf hc
    refine lv_iload_n (pc := 9) hx hb dX1_later_9 rfl (lv_at hl 3 rfl) ?_
    refine lv_iconst (pc := 10) (v := 0) hx hb dX1_later_10 rfl ?_
    refine lv_bipush (pc := 11) (v := 40) hx hb dX1_later_11 rfl ?_
    obtain ⟨y2, h1, e9, hf⟩ := jB_some hf
    refine j_callS (pc := 13) (st1 := [.int y2]) (As := [.int x3, .int 0, .int 40]) (rest := []) cx hS rfl hl.1 hm (metX1_within l _ _ _ _ _ _ e9) (jle hf) (lw_S q1158 q468 q112 q469) pdX1_within rfl rfl (Nat.le_of_ble_eq_true rfl) ⟨Nat.le_of_ble_eq_true rfl, Nat.le_of_ble_eq_true rfl⟩ dX1_later_13 rfl (fun H locs cells slots hS => ?_)
    refine lv_if_eq (pc := 16) (tgt := 47) hx hb dX1_later_16 (by decide) (fun hc => ?_) (fun hc => ?_)
    · have hf := jI_t hf hc
      exact wX1_later_47 cx e1 e2 a0 hth _ _ _ _ _ _ hf hS (lv_sub hl [0] rfl)
    · have hf := jI_f hf hc
      refine lv_aload_n (pc := 19) hx hb dX1_later_19 rfl (lv_at hl 0 rfl) ?_
      refine j_gR (pc := 20) cx hS hf fd_WornSkin_shelf q430 dX1_later_20 (fun y3 hf => ?_)
      refine lv_iload_n (pc := 23) hx hb dX1_later_23 rfl (lv_at hl 1 rfl) ?_
      refine lv_iload_n (pc := 24) hx hb dX1_later_24 rfl (lv_at hl 2 rfl) ?_
      refine lv_aload_n (pc := 25) hx hb dX1_later_25 rfl (lv_at hl 0 rfl) ?_
      obtain ⟨y4, h1, e9, hf⟩ := jB_some hf
      refine j_callV (pc := 26) (st1 := [va_rf y4, .int x2, .int x1, va_rf y3]) (As := []) (rest := [.int x2, .int x1, va_rf y3]) cx hS rfl hl.1 hm (metX1_now l _ _ _ _ (hth.at hS) e9) (jle hf) (hth.at hS) rfl (lw_V q1092 q1094 qs31 q112 q1095) pdX1_now rfl rfl (by simp only [List.map_cons, List.map_nil, List.sum_cons, List.sum_nil, jrfc]; exact Nat.le_of_ble_eq_true rfl) ⟨Nat.le_of_ble_eq_true rfl, Nat.le_of_ble_eq_true rfl⟩ dX1_later_26 rfl (fun H locs cells slots hS => ?_)
      refine lv_aload_n (pc := 29) hx hb dX1_later_29 rfl (lv_at hl 0 rfl) ?_
      refine j_gR (pc := 30) cx hS hf fd_WornSkin_shelf q430 dX1_later_30 (fun y5 hf => ?_)
      refine j_gI (pc := 33) cx hS hf fd_WornSkin_Shelf_week q259 dX1_later_33 (fun y6 hf => ?_)
      refine lv_iload_n (pc := 36) hx hb dX1_later_36 rfl (lv_at hl 3 rfl) ?_
      refine lv_iadd (pc := 37) hx hb dX1_later_37 ?_
      obtain ⟨b8, eb, hrc, hf⟩ := jrc_s hf
      refine j_nn (pc := 38) eb [.int (y6 + x3)] [.int x2, .int x1, va_rf y3] rfl ?_
      obtain ⟨y7, h1, e9, hf⟩ := jB_some hf
      refine j_callV (pc := 38) (st1 := [.int y7, .int x2, .int x1, va_rf y3]) (As := [.int (y6 + x3)]) (rest := [.int x2, .int x1, va_rf y3]) cx hS rfl hl.1 hm (metX4_damp l _ _ _ _ _ hrc e9) (jle hf) hrc rfl (lw_V q1467 q1173 q1174 q115 q1175) pdX4_damp rfl rfl (by simp only [List.map_cons, List.map_nil, List.sum_cons, List.sum_nil, jrfc]; exact Nat.le_of_ble_eq_true rfl) ⟨Nat.le_of_ble_eq_true rfl, Nat.le_of_ble_eq_true rfl⟩ dX1_later_38 rfl (fun H locs cells slots hS => ?_)
      obtain ⟨b10, eb, hrc, hf⟩ := jrc_s hf
      refine j_nn (pc := 41) eb [.int y7, .int x2, .int x1] [] rfl ?_
      obtain ⟨y9, h1, e9, hf⟩ := jB_some hf
      refine j_callV (pc := 41) (st1 := [.int y9]) (As := [.int x1, .int x2, .int y7]) (rest := []) cx hS rfl hl.1 hm (metX3_read l _ _ _ _ _ _ _ _ hrc e9) (jle hf) hrc rfl (lw_V q1176 q1177 q1178 q114 q1179) pdX3_read rfl rfl (Nat.le_of_ble_eq_true rfl) ⟨Nat.le_of_ble_eq_true rfl, Nat.le_of_ble_eq_true rfl⟩ dX1_later_41 rfl (fun H locs cells slots hS => ?_)
      refine lv_goto (pc := 44) (tgt := 48) hx hb dX1_later_44 (by decide) ?_
      exact wX1_later_48 cx e1 e2 a0 hth _ _ _ _ _ _ _ hf hS (lv_sub hl [0] rfl)
theorem metX1_later (l : Launch) (N : Nat) (a0 : Nat) (x1 : Int32) (x2 : Int32) (x3 : Int32) (h h' : jH) (r : Int32) (hth : jcd h a0 = some 0) (hf : (fX1_later N a0 x1 x2 x3).1 h = some (r, h')) : jMet l yX1_later (ws_ yX1_later cX1_later 4 (Option.some Jvm.ClassFile.FieldType.int)) (123) (2635) [.ref a0, .int x1, .int x2, .int x3] h h' (.returned (some (.int r))) := by
  refine jStart rfl (jle hf) (Nat.le_of_ble_eq_true rfl) ?_
  intro p e s m below meth c D dA H0 mc ms ls cx hnm e1 e2 hS hl
  have hth := jTh.mk hS hth
  exact wX1_later_0 cx e1 e2 a0 hth _ _ _ _ _ _ _ _ _ hf hS hl
def fX1_when_53 (N : Nat) (a0 : Nat) : jM Int32 := jR (-1)
def fX1_when_45 (N : Nat) (a0 : Nat) (x2 : Int32) : jM Int32 := jR x2
def fX1_when_12 (N : Nat) (a0 : Nat) : Nat → Int32 → Int32 → jM Int32
  | 0, _, _ => jE
  | n + 1, x1, x2 => if 40 < x2 then (fX1_when_53 N a0) else (jB (jgR [0] 1 (some a0)) fun y1 => jB (fX1_now a0) fun y2 => jB (jgR [0] 1 (some a0)) fun y3 => jB (jgI [2] 1 y3) fun y4 => jB (jrc 3 y2) fun b6 => jB (fX4_damp b6 (y4 + x2)) fun y5 => jB (jrc 2 y1) fun b8 => jB (fX3_isWhole N b8 x1 y5) fun y7 => if y7 = 0 then (fX1_when_12 N a0 n x1 (x2 + 1)) else (fX1_when_45 N a0 x2))
def fX1_when (N : Nat) (a0 : Nat) (x1 : Int32) : jM Int32 := jB (fX1_isText a0 x1) fun y1 => if y1 = 0 then (jR (-1)) else (fX1_when_12 N a0 N x1 0)
theorem wX1_when_53 {N : Nat} {r : Int32} (cx : jCx p s m args meth c cX1_when "WornSkin" 3 (Option.some Jvm.ClassFile.FieldType.int) D dA H0 hs.2.2.2.2) (e1 : h'.2.2.1 = hs.2.2.1 + mc) (e2 : h'.2.2.2.1 = hs.2.2.2.1 + ms) (a0 : Nat) (hth : jTh hs a0 0) : ∀ (h : jH) (H : Heap) (locs : List Loc) (cells slots : Nat) (ls : Array Slot), (fX1_when_53 N a0).1 h = some (r, h') → jS D dA H0 hs h H locs cells slots → lv_has ls 3 [(0, .ref a0)] → W p l e { frames := 124, cells := mc, slots := ms, locals := 2660 } s m args below meth c H locs cells slots (jQ D dA H0 below s (.returned (some (.int r))) h' mc ms) (F0 m 53 ls []) := by
  have hx := cx.1
  have hb := cx.2.1
  have hown := cx.2.2.2.1
  have hts := cx.2.2.2.2.1
  have hm : h'.2.2.1 ≤ hs.2.2.1 + mc ∧ h'.2.2.2.1 ≤ hs.2.2.2.1 + ms := ⟨Nat.le_of_eq e1, Nat.le_of_eq e2⟩
  intro h H locs cells slots ls hf hS hl
  unfold fX1_when_53 at hf
  refine lv_iconst (pc := 53) (v := (-1)) hx hb dX1_when_53 rfl ?_
  exact j_iret (pc := 54) cx hS hf e1 e2 dX1_when_54
theorem wX1_when_45 {N : Nat} {r : Int32} (cx : jCx p s m args meth c cX1_when "WornSkin" 3 (Option.some Jvm.ClassFile.FieldType.int) D dA H0 hs.2.2.2.2) (e1 : h'.2.2.1 = hs.2.2.1 + mc) (e2 : h'.2.2.2.1 = hs.2.2.2.1 + ms) (a0 : Nat) (hth : jTh hs a0 0) : ∀ (x2 : Int32), ∀ (h : jH) (H : Heap) (locs : List Loc) (cells slots : Nat) (ls : Array Slot), (fX1_when_45 N a0 x2).1 h = some (r, h') → jS D dA H0 hs h H locs cells slots → lv_has ls 3 [(0, .ref a0), (2, .int x2)] → W p l e { frames := 124, cells := mc, slots := ms, locals := 2660 } s m args below meth c H locs cells slots (jQ D dA H0 below s (.returned (some (.int r))) h' mc ms) (F0 m 45 ls []) := by
  have hx := cx.1
  have hb := cx.2.1
  have hown := cx.2.2.2.1
  have hts := cx.2.2.2.2.1
  have hm : h'.2.2.1 ≤ hs.2.2.1 + mc ∧ h'.2.2.2.1 ≤ hs.2.2.2.1 + ms := ⟨Nat.le_of_eq e1, Nat.le_of_eq e2⟩
  intro x2 h H locs cells slots ls hf hS hl
  unfold fX1_when_45 at hf
  refine lv_iload_n (pc := 45) hx hb dX1_when_45 rfl (lv_at hl 1 rfl) ?_
  exact j_iret (pc := 46) cx hS hf e1 e2 dX1_when_46
theorem wX1_when_12 {N : Nat} {r : Int32} (cx : jCx p s m args meth c cX1_when "WornSkin" 3 (Option.some Jvm.ClassFile.FieldType.int) D dA H0 hs.2.2.2.2) (e1 : h'.2.2.1 = hs.2.2.1 + mc) (e2 : h'.2.2.2.1 = hs.2.2.2.1 + ms) (a0 : Nat) (hth : jTh hs a0 0) : ∀ (n : Nat) (x1 : Int32) (x2 : Int32), ∀ (h : jH) (H : Heap) (locs : List Loc) (cells slots : Nat) (ls : Array Slot), (fX1_when_12 N a0 n x1 x2).1 h = some (r, h') → jS D dA H0 hs h H locs cells slots → lv_has ls 3 [(0, .ref a0), (1, .int x1), (2, .int x2)] → W p l e { frames := 124, cells := mc, slots := ms, locals := 2660 } s m args below meth c H locs cells slots (jQ D dA H0 below s (.returned (some (.int r))) h' mc ms) (F0 m 12 ls []) := by
  have hx := cx.1
  have hb := cx.2.1
  have hown := cx.2.2.2.1
  have hts := cx.2.2.2.2.1
  have hm : h'.2.2.1 ≤ hs.2.2.1 + mc ∧ h'.2.2.2.1 ≤ hs.2.2.2.1 + ms := ⟨Nat.le_of_eq e1, Nat.le_of_eq e2⟩
  intro n
  induction n with
  | zero =>
    intro x1 x2 h H locs cells slots ls hf hS hl
    exact jE_f hf
  | succ n ih =>
    intro x1 x2 h H locs cells slots ls hf hS hl
    unfold fX1_when_12 at hf
    refine lv_iload_n (pc := 12) hx hb dX1_when_12 rfl (lv_at hl 2 rfl) ?_
    refine lv_bipush (pc := 13) (v := 40) hx hb dX1_when_13 rfl ?_
    refine lv_icmp_gt (pc := 15) (tgt := 53) hx hb dX1_when_15 (by decide) (fun hc => ?_) (fun hc => ?_)
    · have hf := jI_t hf hc
      exact wX1_when_53 cx e1 e2 a0 hth _ _ _ _ _ _ hf hS (lv_sub hl [0] rfl)
    · have hf := jI_f hf hc
      refine lv_aload_n (pc := 18) hx hb dX1_when_18 rfl (lv_at hl 0 rfl) ?_
      refine j_gR (pc := 19) cx hS hf fd_WornSkin_shelf q430 dX1_when_19 (fun y1 hf => ?_)
      refine lv_iload_n (pc := 22) hx hb dX1_when_22 rfl (lv_at hl 1 rfl) ?_
      refine lv_aload_n (pc := 23) hx hb dX1_when_23 rfl (lv_at hl 0 rfl) ?_
      obtain ⟨y2, h1, e9, hf⟩ := jB_some hf
      refine j_callV (pc := 24) (st1 := [va_rf y2, .int x1, va_rf y1]) (As := []) (rest := [.int x1, va_rf y1]) cx hS rfl hl.1 hm (metX1_now l _ _ _ _ (hth.at hS) e9) (jle hf) (hth.at hS) rfl (lw_V q1092 q1094 qs31 q112 q1095) pdX1_now rfl rfl (by simp only [List.map_cons, List.map_nil, List.sum_cons, List.sum_nil, jrfc]; exact Nat.le_of_ble_eq_true rfl) ⟨Nat.le_of_ble_eq_true rfl, Nat.le_of_ble_eq_true rfl⟩ dX1_when_24 rfl (fun H locs cells slots hS => ?_)
      refine lv_aload_n (pc := 27) hx hb dX1_when_27 rfl (lv_at hl 0 rfl) ?_
      refine j_gR (pc := 28) cx hS hf fd_WornSkin_shelf q430 dX1_when_28 (fun y3 hf => ?_)
      refine j_gI (pc := 31) cx hS hf fd_WornSkin_Shelf_week q259 dX1_when_31 (fun y4 hf => ?_)
      refine lv_iload_n (pc := 34) hx hb dX1_when_34 rfl (lv_at hl 2 rfl) ?_
      refine lv_iadd (pc := 35) hx hb dX1_when_35 ?_
      obtain ⟨b6, eb, hrc, hf⟩ := jrc_s hf
      refine j_nn (pc := 36) eb [.int (y4 + x2)] [.int x1, va_rf y1] rfl ?_
      obtain ⟨y5, h1, e9, hf⟩ := jB_some hf
      refine j_callV (pc := 36) (st1 := [.int y5, .int x1, va_rf y1]) (As := [.int (y4 + x2)]) (rest := [.int x1, va_rf y1]) cx hS rfl hl.1 hm (metX4_damp l _ _ _ _ _ hrc e9) (jle hf) hrc rfl (lw_V q1467 q1173 q1174 q115 q1175) pdX4_damp rfl rfl (by simp only [List.map_cons, List.map_nil, List.sum_cons, List.sum_nil, jrfc]; exact Nat.le_of_ble_eq_true rfl) ⟨Nat.le_of_ble_eq_true rfl, Nat.le_of_ble_eq_true rfl⟩ dX1_when_36 rfl (fun H locs cells slots hS => ?_)
      obtain ⟨b8, eb, hrc, hf⟩ := jrc_s hf
      refine j_nn (pc := 39) eb [.int y5, .int x1] [] rfl ?_
      obtain ⟨y7, h1, e9, hf⟩ := jB_some hf
      refine j_callV (pc := 39) (st1 := [.int y7]) (As := [.int x1, .int y5]) (rest := []) cx hS rfl hl.1 hm (metX3_isWhole l _ _ _ _ _ _ _ hrc e9) (jle hf) hrc rfl (lw_V q1305 q1306 q1307 q114 q1308) pdX3_isWhole rfl rfl (Nat.le_of_ble_eq_true rfl) ⟨Nat.le_of_ble_eq_true rfl, Nat.le_of_ble_eq_true rfl⟩ dX1_when_39 rfl (fun H locs cells slots hS => ?_)
      refine lv_if_eq (pc := 42) (tgt := 47) hx hb dX1_when_42 (by decide) (fun hc => ?_) (fun hc => ?_)
      · have hf := jI_t hf hc
        refine lv_iinc (pc := 47) (v := (x2 + 1)) (lv' := [(2, .int (x2 + 1)), (0, .ref a0), (1, .int x1)]) hx hb dX1_when_47 hl (k := 2) rfl rfl (Nat.le_of_ble_eq_true rfl) rfl (fun ls hl => ?_)
        refine lv_goto (pc := 50) (tgt := 12) hx hb dX1_when_50 (by decide) ?_
        exact ih _ _ _ _ _ _ _ _ hf hS (lv_sub hl [1, 2, 0] rfl)
      · have hf := jI_f hf hc
        exact wX1_when_45 cx e1 e2 a0 hth _ _ _ _ _ _ _ hf hS (lv_sub hl [0, 2] rfl)
theorem wX1_when_0 {N : Nat} {r : Int32} (cx : jCx p s m args meth c cX1_when "WornSkin" 3 (Option.some Jvm.ClassFile.FieldType.int) D dA H0 hs.2.2.2.2) (e1 : h'.2.2.1 = hs.2.2.1 + mc) (e2 : h'.2.2.2.1 = hs.2.2.2.1 + ms) (a0 : Nat) (hth : jTh hs a0 0) : ∀ (x1 : Int32), ∀ (h : jH) (H : Heap) (locs : List Loc) (cells slots : Nat) (ls : Array Slot), (fX1_when N a0 x1).1 h = some (r, h') → jS D dA H0 hs h H locs cells slots → lv_has ls 3 [(0, .ref a0), (1, .int x1)] → W p l e { frames := 124, cells := mc, slots := ms, locals := 2660 } s m args below meth c H locs cells slots (jQ D dA H0 below s (.returned (some (.int r))) h' mc ms) (F0 m 0 ls []) := by
  have hx := cx.1
  have hb := cx.2.1
  have hown := cx.2.2.2.1
  have hts := cx.2.2.2.2.1
  have hm : h'.2.2.1 ≤ hs.2.2.1 + mc ∧ h'.2.2.2.1 ≤ hs.2.2.2.1 + ms := ⟨Nat.le_of_eq e1, Nat.le_of_eq e2⟩
  intro x1 h H locs cells slots ls hf hS hl
  unfold fX1_when at hf
  refine lv_aload_n (pc := 0) hx hb dX1_when_0 rfl (lv_at hl 0 rfl) ?_
  refine lv_iload_n (pc := 1) hx hb dX1_when_1 rfl (lv_at hl 1 rfl) ?_
  obtain ⟨y1, h1, e9, hf⟩ := jB_some hf
  refine j_callV (pc := 2) (st1 := [.int y1]) (As := [.int x1]) (rest := []) cx hS rfl hl.1 hm (metX1_isText l _ _ _ _ _ (hth.at hS) e9) (jle hf) (hth.at hS) rfl (lw_V q1282 q1284 qs36 q112 q1285) pdX1_isText rfl rfl (Nat.le_of_ble_eq_true rfl) ⟨Nat.le_of_ble_eq_true rfl, Nat.le_of_ble_eq_true rfl⟩ dX1_when_2 rfl (fun H locs cells slots hS => ?_)
  refine lv_if_ne (pc := 5) (tgt := 10) hx hb dX1_when_5 (by decide) (fun hc => ?_) (fun hc => ?_)
  · have hf := jI_f hf hc
    refine lv_iconst (pc := 10) (v := 0) hx hb dX1_when_10 rfl ?_
    refine lv_istore_n (pc := 11) (i := 2) (lv' := [(2, .int 0), (0, .ref a0), (1, .int x1)]) hx hb dX1_when_11 rfl hl (Nat.le_of_ble_eq_true rfl) rfl (fun ls hl => ?_)
    exact wX1_when_12 cx e1 e2 a0 hth N _ _ _ _ _ _ _ _ hf hS (lv_sub hl [1, 2, 0] rfl)
  · have hf := jI_t hf hc
    refine lv_iconst (pc := 8) (v := (-1)) hx hb dX1_when_8 rfl ?_
    exact j_iret (pc := 9) cx hS hf e1 e2 dX1_when_9
theorem metX1_when (l : Launch) (N : Nat) (a0 : Nat) (x1 : Int32) (h h' : jH) (r : Int32) (hth : jcd h a0 = some 0) (hf : (fX1_when N a0 x1).1 h = some (r, h')) : jMet l yX1_when (ws_ yX1_when cX1_when 3 (Option.some Jvm.ClassFile.FieldType.int)) (124) (2660) [.ref a0, .int x1] h h' (.returned (some (.int r))) := by
  refine jStart rfl (jle hf) (Nat.le_of_ble_eq_true rfl) ?_
  intro p e s m below meth c D dA H0 mc ms ls cx hnm e1 e2 hS hl
  have hth := jTh.mk hS hth
  exact wX1_when_0 cx e1 e2 a0 hth _ _ _ _ _ _ _ hf hS hl
def fX1_need_38 (N : Nat) (a0 : Nat) : jM Int32 := jR (-1)
def fX1_need_30 (N : Nat) (a0 : Nat) (x2 : Int32) : jM Int32 := jR x2
def fX1_need_12 (N : Nat) (a0 : Nat) : Nat → Int32 → Int32 → jM Int32
  | 0, _, _ => jE
  | n + 1, x1, x2 => if 9 < x2 then (fX1_need_38 N a0) else (jB (jgR [0] 1 (some a0)) fun y1 => jB (jrc 2 y1) fun b3 => jB (fX3_isWhole N b3 x1 x2) fun y2 => if y2 = 0 then (fX1_need_12 N a0 n x1 (x2 + 1)) else (fX1_need_30 N a0 x2))
def fX1_need (N : Nat) (a0 : Nat) (x1 : Int32) : jM Int32 := jB (fX1_isText a0 x1) fun y1 => if y1 = 0 then (jR (-1)) else (fX1_need_12 N a0 N x1 0)
theorem wX1_need_38 {N : Nat} {r : Int32} (cx : jCx p s m args meth c cX1_need "WornSkin" 3 (Option.some Jvm.ClassFile.FieldType.int) D dA H0 hs.2.2.2.2) (e1 : h'.2.2.1 = hs.2.2.1 + mc) (e2 : h'.2.2.2.1 = hs.2.2.2.1 + ms) (a0 : Nat) (hth : jTh hs a0 0) : ∀ (h : jH) (H : Heap) (locs : List Loc) (cells slots : Nat) (ls : Array Slot), (fX1_need_38 N a0).1 h = some (r, h') → jS D dA H0 hs h H locs cells slots → lv_has ls 3 [(0, .ref a0)] → W p l e { frames := 124, cells := mc, slots := ms, locals := 2660 } s m args below meth c H locs cells slots (jQ D dA H0 below s (.returned (some (.int r))) h' mc ms) (F0 m 38 ls []) := by
  have hx := cx.1
  have hb := cx.2.1
  have hown := cx.2.2.2.1
  have hts := cx.2.2.2.2.1
  have hm : h'.2.2.1 ≤ hs.2.2.1 + mc ∧ h'.2.2.2.1 ≤ hs.2.2.2.1 + ms := ⟨Nat.le_of_eq e1, Nat.le_of_eq e2⟩
  intro h H locs cells slots ls hf hS hl
  unfold fX1_need_38 at hf
  refine lv_iconst (pc := 38) (v := (-1)) hx hb dX1_need_38 rfl ?_
  exact j_iret (pc := 39) cx hS hf e1 e2 dX1_need_39
theorem wX1_need_30 {N : Nat} {r : Int32} (cx : jCx p s m args meth c cX1_need "WornSkin" 3 (Option.some Jvm.ClassFile.FieldType.int) D dA H0 hs.2.2.2.2) (e1 : h'.2.2.1 = hs.2.2.1 + mc) (e2 : h'.2.2.2.1 = hs.2.2.2.1 + ms) (a0 : Nat) (hth : jTh hs a0 0) : ∀ (x2 : Int32), ∀ (h : jH) (H : Heap) (locs : List Loc) (cells slots : Nat) (ls : Array Slot), (fX1_need_30 N a0 x2).1 h = some (r, h') → jS D dA H0 hs h H locs cells slots → lv_has ls 3 [(0, .ref a0), (2, .int x2)] → W p l e { frames := 124, cells := mc, slots := ms, locals := 2660 } s m args below meth c H locs cells slots (jQ D dA H0 below s (.returned (some (.int r))) h' mc ms) (F0 m 30 ls []) := by
  have hx := cx.1
  have hb := cx.2.1
  have hown := cx.2.2.2.1
  have hts := cx.2.2.2.2.1
  have hm : h'.2.2.1 ≤ hs.2.2.1 + mc ∧ h'.2.2.2.1 ≤ hs.2.2.2.1 + ms := ⟨Nat.le_of_eq e1, Nat.le_of_eq e2⟩
  intro x2 h H locs cells slots ls hf hS hl
  unfold fX1_need_30 at hf
  refine lv_iload_n (pc := 30) hx hb dX1_need_30 rfl (lv_at hl 1 rfl) ?_
  exact j_iret (pc := 31) cx hS hf e1 e2 dX1_need_31
theorem wX1_need_12 {N : Nat} {r : Int32} (cx : jCx p s m args meth c cX1_need "WornSkin" 3 (Option.some Jvm.ClassFile.FieldType.int) D dA H0 hs.2.2.2.2) (e1 : h'.2.2.1 = hs.2.2.1 + mc) (e2 : h'.2.2.2.1 = hs.2.2.2.1 + ms) (a0 : Nat) (hth : jTh hs a0 0) : ∀ (n : Nat) (x1 : Int32) (x2 : Int32), ∀ (h : jH) (H : Heap) (locs : List Loc) (cells slots : Nat) (ls : Array Slot), (fX1_need_12 N a0 n x1 x2).1 h = some (r, h') → jS D dA H0 hs h H locs cells slots → lv_has ls 3 [(0, .ref a0), (1, .int x1), (2, .int x2)] → W p l e { frames := 124, cells := mc, slots := ms, locals := 2660 } s m args below meth c H locs cells slots (jQ D dA H0 below s (.returned (some (.int r))) h' mc ms) (F0 m 12 ls []) := by
  have hx := cx.1
  have hb := cx.2.1
  have hown := cx.2.2.2.1
  have hts := cx.2.2.2.2.1
  have hm : h'.2.2.1 ≤ hs.2.2.1 + mc ∧ h'.2.2.2.1 ≤ hs.2.2.2.1 + ms := ⟨Nat.le_of_eq e1, Nat.le_of_eq e2⟩
  intro n
  induction n with
  | zero =>
    intro x1 x2 h H locs cells slots ls hf hS hl
    exact jE_f hf
  | succ n ih =>
    intro x1 x2 h H locs cells slots ls hf hS hl
    unfold fX1_need_12 at hf
    refine lv_iload_n (pc := 12) hx hb dX1_need_12 rfl (lv_at hl 2 rfl) ?_
    refine lv_bipush (pc := 13) (v := 9) hx hb dX1_need_13 rfl ?_
    refine lv_icmp_gt (pc := 15) (tgt := 38) hx hb dX1_need_15 (by decide) (fun hc => ?_) (fun hc => ?_)
    · have hf := jI_t hf hc
      exact wX1_need_38 cx e1 e2 a0 hth _ _ _ _ _ _ hf hS (lv_sub hl [0] rfl)
    · have hf := jI_f hf hc
      refine lv_aload_n (pc := 18) hx hb dX1_need_18 rfl (lv_at hl 0 rfl) ?_
      refine j_gR (pc := 19) cx hS hf fd_WornSkin_shelf q430 dX1_need_19 (fun y1 hf => ?_)
      refine lv_iload_n (pc := 22) hx hb dX1_need_22 rfl (lv_at hl 1 rfl) ?_
      refine lv_iload_n (pc := 23) hx hb dX1_need_23 rfl (lv_at hl 2 rfl) ?_
      obtain ⟨b3, eb, hrc, hf⟩ := jrc_s hf
      refine j_nn (pc := 24) eb [.int x2, .int x1] [] rfl ?_
      obtain ⟨y2, h1, e9, hf⟩ := jB_some hf
      refine j_callV (pc := 24) (st1 := [.int y2]) (As := [.int x1, .int x2]) (rest := []) cx hS rfl hl.1 hm (metX3_isWhole l _ _ _ _ _ _ _ hrc e9) (jle hf) hrc rfl (lw_V q1305 q1306 q1307 q114 q1308) pdX3_isWhole rfl rfl (Nat.le_of_ble_eq_true rfl) ⟨Nat.le_of_ble_eq_true rfl, Nat.le_of_ble_eq_true rfl⟩ dX1_need_24 rfl (fun H locs cells slots hS => ?_)
      refine lv_if_eq (pc := 27) (tgt := 32) hx hb dX1_need_27 (by decide) (fun hc => ?_) (fun hc => ?_)
      · have hf := jI_t hf hc
        refine lv_iinc (pc := 32) (v := (x2 + 1)) (lv' := [(2, .int (x2 + 1)), (0, .ref a0), (1, .int x1)]) hx hb dX1_need_32 hl (k := 2) rfl rfl (Nat.le_of_ble_eq_true rfl) rfl (fun ls hl => ?_)
        refine lv_goto (pc := 35) (tgt := 12) hx hb dX1_need_35 (by decide) ?_
        exact ih _ _ _ _ _ _ _ _ hf hS (lv_sub hl [1, 2, 0] rfl)
      · have hf := jI_f hf hc
        exact wX1_need_30 cx e1 e2 a0 hth _ _ _ _ _ _ _ hf hS (lv_sub hl [0, 2] rfl)
theorem wX1_need_0 {N : Nat} {r : Int32} (cx : jCx p s m args meth c cX1_need "WornSkin" 3 (Option.some Jvm.ClassFile.FieldType.int) D dA H0 hs.2.2.2.2) (e1 : h'.2.2.1 = hs.2.2.1 + mc) (e2 : h'.2.2.2.1 = hs.2.2.2.1 + ms) (a0 : Nat) (hth : jTh hs a0 0) : ∀ (x1 : Int32), ∀ (h : jH) (H : Heap) (locs : List Loc) (cells slots : Nat) (ls : Array Slot), (fX1_need N a0 x1).1 h = some (r, h') → jS D dA H0 hs h H locs cells slots → lv_has ls 3 [(0, .ref a0), (1, .int x1)] → W p l e { frames := 124, cells := mc, slots := ms, locals := 2660 } s m args below meth c H locs cells slots (jQ D dA H0 below s (.returned (some (.int r))) h' mc ms) (F0 m 0 ls []) := by
  have hx := cx.1
  have hb := cx.2.1
  have hown := cx.2.2.2.1
  have hts := cx.2.2.2.2.1
  have hm : h'.2.2.1 ≤ hs.2.2.1 + mc ∧ h'.2.2.2.1 ≤ hs.2.2.2.1 + ms := ⟨Nat.le_of_eq e1, Nat.le_of_eq e2⟩
  intro x1 h H locs cells slots ls hf hS hl
  unfold fX1_need at hf
  refine lv_aload_n (pc := 0) hx hb dX1_need_0 rfl (lv_at hl 0 rfl) ?_
  refine lv_iload_n (pc := 1) hx hb dX1_need_1 rfl (lv_at hl 1 rfl) ?_
  obtain ⟨y1, h1, e9, hf⟩ := jB_some hf
  refine j_callV (pc := 2) (st1 := [.int y1]) (As := [.int x1]) (rest := []) cx hS rfl hl.1 hm (metX1_isText l _ _ _ _ _ (hth.at hS) e9) (jle hf) (hth.at hS) rfl (lw_V q1282 q1284 qs36 q112 q1285) pdX1_isText rfl rfl (Nat.le_of_ble_eq_true rfl) ⟨Nat.le_of_ble_eq_true rfl, Nat.le_of_ble_eq_true rfl⟩ dX1_need_2 rfl (fun H locs cells slots hS => ?_)
  refine lv_if_ne (pc := 5) (tgt := 10) hx hb dX1_need_5 (by decide) (fun hc => ?_) (fun hc => ?_)
  · have hf := jI_f hf hc
    refine lv_iconst (pc := 10) (v := 0) hx hb dX1_need_10 rfl ?_
    refine lv_istore_n (pc := 11) (i := 2) (lv' := [(2, .int 0), (0, .ref a0), (1, .int x1)]) hx hb dX1_need_11 rfl hl (Nat.le_of_ble_eq_true rfl) rfl (fun ls hl => ?_)
    exact wX1_need_12 cx e1 e2 a0 hth N _ _ _ _ _ _ _ _ hf hS (lv_sub hl [1, 2, 0] rfl)
  · have hf := jI_t hf hc
    refine lv_iconst (pc := 8) (v := (-1)) hx hb dX1_need_8 rfl ?_
    exact j_iret (pc := 9) cx hS hf e1 e2 dX1_need_9
theorem metX1_need (l : Launch) (N : Nat) (a0 : Nat) (x1 : Int32) (h h' : jH) (r : Int32) (hth : jcd h a0 = some 0) (hf : (fX1_need N a0 x1).1 h = some (r, h')) : jMet l yX1_need (ws_ yX1_need cX1_need 3 (Option.some Jvm.ClassFile.FieldType.int)) (124) (2660) [.ref a0, .int x1] h h' (.returned (some (.int r))) := by
  refine jStart rfl (jle hf) (Nat.le_of_ble_eq_true rfl) ?_
  intro p e s m below meth c D dA H0 mc ms ls cx hnm e1 e2 hS hl
  have hth := jTh.mk hS hth
  exact wX1_need_0 cx e1 e2 a0 hth _ _ _ _ _ _ _ hf hS hl
def fX1_psalter_41 (N : Nat) (a0 : Nat) (x2 : Int32) : jM Int32 := jR x2
def fX1_psalter_35 (N : Nat) (k14 : Int32 → Int32 → Int32 → jM Int32) (a0 : Nat) (x1 : Int32) (x2 : Int32) (x3 : Int32) : jM Int32 := k14 x1 x2 (x3 + 1)
def fX1_psalter_14 (N : Nat) (a0 : Nat) : Nat → Int32 → Int32 → Int32 → jM Int32
  | 0, _, _, _ => jE
  | n + 1, x1, x2, x3 => if 9 < x3 then (fX1_psalter_41 N a0 x2) else (jB (jgR [0] 1 (some a0)) fun y1 => jB (jrc 2 y1) fun b3 => jB (fX3_isWhole N b3 x1 x3) fun y2 => if y2 = 0 then (fX1_psalter_35 N (fX1_psalter_14 N a0 n) a0 x1 x2 x3) else (fX1_psalter_35 N (fX1_psalter_14 N a0 n) a0 x1 (x2 + 1) x3))
def fX1_psalter (N : Nat) (a0 : Nat) (x1 : Int32) : jM Int32 := jB (fX1_isText a0 x1) fun y1 => if y1 = 0 then (jR (-1)) else (fX1_psalter_14 N a0 N x1 0 0)
theorem wX1_psalter_41 {N : Nat} {r : Int32} (cx : jCx p s m args meth c cX1_psalter "WornSkin" 4 (Option.some Jvm.ClassFile.FieldType.int) D dA H0 hs.2.2.2.2) (e1 : h'.2.2.1 = hs.2.2.1 + mc) (e2 : h'.2.2.2.1 = hs.2.2.2.1 + ms) (a0 : Nat) (hth : jTh hs a0 0) : ∀ (x2 : Int32), ∀ (h : jH) (H : Heap) (locs : List Loc) (cells slots : Nat) (ls : Array Slot), (fX1_psalter_41 N a0 x2).1 h = some (r, h') → jS D dA H0 hs h H locs cells slots → lv_has ls 4 [(0, .ref a0), (2, .int x2)] → W p l e { frames := 124, cells := mc, slots := ms, locals := 2660 } s m args below meth c H locs cells slots (jQ D dA H0 below s (.returned (some (.int r))) h' mc ms) (F0 m 41 ls []) := by
  have hx := cx.1
  have hb := cx.2.1
  have hown := cx.2.2.2.1
  have hts := cx.2.2.2.2.1
  have hm : h'.2.2.1 ≤ hs.2.2.1 + mc ∧ h'.2.2.2.1 ≤ hs.2.2.2.1 + ms := ⟨Nat.le_of_eq e1, Nat.le_of_eq e2⟩
  intro x2 h H locs cells slots ls hf hS hl
  unfold fX1_psalter_41 at hf
  refine lv_iload_n (pc := 41) hx hb dX1_psalter_41 rfl (lv_at hl 1 rfl) ?_
  exact j_iret (pc := 42) cx hS hf e1 e2 dX1_psalter_42
theorem wX1_psalter_35 {N : Nat} {k14 : Int32 → Int32 → Int32 → jM Int32} {r : Int32} (cx : jCx p s m args meth c cX1_psalter "WornSkin" 4 (Option.some Jvm.ClassFile.FieldType.int) D dA H0 hs.2.2.2.2) (e1 : h'.2.2.1 = hs.2.2.1 + mc) (e2 : h'.2.2.2.1 = hs.2.2.2.1 + ms) (a0 : Nat) (hth : jTh hs a0 0) (hk14 : ∀ (x1 : Int32) (x2 : Int32) (x3 : Int32), ∀ (h : jH) (H : Heap) (locs : List Loc) (cells slots : Nat) (ls : Array Slot), (k14 x1 x2 x3).1 h = some (r, h') → jS D dA H0 hs h H locs cells slots → lv_has ls 4 [(0, .ref a0), (1, .int x1), (2, .int x2), (3, .int x3)] → W p l e { frames := 124, cells := mc, slots := ms, locals := 2660 } s m args below meth c H locs cells slots (jQ D dA H0 below s (.returned (some (.int r))) h' mc ms) (F0 m 14 ls [])) : ∀ (x1 : Int32) (x2 : Int32) (x3 : Int32), ∀ (h : jH) (H : Heap) (locs : List Loc) (cells slots : Nat) (ls : Array Slot), (fX1_psalter_35 N k14 a0 x1 x2 x3).1 h = some (r, h') → jS D dA H0 hs h H locs cells slots → lv_has ls 4 [(0, .ref a0), (1, .int x1), (2, .int x2), (3, .int x3)] → W p l e { frames := 124, cells := mc, slots := ms, locals := 2660 } s m args below meth c H locs cells slots (jQ D dA H0 below s (.returned (some (.int r))) h' mc ms) (F0 m 35 ls []) := by
  have hx := cx.1
  have hb := cx.2.1
  have hown := cx.2.2.2.1
  have hts := cx.2.2.2.2.1
  have hm : h'.2.2.1 ≤ hs.2.2.1 + mc ∧ h'.2.2.2.1 ≤ hs.2.2.2.1 + ms := ⟨Nat.le_of_eq e1, Nat.le_of_eq e2⟩
  intro x1 x2 x3 h H locs cells slots ls hf hS hl
  unfold fX1_psalter_35 at hf
  refine lv_iinc (pc := 35) (v := (x3 + 1)) (lv' := [(3, .int (x3 + 1)), (0, .ref a0), (1, .int x1), (2, .int x2)]) hx hb dX1_psalter_35 hl (k := 3) rfl rfl (Nat.le_of_ble_eq_true rfl) rfl (fun ls hl => ?_)
  refine lv_goto (pc := 38) (tgt := 14) hx hb dX1_psalter_38 (by decide) ?_
  exact hk14 _ _ _ _ _ _ _ _ _ hf hS (lv_sub hl [1, 2, 3, 0] rfl)
theorem wX1_psalter_14 {N : Nat} {r : Int32} (cx : jCx p s m args meth c cX1_psalter "WornSkin" 4 (Option.some Jvm.ClassFile.FieldType.int) D dA H0 hs.2.2.2.2) (e1 : h'.2.2.1 = hs.2.2.1 + mc) (e2 : h'.2.2.2.1 = hs.2.2.2.1 + ms) (a0 : Nat) (hth : jTh hs a0 0) : ∀ (n : Nat) (x1 : Int32) (x2 : Int32) (x3 : Int32), ∀ (h : jH) (H : Heap) (locs : List Loc) (cells slots : Nat) (ls : Array Slot), (fX1_psalter_14 N a0 n x1 x2 x3).1 h = some (r, h') → jS D dA H0 hs h H locs cells slots → lv_has ls 4 [(0, .ref a0), (1, .int x1), (2, .int x2), (3, .int x3)] → W p l e { frames := 124, cells := mc, slots := ms, locals := 2660 } s m args below meth c H locs cells slots (jQ D dA H0 below s (.returned (some (.int r))) h' mc ms) (F0 m 14 ls []) := by
  have hx := cx.1
  have hb := cx.2.1
  have hown := cx.2.2.2.1
  have hts := cx.2.2.2.2.1
  have hm : h'.2.2.1 ≤ hs.2.2.1 + mc ∧ h'.2.2.2.1 ≤ hs.2.2.2.1 + ms := ⟨Nat.le_of_eq e1, Nat.le_of_eq e2⟩
  intro n
  induction n with
  | zero =>
    intro x1 x2 x3 h H locs cells slots ls hf hS hl
    exact jE_f hf
  | succ n ih =>
    intro x1 x2 x3 h H locs cells slots ls hf hS hl
    unfold fX1_psalter_14 at hf
    refine lv_iload_n (pc := 14) hx hb dX1_psalter_14 rfl (lv_at hl 3 rfl) ?_
    refine lv_bipush (pc := 15) (v := 9) hx hb dX1_psalter_15 rfl ?_
    refine lv_icmp_gt (pc := 17) (tgt := 41) hx hb dX1_psalter_17 (by decide) (fun hc => ?_) (fun hc => ?_)
    · have hf := jI_t hf hc
      exact wX1_psalter_41 cx e1 e2 a0 hth _ _ _ _ _ _ _ hf hS (lv_sub hl [0, 2] rfl)
    · have hf := jI_f hf hc
      refine lv_aload_n (pc := 20) hx hb dX1_psalter_20 rfl (lv_at hl 0 rfl) ?_
      refine j_gR (pc := 21) cx hS hf fd_WornSkin_shelf q430 dX1_psalter_21 (fun y1 hf => ?_)
      refine lv_iload_n (pc := 24) hx hb dX1_psalter_24 rfl (lv_at hl 1 rfl) ?_
      refine lv_iload_n (pc := 25) hx hb dX1_psalter_25 rfl (lv_at hl 3 rfl) ?_
      obtain ⟨b3, eb, hrc, hf⟩ := jrc_s hf
      refine j_nn (pc := 26) eb [.int x3, .int x1] [] rfl ?_
      obtain ⟨y2, h1, e9, hf⟩ := jB_some hf
      refine j_callV (pc := 26) (st1 := [.int y2]) (As := [.int x1, .int x3]) (rest := []) cx hS rfl hl.1 hm (metX3_isWhole l _ _ _ _ _ _ _ hrc e9) (jle hf) hrc rfl (lw_V q1305 q1306 q1307 q114 q1308) pdX3_isWhole rfl rfl (Nat.le_of_ble_eq_true rfl) ⟨Nat.le_of_ble_eq_true rfl, Nat.le_of_ble_eq_true rfl⟩ dX1_psalter_26 rfl (fun H locs cells slots hS => ?_)
      refine lv_if_eq (pc := 29) (tgt := 35) hx hb dX1_psalter_29 (by decide) (fun hc => ?_) (fun hc => ?_)
      · have hf := jI_t hf hc
        exact wX1_psalter_35 cx e1 e2 a0 hth ih _ _ _ _ _ _ _ _ _ hf hS hl
      · have hf := jI_f hf hc
        refine lv_iinc (pc := 32) (v := (x2 + 1)) (lv' := [(2, .int (x2 + 1)), (0, .ref a0), (1, .int x1), (3, .int x3)]) hx hb dX1_psalter_32 hl (k := 2) rfl rfl (Nat.le_of_ble_eq_true rfl) rfl (fun ls hl => ?_)
        exact wX1_psalter_35 cx e1 e2 a0 hth ih _ _ _ _ _ _ _ _ _ hf hS (lv_sub hl [1, 2, 0, 3] rfl)
theorem wX1_psalter_0 {N : Nat} {r : Int32} (cx : jCx p s m args meth c cX1_psalter "WornSkin" 4 (Option.some Jvm.ClassFile.FieldType.int) D dA H0 hs.2.2.2.2) (e1 : h'.2.2.1 = hs.2.2.1 + mc) (e2 : h'.2.2.2.1 = hs.2.2.2.1 + ms) (a0 : Nat) (hth : jTh hs a0 0) : ∀ (x1 : Int32), ∀ (h : jH) (H : Heap) (locs : List Loc) (cells slots : Nat) (ls : Array Slot), (fX1_psalter N a0 x1).1 h = some (r, h') → jS D dA H0 hs h H locs cells slots → lv_has ls 4 [(0, .ref a0), (1, .int x1)] → W p l e { frames := 124, cells := mc, slots := ms, locals := 2660 } s m args below meth c H locs cells slots (jQ D dA H0 below s (.returned (some (.int r))) h' mc ms) (F0 m 0 ls []) := by
  have hx := cx.1
  have hb := cx.2.1
  have hown := cx.2.2.2.1
  have hts := cx.2.2.2.2.1
  have hm : h'.2.2.1 ≤ hs.2.2.1 + mc ∧ h'.2.2.2.1 ≤ hs.2.2.2.1 + ms := ⟨Nat.le_of_eq e1, Nat.le_of_eq e2⟩
  intro x1 h H locs cells slots ls hf hS hl
  unfold fX1_psalter at hf
  refine lv_aload_n (pc := 0) hx hb dX1_psalter_0 rfl (lv_at hl 0 rfl) ?_
  refine lv_iload_n (pc := 1) hx hb dX1_psalter_1 rfl (lv_at hl 1 rfl) ?_
  obtain ⟨y1, h1, e9, hf⟩ := jB_some hf
  refine j_callV (pc := 2) (st1 := [.int y1]) (As := [.int x1]) (rest := []) cx hS rfl hl.1 hm (metX1_isText l _ _ _ _ _ (hth.at hS) e9) (jle hf) (hth.at hS) rfl (lw_V q1282 q1284 qs36 q112 q1285) pdX1_isText rfl rfl (Nat.le_of_ble_eq_true rfl) ⟨Nat.le_of_ble_eq_true rfl, Nat.le_of_ble_eq_true rfl⟩ dX1_psalter_2 rfl (fun H locs cells slots hS => ?_)
  refine lv_if_ne (pc := 5) (tgt := 10) hx hb dX1_psalter_5 (by decide) (fun hc => ?_) (fun hc => ?_)
  · have hf := jI_f hf hc
    refine lv_iconst (pc := 10) (v := 0) hx hb dX1_psalter_10 rfl ?_
    refine lv_istore_n (pc := 11) (i := 2) (lv' := [(2, .int 0), (0, .ref a0), (1, .int x1)]) hx hb dX1_psalter_11 rfl hl (Nat.le_of_ble_eq_true rfl) rfl (fun ls hl => ?_)
    refine lv_iconst (pc := 12) (v := 0) hx hb dX1_psalter_12 rfl ?_
    refine lv_istore_n (pc := 13) (i := 3) (lv' := [(3, .int 0), (2, .int 0), (0, .ref a0), (1, .int x1)]) hx hb dX1_psalter_13 rfl hl (Nat.le_of_ble_eq_true rfl) rfl (fun ls hl => ?_)
    exact wX1_psalter_14 cx e1 e2 a0 hth N _ _ _ _ _ _ _ _ _ hf hS (lv_sub hl [2, 3, 1, 0] rfl)
  · have hf := jI_t hf hc
    refine lv_iconst (pc := 8) (v := (-1)) hx hb dX1_psalter_8 rfl ?_
    exact j_iret (pc := 9) cx hS hf e1 e2 dX1_psalter_9
theorem metX1_psalter (l : Launch) (N : Nat) (a0 : Nat) (x1 : Int32) (h h' : jH) (r : Int32) (hth : jcd h a0 = some 0) (hf : (fX1_psalter N a0 x1).1 h = some (r, h')) : jMet l yX1_psalter (ws_ yX1_psalter cX1_psalter 4 (Option.some Jvm.ClassFile.FieldType.int)) (124) (2660) [.ref a0, .int x1] h h' (.returned (some (.int r))) := by
  refine jStart rfl (jle hf) (Nat.le_of_ble_eq_true rfl) ?_
  intro p e s m below meth c D dA H0 mc ms ls cx hnm e1 e2 hS hl
  have hth := jTh.mk hS hth
  exact wX1_psalter_0 cx e1 e2 a0 hth _ _ _ _ _ _ _ hf hS hl
def fX1_isLayer_50 (N : Nat) (a0 : Nat) : jM Int32 := jRn .boolean 0
def fX1_isLayer_44 (N : Nat) (k2 : Int32 → Int32 → jM Int32) (a0 : Nat) (x1 : Int32) (x2 : Int32) : jM Int32 := k2 x1 (x2 + 1)
def fX1_isLayer_36 (N : Nat) (a0 : Nat) : jM Int32 := jRn .boolean 1
def fX1_isLayer_10 (N : Nat) (k2 : Int32 → Int32 → jM Int32) (a0 : Nat) : Nat → Int32 → Int32 → Int32 → jM Int32
  | 0, _, _, _ => jE
  | n + 1, x1, x2, x3 => jB (jgR [0] 1 (some a0)) fun y1 => jB (jgR [2] 5 y1) fun y2 => jB (jaI 0 y2 x2) fun y3 => if y3 ≤ x3 then (fX1_isLayer_44 N k2 a0 x1 x2) else (jB (jgR [0] 1 (some a0)) fun y4 => jB (jrc 2 y4) fun b6 => jB (fX3_layer b6 x2 x3) fun y5 => if y5 = x1 then (fX1_isLayer_36 N a0) else (fX1_isLayer_10 N k2 a0 n x1 x2 (x3 + 1)))
def fX1_isLayer_2 (N : Nat) (a0 : Nat) : Nat → Int32 → Int32 → jM Int32
  | 0, _, _ => jE
  | n + 1, x1, x2 => if 18 ≤ x2 then (fX1_isLayer_50 N a0) else (fX1_isLayer_10 N (fX1_isLayer_2 N a0 n) a0 N x1 x2 0)
def fX1_isLayer (N : Nat) (a0 : Nat) (x1 : Int32) : jM Int32 := fX1_isLayer_2 N a0 N x1 0
theorem wX1_isLayer_50 {N : Nat} {r : Int32} (cx : jCx p s m args meth c cX1_isLayer "WornSkin" 4 (Option.some Jvm.ClassFile.FieldType.boolean) D dA H0 hs.2.2.2.2) (e1 : h'.2.2.1 = hs.2.2.1 + mc) (e2 : h'.2.2.2.1 = hs.2.2.2.1 + ms) (a0 : Nat) (hth : jTh hs a0 0) : ∀ (h : jH) (H : Heap) (locs : List Loc) (cells slots : Nat) (ls : Array Slot), (fX1_isLayer_50 N a0).1 h = some (r, h') → jS D dA H0 hs h H locs cells slots → lv_has ls 4 [(0, .ref a0)] → W p l e { frames := 1, cells := mc, slots := ms, locals := 22 } s m args below meth c H locs cells slots (jQ D dA H0 below s (.returned (some (.int r))) h' mc ms) (F0 m 50 ls []) := by
  have hx := cx.1
  have hb := cx.2.1
  have hown := cx.2.2.2.1
  have hts := cx.2.2.2.2.1
  have hm : h'.2.2.1 ≤ hs.2.2.1 + mc ∧ h'.2.2.2.1 ≤ hs.2.2.2.1 + ms := ⟨Nat.le_of_eq e1, Nat.le_of_eq e2⟩
  intro h H locs cells slots ls hf hS hl
  unfold fX1_isLayer_50 at hf
  refine lv_iconst (pc := 50) (v := 0) hx hb dX1_isLayer_50 rfl ?_
  exact j_zret (pc := 51) cx (Or.inl rfl) hS hf e1 e2 dX1_isLayer_51
theorem wX1_isLayer_44 {N : Nat} {k2 : Int32 → Int32 → jM Int32} {r : Int32} (cx : jCx p s m args meth c cX1_isLayer "WornSkin" 4 (Option.some Jvm.ClassFile.FieldType.boolean) D dA H0 hs.2.2.2.2) (e1 : h'.2.2.1 = hs.2.2.1 + mc) (e2 : h'.2.2.2.1 = hs.2.2.2.1 + ms) (a0 : Nat) (hth : jTh hs a0 0) (hk2 : ∀ (x1 : Int32) (x2 : Int32), ∀ (h : jH) (H : Heap) (locs : List Loc) (cells slots : Nat) (ls : Array Slot), (k2 x1 x2).1 h = some (r, h') → jS D dA H0 hs h H locs cells slots → lv_has ls 4 [(0, .ref a0), (1, .int x1), (2, .int x2)] → W p l e { frames := 1, cells := mc, slots := ms, locals := 22 } s m args below meth c H locs cells slots (jQ D dA H0 below s (.returned (some (.int r))) h' mc ms) (F0 m 2 ls [])) : ∀ (x1 : Int32) (x2 : Int32), ∀ (h : jH) (H : Heap) (locs : List Loc) (cells slots : Nat) (ls : Array Slot), (fX1_isLayer_44 N k2 a0 x1 x2).1 h = some (r, h') → jS D dA H0 hs h H locs cells slots → lv_has ls 4 [(0, .ref a0), (1, .int x1), (2, .int x2)] → W p l e { frames := 1, cells := mc, slots := ms, locals := 22 } s m args below meth c H locs cells slots (jQ D dA H0 below s (.returned (some (.int r))) h' mc ms) (F0 m 44 ls []) := by
  have hx := cx.1
  have hb := cx.2.1
  have hown := cx.2.2.2.1
  have hts := cx.2.2.2.2.1
  have hm : h'.2.2.1 ≤ hs.2.2.1 + mc ∧ h'.2.2.2.1 ≤ hs.2.2.2.1 + ms := ⟨Nat.le_of_eq e1, Nat.le_of_eq e2⟩
  intro x1 x2 h H locs cells slots ls hf hS hl
  unfold fX1_isLayer_44 at hf
  refine lv_iinc (pc := 44) (v := (x2 + 1)) (lv' := [(2, .int (x2 + 1)), (0, .ref a0), (1, .int x1)]) hx hb dX1_isLayer_44 hl (k := 2) rfl rfl (Nat.le_of_ble_eq_true rfl) rfl (fun ls hl => ?_)
  refine lv_goto (pc := 47) (tgt := 2) hx hb dX1_isLayer_47 (by decide) ?_
  exact hk2 _ _ _ _ _ _ _ _ hf hS (lv_sub hl [1, 2, 0] rfl)
theorem wX1_isLayer_36 {N : Nat} {r : Int32} (cx : jCx p s m args meth c cX1_isLayer "WornSkin" 4 (Option.some Jvm.ClassFile.FieldType.boolean) D dA H0 hs.2.2.2.2) (e1 : h'.2.2.1 = hs.2.2.1 + mc) (e2 : h'.2.2.2.1 = hs.2.2.2.1 + ms) (a0 : Nat) (hth : jTh hs a0 0) : ∀ (h : jH) (H : Heap) (locs : List Loc) (cells slots : Nat) (ls : Array Slot), (fX1_isLayer_36 N a0).1 h = some (r, h') → jS D dA H0 hs h H locs cells slots → lv_has ls 4 [(0, .ref a0)] → W p l e { frames := 1, cells := mc, slots := ms, locals := 22 } s m args below meth c H locs cells slots (jQ D dA H0 below s (.returned (some (.int r))) h' mc ms) (F0 m 36 ls []) := by
  have hx := cx.1
  have hb := cx.2.1
  have hown := cx.2.2.2.1
  have hts := cx.2.2.2.2.1
  have hm : h'.2.2.1 ≤ hs.2.2.1 + mc ∧ h'.2.2.2.1 ≤ hs.2.2.2.1 + ms := ⟨Nat.le_of_eq e1, Nat.le_of_eq e2⟩
  intro h H locs cells slots ls hf hS hl
  unfold fX1_isLayer_36 at hf
  refine lv_iconst (pc := 36) (v := 1) hx hb dX1_isLayer_36 rfl ?_
  exact j_zret (pc := 37) cx (Or.inl rfl) hS hf e1 e2 dX1_isLayer_37
theorem wX1_isLayer_10 {N : Nat} {k2 : Int32 → Int32 → jM Int32} {r : Int32} (cx : jCx p s m args meth c cX1_isLayer "WornSkin" 4 (Option.some Jvm.ClassFile.FieldType.boolean) D dA H0 hs.2.2.2.2) (e1 : h'.2.2.1 = hs.2.2.1 + mc) (e2 : h'.2.2.2.1 = hs.2.2.2.1 + ms) (a0 : Nat) (hth : jTh hs a0 0) (hk2 : ∀ (x1 : Int32) (x2 : Int32), ∀ (h : jH) (H : Heap) (locs : List Loc) (cells slots : Nat) (ls : Array Slot), (k2 x1 x2).1 h = some (r, h') → jS D dA H0 hs h H locs cells slots → lv_has ls 4 [(0, .ref a0), (1, .int x1), (2, .int x2)] → W p l e { frames := 1, cells := mc, slots := ms, locals := 22 } s m args below meth c H locs cells slots (jQ D dA H0 below s (.returned (some (.int r))) h' mc ms) (F0 m 2 ls [])) : ∀ (n : Nat) (x1 : Int32) (x2 : Int32) (x3 : Int32), ∀ (h : jH) (H : Heap) (locs : List Loc) (cells slots : Nat) (ls : Array Slot), (fX1_isLayer_10 N k2 a0 n x1 x2 x3).1 h = some (r, h') → jS D dA H0 hs h H locs cells slots → lv_has ls 4 [(0, .ref a0), (1, .int x1), (2, .int x2), (3, .int x3)] → W p l e { frames := 1, cells := mc, slots := ms, locals := 22 } s m args below meth c H locs cells slots (jQ D dA H0 below s (.returned (some (.int r))) h' mc ms) (F0 m 10 ls []) := by
  have hx := cx.1
  have hb := cx.2.1
  have hown := cx.2.2.2.1
  have hts := cx.2.2.2.2.1
  have hm : h'.2.2.1 ≤ hs.2.2.1 + mc ∧ h'.2.2.2.1 ≤ hs.2.2.2.1 + ms := ⟨Nat.le_of_eq e1, Nat.le_of_eq e2⟩
  intro n
  induction n with
  | zero =>
    intro x1 x2 x3 h H locs cells slots ls hf hS hl
    exact jE_f hf
  | succ n ih =>
    intro x1 x2 x3 h H locs cells slots ls hf hS hl
    unfold fX1_isLayer_10 at hf
    refine lv_iload_n (pc := 10) hx hb dX1_isLayer_10 rfl (lv_at hl 3 rfl) ?_
    refine lv_aload_n (pc := 11) hx hb dX1_isLayer_11 rfl (lv_at hl 0 rfl) ?_
    refine j_gR (pc := 12) cx hS hf fd_WornSkin_shelf q430 dX1_isLayer_12 (fun y1 hf => ?_)
    refine j_gR (pc := 15) cx hS hf fd_WornSkin_Shelf_many q268 dX1_isLayer_15 (fun y2 hf => ?_)
    refine lv_iload_n (pc := 18) hx hb dX1_isLayer_18 rfl (lv_at hl 2 rfl) ?_
    refine j_aI (pc := 19) cx hS hf rfl dX1_isLayer_19 (fun y3 hf => ?_)
    refine lv_icmp_ge (pc := 20) (tgt := 44) hx hb dX1_isLayer_20 (by decide) (fun hc => ?_) (fun hc => ?_)
    · have hf := jI_t hf hc
      exact wX1_isLayer_44 cx e1 e2 a0 hth hk2 _ _ _ _ _ _ _ _ hf hS (lv_sub hl [0, 1, 2] rfl)
    · have hf := jI_f hf hc
      refine lv_aload_n (pc := 23) hx hb dX1_isLayer_23 rfl (lv_at hl 0 rfl) ?_
      refine j_gR (pc := 24) cx hS hf fd_WornSkin_shelf q430 dX1_isLayer_24 (fun y4 hf => ?_)
      refine lv_iload_n (pc := 27) hx hb dX1_isLayer_27 rfl (lv_at hl 2 rfl) ?_
      refine lv_iload_n (pc := 28) hx hb dX1_isLayer_28 rfl (lv_at hl 3 rfl) ?_
      obtain ⟨b6, eb, hrc, hf⟩ := jrc_s hf
      refine j_nn (pc := 29) eb [.int x3, .int x2] [] rfl ?_
      obtain ⟨y5, h1, e9, hf⟩ := jB_some hf
      refine j_callV (pc := 29) (st1 := [.int y5]) (As := [.int x2, .int x3]) (rest := []) cx hS rfl hl.1 hm (metX3_layer l _ _ _ _ _ _ hrc e9) (jle hf) hrc rfl (lw_V q1327 q1190 q1191 q114 q1192) pdX3_layer rfl rfl (Nat.le_of_ble_eq_true rfl) ⟨Nat.le_of_ble_eq_true rfl, Nat.le_of_ble_eq_true rfl⟩ dX1_isLayer_29 rfl (fun H locs cells slots hS => ?_)
      refine lv_iload_n (pc := 32) hx hb dX1_isLayer_32 rfl (lv_at hl 1 rfl) ?_
      refine lv_icmp_ne (pc := 33) (tgt := 38) hx hb dX1_isLayer_33 (by decide) (fun hc => ?_) (fun hc => ?_)
      · have hf := jI_f hf hc
        refine lv_iinc (pc := 38) (v := (x3 + 1)) (lv' := [(3, .int (x3 + 1)), (0, .ref a0), (1, .int x1), (2, .int x2)]) hx hb dX1_isLayer_38 hl (k := 3) rfl rfl (Nat.le_of_ble_eq_true rfl) rfl (fun ls hl => ?_)
        refine lv_goto (pc := 41) (tgt := 10) hx hb dX1_isLayer_41 (by decide) ?_
        exact ih _ _ _ _ _ _ _ _ _ hf hS (lv_sub hl [1, 2, 3, 0] rfl)
      · have hf := jI_t hf hc
        exact wX1_isLayer_36 cx e1 e2 a0 hth _ _ _ _ _ _ hf hS (lv_sub hl [0] rfl)
theorem wX1_isLayer_2 {N : Nat} {r : Int32} (cx : jCx p s m args meth c cX1_isLayer "WornSkin" 4 (Option.some Jvm.ClassFile.FieldType.boolean) D dA H0 hs.2.2.2.2) (e1 : h'.2.2.1 = hs.2.2.1 + mc) (e2 : h'.2.2.2.1 = hs.2.2.2.1 + ms) (a0 : Nat) (hth : jTh hs a0 0) : ∀ (n : Nat) (x1 : Int32) (x2 : Int32), ∀ (h : jH) (H : Heap) (locs : List Loc) (cells slots : Nat) (ls : Array Slot), (fX1_isLayer_2 N a0 n x1 x2).1 h = some (r, h') → jS D dA H0 hs h H locs cells slots → lv_has ls 4 [(0, .ref a0), (1, .int x1), (2, .int x2)] → W p l e { frames := 1, cells := mc, slots := ms, locals := 22 } s m args below meth c H locs cells slots (jQ D dA H0 below s (.returned (some (.int r))) h' mc ms) (F0 m 2 ls []) := by
  have hx := cx.1
  have hb := cx.2.1
  have hown := cx.2.2.2.1
  have hts := cx.2.2.2.2.1
  have hm : h'.2.2.1 ≤ hs.2.2.1 + mc ∧ h'.2.2.2.1 ≤ hs.2.2.2.1 + ms := ⟨Nat.le_of_eq e1, Nat.le_of_eq e2⟩
  intro n
  induction n with
  | zero =>
    intro x1 x2 h H locs cells slots ls hf hS hl
    exact jE_f hf
  | succ n ih =>
    intro x1 x2 h H locs cells slots ls hf hS hl
    unfold fX1_isLayer_2 at hf
    refine lv_iload_n (pc := 2) hx hb dX1_isLayer_2 rfl (lv_at hl 2 rfl) ?_
    refine lv_bipush (pc := 3) (v := 18) hx hb dX1_isLayer_3 rfl ?_
    refine lv_icmp_ge (pc := 5) (tgt := 50) hx hb dX1_isLayer_5 (by decide) (fun hc => ?_) (fun hc => ?_)
    · have hf := jI_t hf hc
      exact wX1_isLayer_50 cx e1 e2 a0 hth _ _ _ _ _ _ hf hS (lv_sub hl [0] rfl)
    · have hf := jI_f hf hc
      refine lv_iconst (pc := 8) (v := 0) hx hb dX1_isLayer_8 rfl ?_
      refine lv_istore_n (pc := 9) (i := 3) (lv' := [(3, .int 0), (0, .ref a0), (1, .int x1), (2, .int x2)]) hx hb dX1_isLayer_9 rfl hl (Nat.le_of_ble_eq_true rfl) rfl (fun ls hl => ?_)
      exact wX1_isLayer_10 cx e1 e2 a0 hth ih N _ _ _ _ _ _ _ _ _ hf hS (lv_sub hl [1, 2, 3, 0] rfl)
theorem wX1_isLayer_0 {N : Nat} {r : Int32} (cx : jCx p s m args meth c cX1_isLayer "WornSkin" 4 (Option.some Jvm.ClassFile.FieldType.boolean) D dA H0 hs.2.2.2.2) (e1 : h'.2.2.1 = hs.2.2.1 + mc) (e2 : h'.2.2.2.1 = hs.2.2.2.1 + ms) (a0 : Nat) (hth : jTh hs a0 0) : ∀ (x1 : Int32), ∀ (h : jH) (H : Heap) (locs : List Loc) (cells slots : Nat) (ls : Array Slot), (fX1_isLayer N a0 x1).1 h = some (r, h') → jS D dA H0 hs h H locs cells slots → lv_has ls 4 [(0, .ref a0), (1, .int x1)] → W p l e { frames := 1, cells := mc, slots := ms, locals := 22 } s m args below meth c H locs cells slots (jQ D dA H0 below s (.returned (some (.int r))) h' mc ms) (F0 m 0 ls []) := by
  have hx := cx.1
  have hb := cx.2.1
  have hown := cx.2.2.2.1
  have hts := cx.2.2.2.2.1
  have hm : h'.2.2.1 ≤ hs.2.2.1 + mc ∧ h'.2.2.2.1 ≤ hs.2.2.2.1 + ms := ⟨Nat.le_of_eq e1, Nat.le_of_eq e2⟩
  intro x1 h H locs cells slots ls hf hS hl
  unfold fX1_isLayer at hf
  refine lv_iconst (pc := 0) (v := 0) hx hb dX1_isLayer_0 rfl ?_
  refine lv_istore_n (pc := 1) (i := 2) (lv' := [(2, .int 0), (0, .ref a0), (1, .int x1)]) hx hb dX1_isLayer_1 rfl hl (Nat.le_of_ble_eq_true rfl) rfl (fun ls hl => ?_)
  exact wX1_isLayer_2 cx e1 e2 a0 hth N _ _ _ _ _ _ _ _ hf hS (lv_sub hl [1, 2, 0] rfl)
theorem metX1_isLayer (l : Launch) (N : Nat) (a0 : Nat) (x1 : Int32) (h h' : jH) (r : Int32) (hth : jcd h a0 = some 0) (hf : (fX1_isLayer N a0 x1).1 h = some (r, h')) : jMet l yX1_isLayer (ws_ yX1_isLayer cX1_isLayer 4 (Option.some Jvm.ClassFile.FieldType.boolean)) (1) (22) [.ref a0, .int x1] h h' (.returned (some (.int r))) := by
  refine jStart rfl (jle hf) (Nat.le_of_ble_eq_true rfl) ?_
  intro p e s m below meth c D dA H0 mc ms ls cx hnm e1 e2 hS hl
  have hth := jTh.mk hS hth
  exact wX1_isLayer_0 cx e1 e2 a0 hth _ _ _ _ _ _ _ hf hS hl
def fX1_lost_70 (N : Nat) (a0 : Nat) (x1 : Int32) : jM Int32 := jR x1
def fX1_lost_64 (N : Nat) (k4 : Int32 → Int32 → jM Int32) (a0 : Nat) (x1 : Int32) (x2 : Int32) : jM Int32 := k4 x1 (x2 + 1)
def fX1_lost_54 (N : Nat) (k4 : Int32 → Int32 → jM Int32) (a0 : Nat) (x1 : Int32) (x2 : Int32) (x3 : Int32) : jM Int32 := if x3 = 0 then (fX1_lost_64 N k4 a0 x1 x2) else (fX1_lost_64 N k4 a0 (x1 ||| (1 <<< (x2 &&& 31))) x2)
def fX1_lost_47 (N : Nat) (k21 : Int32 → Int32 → Int32 → Int32 → jM Int32) (a0 : Nat) (x1 : Int32) (x2 : Int32) (x4 : Int32) (v0 : Int32) : jM Int32 := k21 x1 x2 v0 (x4 + 1)
def fX1_lost_46 (N : Nat) (k21 : Int32 → Int32 → Int32 → Int32 → jM Int32) (a0 : Nat) (x1 : Int32) (x2 : Int32) (x4 : Int32) : jM Int32 := fX1_lost_47 N k21 a0 x1 x2 x4 0
def fX1_lost_21 (N : Nat) (k4 : Int32 → Int32 → jM Int32) (a0 : Nat) : Nat → Int32 → Int32 → Int32 → Int32 → jM Int32
  | 0, _, _, _, _ => jE
  | n + 1, x1, x2, x3, x4 => if 9 < x4 then (fX1_lost_54 N k4 a0 x1 x2 x3) else (if x3 = 0 then (fX1_lost_46 N (fX1_lost_21 N k4 a0 n) a0 x1 x2 x4) else (jB (fX1_made_2 N a0 x2 x4) fun y1 => if y1 = 0 then (fX1_lost_47 N (fX1_lost_21 N k4 a0 n) a0 x1 x2 x4 1) else (fX1_lost_46 N (fX1_lost_21 N k4 a0 n) a0 x1 x2 x4)))
def fX1_lost_4 (N : Nat) (a0 : Nat) : Nat → Int32 → Int32 → jM Int32
  | 0, _, _ => jE
  | n + 1, x1, x2 => jB (fX1_texts a0) fun y1 => if y1 ≤ x2 then (fX1_lost_70 N a0 x1) else (jB (fX1_isLayer N a0 x2) fun y2 => fX1_lost_21 N (fX1_lost_4 N a0 n) a0 N x1 x2 y2 0)
def fX1_lost (N : Nat) (a0 : Nat) : jM Int32 := fX1_lost_4 N a0 N 0 0
theorem wX1_lost_70 {N : Nat} {r : Int32} (cx : jCx p s m args meth c cX1_lost "WornSkin" 5 (Option.some Jvm.ClassFile.FieldType.int) D dA H0 hs.2.2.2.2) (e1 : h'.2.2.1 = hs.2.2.1 + mc) (e2 : h'.2.2.2.1 = hs.2.2.2.1 + ms) (a0 : Nat) (hth : jTh hs a0 0) : ∀ (x1 : Int32), ∀ (h : jH) (H : Heap) (locs : List Loc) (cells slots : Nat) (ls : Array Slot), (fX1_lost_70 N a0 x1).1 h = some (r, h') → jS D dA H0 hs h H locs cells slots → lv_has ls 5 [(0, .ref a0), (1, .int x1)] → W p l e { frames := 124, cells := mc, slots := ms, locals := 2660 } s m args below meth c H locs cells slots (jQ D dA H0 below s (.returned (some (.int r))) h' mc ms) (F0 m 70 ls []) := by
  have hx := cx.1
  have hb := cx.2.1
  have hown := cx.2.2.2.1
  have hts := cx.2.2.2.2.1
  have hm : h'.2.2.1 ≤ hs.2.2.1 + mc ∧ h'.2.2.2.1 ≤ hs.2.2.2.1 + ms := ⟨Nat.le_of_eq e1, Nat.le_of_eq e2⟩
  intro x1 h H locs cells slots ls hf hS hl
  unfold fX1_lost_70 at hf
  refine lv_iload_n (pc := 70) hx hb dX1_lost_70 rfl (lv_at hl 1 rfl) ?_
  exact j_iret (pc := 71) cx hS hf e1 e2 dX1_lost_71
theorem wX1_lost_64 {N : Nat} {k4 : Int32 → Int32 → jM Int32} {r : Int32} (cx : jCx p s m args meth c cX1_lost "WornSkin" 5 (Option.some Jvm.ClassFile.FieldType.int) D dA H0 hs.2.2.2.2) (e1 : h'.2.2.1 = hs.2.2.1 + mc) (e2 : h'.2.2.2.1 = hs.2.2.2.1 + ms) (a0 : Nat) (hth : jTh hs a0 0) (hk4 : ∀ (x1 : Int32) (x2 : Int32), ∀ (h : jH) (H : Heap) (locs : List Loc) (cells slots : Nat) (ls : Array Slot), (k4 x1 x2).1 h = some (r, h') → jS D dA H0 hs h H locs cells slots → lv_has ls 5 [(0, .ref a0), (1, .int x1), (2, .int x2)] → W p l e { frames := 124, cells := mc, slots := ms, locals := 2660 } s m args below meth c H locs cells slots (jQ D dA H0 below s (.returned (some (.int r))) h' mc ms) (F0 m 4 ls [])) : ∀ (x1 : Int32) (x2 : Int32), ∀ (h : jH) (H : Heap) (locs : List Loc) (cells slots : Nat) (ls : Array Slot), (fX1_lost_64 N k4 a0 x1 x2).1 h = some (r, h') → jS D dA H0 hs h H locs cells slots → lv_has ls 5 [(0, .ref a0), (1, .int x1), (2, .int x2)] → W p l e { frames := 124, cells := mc, slots := ms, locals := 2660 } s m args below meth c H locs cells slots (jQ D dA H0 below s (.returned (some (.int r))) h' mc ms) (F0 m 64 ls []) := by
  have hx := cx.1
  have hb := cx.2.1
  have hown := cx.2.2.2.1
  have hts := cx.2.2.2.2.1
  have hm : h'.2.2.1 ≤ hs.2.2.1 + mc ∧ h'.2.2.2.1 ≤ hs.2.2.2.1 + ms := ⟨Nat.le_of_eq e1, Nat.le_of_eq e2⟩
  intro x1 x2 h H locs cells slots ls hf hS hl
  unfold fX1_lost_64 at hf
  refine lv_iinc (pc := 64) (v := (x2 + 1)) (lv' := [(2, .int (x2 + 1)), (0, .ref a0), (1, .int x1)]) hx hb dX1_lost_64 hl (k := 2) rfl rfl (Nat.le_of_ble_eq_true rfl) rfl (fun ls hl => ?_)
  refine lv_goto (pc := 67) (tgt := 4) hx hb dX1_lost_67 (by decide) ?_
  exact hk4 _ _ _ _ _ _ _ _ hf hS (lv_sub hl [1, 2, 0] rfl)
theorem wX1_lost_54 {N : Nat} {k4 : Int32 → Int32 → jM Int32} {r : Int32} (cx : jCx p s m args meth c cX1_lost "WornSkin" 5 (Option.some Jvm.ClassFile.FieldType.int) D dA H0 hs.2.2.2.2) (e1 : h'.2.2.1 = hs.2.2.1 + mc) (e2 : h'.2.2.2.1 = hs.2.2.2.1 + ms) (a0 : Nat) (hth : jTh hs a0 0) (hk4 : ∀ (x1 : Int32) (x2 : Int32), ∀ (h : jH) (H : Heap) (locs : List Loc) (cells slots : Nat) (ls : Array Slot), (k4 x1 x2).1 h = some (r, h') → jS D dA H0 hs h H locs cells slots → lv_has ls 5 [(0, .ref a0), (1, .int x1), (2, .int x2)] → W p l e { frames := 124, cells := mc, slots := ms, locals := 2660 } s m args below meth c H locs cells slots (jQ D dA H0 below s (.returned (some (.int r))) h' mc ms) (F0 m 4 ls [])) : ∀ (x1 : Int32) (x2 : Int32) (x3 : Int32), ∀ (h : jH) (H : Heap) (locs : List Loc) (cells slots : Nat) (ls : Array Slot), (fX1_lost_54 N k4 a0 x1 x2 x3).1 h = some (r, h') → jS D dA H0 hs h H locs cells slots → lv_has ls 5 [(0, .ref a0), (1, .int x1), (2, .int x2), (3, .int x3)] → W p l e { frames := 124, cells := mc, slots := ms, locals := 2660 } s m args below meth c H locs cells slots (jQ D dA H0 below s (.returned (some (.int r))) h' mc ms) (F0 m 54 ls []) := by
  have hx := cx.1
  have hb := cx.2.1
  have hown := cx.2.2.2.1
  have hts := cx.2.2.2.2.1
  have hm : h'.2.2.1 ≤ hs.2.2.1 + mc ∧ h'.2.2.2.1 ≤ hs.2.2.2.1 + ms := ⟨Nat.le_of_eq e1, Nat.le_of_eq e2⟩
  intro x1 x2 x3 h H locs cells slots ls hf hS hl
  unfold fX1_lost_54 at hf
  refine lv_iload_n (pc := 54) hx hb dX1_lost_54 rfl (lv_at hl 3 rfl) ?_
  refine lv_if_eq (pc := 55) (tgt := 64) hx hb dX1_lost_55 (by decide) (fun hc => ?_) (fun hc => ?_)
  · have hf := jI_t hf hc
    exact wX1_lost_64 cx e1 e2 a0 hth hk4 _ _ _ _ _ _ _ _ hf hS (lv_sub hl [0, 1, 2] rfl)
  · have hf := jI_f hf hc
    refine lv_iload_n (pc := 58) hx hb dX1_lost_58 rfl (lv_at hl 1 rfl) ?_
    refine lv_iconst (pc := 59) (v := 1) hx hb dX1_lost_59 rfl ?_
    refine lv_iload_n (pc := 60) hx hb dX1_lost_60 rfl (lv_at hl 2 rfl) ?_
    refine lv_ishl (pc := 61) hx hb dX1_lost_61 ?_
    refine lv_ior (pc := 62) hx hb dX1_lost_62 ?_
    refine lv_istore_n (pc := 63) (i := 1) (lv' := [(1, .int (x1 ||| (1 <<< (x2 &&& 31)))), (0, .ref a0), (2, .int x2), (3, .int x3)]) hx hb dX1_lost_63 rfl hl (Nat.le_of_ble_eq_true rfl) rfl (fun ls hl => ?_)
    exact wX1_lost_64 cx e1 e2 a0 hth hk4 _ _ _ _ _ _ _ _ hf hS (lv_sub hl [1, 0, 2] rfl)
theorem wX1_lost_47 {N : Nat} {k21 : Int32 → Int32 → Int32 → Int32 → jM Int32} {r : Int32} (cx : jCx p s m args meth c cX1_lost "WornSkin" 5 (Option.some Jvm.ClassFile.FieldType.int) D dA H0 hs.2.2.2.2) (e1 : h'.2.2.1 = hs.2.2.1 + mc) (e2 : h'.2.2.2.1 = hs.2.2.2.1 + ms) (a0 : Nat) (hth : jTh hs a0 0) (hk21 : ∀ (x1 : Int32) (x2 : Int32) (x3 : Int32) (x4 : Int32), ∀ (h : jH) (H : Heap) (locs : List Loc) (cells slots : Nat) (ls : Array Slot), (k21 x1 x2 x3 x4).1 h = some (r, h') → jS D dA H0 hs h H locs cells slots → lv_has ls 5 [(0, .ref a0), (1, .int x1), (2, .int x2), (3, .int x3), (4, .int x4)] → W p l e { frames := 124, cells := mc, slots := ms, locals := 2660 } s m args below meth c H locs cells slots (jQ D dA H0 below s (.returned (some (.int r))) h' mc ms) (F0 m 21 ls [])) : ∀ (x1 : Int32) (x2 : Int32) (x4 : Int32) (v0 : Int32), ∀ (h : jH) (H : Heap) (locs : List Loc) (cells slots : Nat) (ls : Array Slot), (fX1_lost_47 N k21 a0 x1 x2 x4 v0).1 h = some (r, h') → jS D dA H0 hs h H locs cells slots → lv_has ls 5 [(0, .ref a0), (1, .int x1), (2, .int x2), (4, .int x4)] → W p l e { frames := 124, cells := mc, slots := ms, locals := 2660 } s m args below meth c H locs cells slots (jQ D dA H0 below s (.returned (some (.int r))) h' mc ms) (F0 m 47 ls [.int v0]) := by
  have hx := cx.1
  have hb := cx.2.1
  have hown := cx.2.2.2.1
  have hts := cx.2.2.2.2.1
  have hm : h'.2.2.1 ≤ hs.2.2.1 + mc ∧ h'.2.2.2.1 ≤ hs.2.2.2.1 + ms := ⟨Nat.le_of_eq e1, Nat.le_of_eq e2⟩
  intro x1 x2 x4 v0 h H locs cells slots ls hf hS hl
  unfold fX1_lost_47 at hf
  refine lv_istore_n (pc := 47) (i := 3) (lv' := [(3, .int v0), (0, .ref a0), (1, .int x1), (2, .int x2), (4, .int x4)]) hx hb dX1_lost_47 rfl hl (Nat.le_of_ble_eq_true rfl) rfl (fun ls hl => ?_)
  refine lv_iinc (pc := 48) (v := (x4 + 1)) (lv' := [(4, .int (x4 + 1)), (3, .int v0), (0, .ref a0), (1, .int x1), (2, .int x2)]) hx hb dX1_lost_48 hl (k := 4) rfl rfl (Nat.le_of_ble_eq_true rfl) rfl (fun ls hl => ?_)
  refine lv_goto (pc := 51) (tgt := 21) hx hb dX1_lost_51 (by decide) ?_
  exact hk21 _ _ _ _ _ _ _ _ _ _ hf hS (lv_sub hl [2, 3, 4, 1, 0] rfl)
theorem wX1_lost_46 {N : Nat} {k21 : Int32 → Int32 → Int32 → Int32 → jM Int32} {r : Int32} (cx : jCx p s m args meth c cX1_lost "WornSkin" 5 (Option.some Jvm.ClassFile.FieldType.int) D dA H0 hs.2.2.2.2) (e1 : h'.2.2.1 = hs.2.2.1 + mc) (e2 : h'.2.2.2.1 = hs.2.2.2.1 + ms) (a0 : Nat) (hth : jTh hs a0 0) (hk21 : ∀ (x1 : Int32) (x2 : Int32) (x3 : Int32) (x4 : Int32), ∀ (h : jH) (H : Heap) (locs : List Loc) (cells slots : Nat) (ls : Array Slot), (k21 x1 x2 x3 x4).1 h = some (r, h') → jS D dA H0 hs h H locs cells slots → lv_has ls 5 [(0, .ref a0), (1, .int x1), (2, .int x2), (3, .int x3), (4, .int x4)] → W p l e { frames := 124, cells := mc, slots := ms, locals := 2660 } s m args below meth c H locs cells slots (jQ D dA H0 below s (.returned (some (.int r))) h' mc ms) (F0 m 21 ls [])) : ∀ (x1 : Int32) (x2 : Int32) (x4 : Int32), ∀ (h : jH) (H : Heap) (locs : List Loc) (cells slots : Nat) (ls : Array Slot), (fX1_lost_46 N k21 a0 x1 x2 x4).1 h = some (r, h') → jS D dA H0 hs h H locs cells slots → lv_has ls 5 [(0, .ref a0), (1, .int x1), (2, .int x2), (4, .int x4)] → W p l e { frames := 124, cells := mc, slots := ms, locals := 2660 } s m args below meth c H locs cells slots (jQ D dA H0 below s (.returned (some (.int r))) h' mc ms) (F0 m 46 ls []) := by
  have hx := cx.1
  have hb := cx.2.1
  have hown := cx.2.2.2.1
  have hts := cx.2.2.2.2.1
  have hm : h'.2.2.1 ≤ hs.2.2.1 + mc ∧ h'.2.2.2.1 ≤ hs.2.2.2.1 + ms := ⟨Nat.le_of_eq e1, Nat.le_of_eq e2⟩
  intro x1 x2 x4 h H locs cells slots ls hf hS hl
  unfold fX1_lost_46 at hf
  refine lv_iconst (pc := 46) (v := 0) hx hb dX1_lost_46 rfl ?_
  exact wX1_lost_47 cx e1 e2 a0 hth hk21 _ _ _ _ _ _ _ _ _ _ hf hS hl
theorem wX1_lost_21 {N : Nat} {k4 : Int32 → Int32 → jM Int32} {r : Int32} (cx : jCx p s m args meth c cX1_lost "WornSkin" 5 (Option.some Jvm.ClassFile.FieldType.int) D dA H0 hs.2.2.2.2) (e1 : h'.2.2.1 = hs.2.2.1 + mc) (e2 : h'.2.2.2.1 = hs.2.2.2.1 + ms) (a0 : Nat) (hth : jTh hs a0 0) (hk4 : ∀ (x1 : Int32) (x2 : Int32), ∀ (h : jH) (H : Heap) (locs : List Loc) (cells slots : Nat) (ls : Array Slot), (k4 x1 x2).1 h = some (r, h') → jS D dA H0 hs h H locs cells slots → lv_has ls 5 [(0, .ref a0), (1, .int x1), (2, .int x2)] → W p l e { frames := 124, cells := mc, slots := ms, locals := 2660 } s m args below meth c H locs cells slots (jQ D dA H0 below s (.returned (some (.int r))) h' mc ms) (F0 m 4 ls [])) : ∀ (n : Nat) (x1 : Int32) (x2 : Int32) (x3 : Int32) (x4 : Int32), ∀ (h : jH) (H : Heap) (locs : List Loc) (cells slots : Nat) (ls : Array Slot), (fX1_lost_21 N k4 a0 n x1 x2 x3 x4).1 h = some (r, h') → jS D dA H0 hs h H locs cells slots → lv_has ls 5 [(0, .ref a0), (1, .int x1), (2, .int x2), (3, .int x3), (4, .int x4)] → W p l e { frames := 124, cells := mc, slots := ms, locals := 2660 } s m args below meth c H locs cells slots (jQ D dA H0 below s (.returned (some (.int r))) h' mc ms) (F0 m 21 ls []) := by
  have hx := cx.1
  have hb := cx.2.1
  have hown := cx.2.2.2.1
  have hts := cx.2.2.2.2.1
  have hm : h'.2.2.1 ≤ hs.2.2.1 + mc ∧ h'.2.2.2.1 ≤ hs.2.2.2.1 + ms := ⟨Nat.le_of_eq e1, Nat.le_of_eq e2⟩
  intro n
  induction n with
  | zero =>
    intro x1 x2 x3 x4 h H locs cells slots ls hf hS hl
    exact jE_f hf
  | succ n ih =>
    intro x1 x2 x3 x4 h H locs cells slots ls hf hS hl
    unfold fX1_lost_21 at hf
    refine lv_iload (pc := 21) hx hb dX1_lost_21 (lv_at hl 4 rfl) ?_
    refine lv_bipush (pc := 23) (v := 9) hx hb dX1_lost_23 rfl ?_
    refine lv_icmp_gt (pc := 25) (tgt := 54) hx hb dX1_lost_25 (by decide) (fun hc => ?_) (fun hc => ?_)
    · have hf := jI_t hf hc
      exact wX1_lost_54 cx e1 e2 a0 hth hk4 _ _ _ _ _ _ _ _ _ hf hS (lv_sub hl [0, 1, 2, 3] rfl)
    · have hf := jI_f hf hc
      refine lv_iload_n (pc := 28) hx hb dX1_lost_28 rfl (lv_at hl 3 rfl) ?_
      refine lv_if_eq (pc := 29) (tgt := 46) hx hb dX1_lost_29 (by decide) (fun hc => ?_) (fun hc => ?_)
      · have hf := jI_t hf hc
        exact wX1_lost_46 cx e1 e2 a0 hth ih _ _ _ _ _ _ _ _ _ hf hS (lv_sub hl [0, 1, 2, 4] rfl)
      · have hf := jI_f hf hc
        refine lv_aload_n (pc := 32) hx hb dX1_lost_32 rfl (lv_at hl 0 rfl) ?_
        refine lv_iload_n (pc := 33) hx hb dX1_lost_33 rfl (lv_at hl 2 rfl) ?_
        refine lv_iload (pc := 34) hx hb dX1_lost_34 (lv_at hl 4 rfl) ?_
        obtain ⟨y1, h1, e9, hf⟩ := jB_some hf
        refine j_callV (pc := 36) (st1 := [.int y1]) (As := [.int x2, .int x4]) (rest := []) cx hS rfl hl.1 hm (metX1_made_2 l _ _ _ _ _ _ _ (hth.at hS) e9) (jle hf) (hth.at hS) rfl (lw_V q1310 q1312 qs38 q112 q1313) pdX1_made_2 rfl rfl (Nat.le_of_ble_eq_true rfl) ⟨Nat.le_of_ble_eq_true rfl, Nat.le_of_ble_eq_true rfl⟩ dX1_lost_36 rfl (fun H locs cells slots hS => ?_)
        refine lv_if_ne (pc := 39) (tgt := 46) hx hb dX1_lost_39 (by decide) (fun hc => ?_) (fun hc => ?_)
        · have hf := jI_f hf hc
          exact wX1_lost_46 cx e1 e2 a0 hth ih _ _ _ _ _ _ _ _ _ hf hS (lv_sub hl [0, 1, 2, 4] rfl)
        · have hf := jI_t hf hc
          refine lv_iconst (pc := 42) (v := 1) hx hb dX1_lost_42 rfl ?_
          refine lv_goto (pc := 43) (tgt := 47) hx hb dX1_lost_43 (by decide) ?_
          exact wX1_lost_47 cx e1 e2 a0 hth ih _ _ _ _ _ _ _ _ _ _ hf hS (lv_sub hl [0, 1, 2, 4] rfl)
theorem wX1_lost_4 {N : Nat} {r : Int32} (cx : jCx p s m args meth c cX1_lost "WornSkin" 5 (Option.some Jvm.ClassFile.FieldType.int) D dA H0 hs.2.2.2.2) (e1 : h'.2.2.1 = hs.2.2.1 + mc) (e2 : h'.2.2.2.1 = hs.2.2.2.1 + ms) (a0 : Nat) (hth : jTh hs a0 0) : ∀ (n : Nat) (x1 : Int32) (x2 : Int32), ∀ (h : jH) (H : Heap) (locs : List Loc) (cells slots : Nat) (ls : Array Slot), (fX1_lost_4 N a0 n x1 x2).1 h = some (r, h') → jS D dA H0 hs h H locs cells slots → lv_has ls 5 [(0, .ref a0), (1, .int x1), (2, .int x2)] → W p l e { frames := 124, cells := mc, slots := ms, locals := 2660 } s m args below meth c H locs cells slots (jQ D dA H0 below s (.returned (some (.int r))) h' mc ms) (F0 m 4 ls []) := by
  have hx := cx.1
  have hb := cx.2.1
  have hown := cx.2.2.2.1
  have hts := cx.2.2.2.2.1
  have hm : h'.2.2.1 ≤ hs.2.2.1 + mc ∧ h'.2.2.2.1 ≤ hs.2.2.2.1 + ms := ⟨Nat.le_of_eq e1, Nat.le_of_eq e2⟩
  intro n
  induction n with
  | zero =>
    intro x1 x2 h H locs cells slots ls hf hS hl
    exact jE_f hf
  | succ n ih =>
    intro x1 x2 h H locs cells slots ls hf hS hl
    unfold fX1_lost_4 at hf
    refine lv_iload_n (pc := 4) hx hb dX1_lost_4 rfl (lv_at hl 2 rfl) ?_
    refine lv_aload_n (pc := 5) hx hb dX1_lost_5 rfl (lv_at hl 0 rfl) ?_
    obtain ⟨y1, h1, e9, hf⟩ := jB_some hf
    refine j_callV (pc := 6) (st1 := [.int y1, .int x2]) (As := []) (rest := [.int x2]) cx hS rfl hl.1 hm (metX1_texts l _ _ _ _ (hth.at hS) e9) (jle hf) (hth.at hS) rfl (lw_V q1286 q1288 qs37 q112 q1289) pdX1_texts rfl rfl (Nat.le_of_ble_eq_true rfl) ⟨Nat.le_of_ble_eq_true rfl, Nat.le_of_ble_eq_true rfl⟩ dX1_lost_6 rfl (fun H locs cells slots hS => ?_)
    refine lv_icmp_ge (pc := 9) (tgt := 70) hx hb dX1_lost_9 (by decide) (fun hc => ?_) (fun hc => ?_)
    · have hf := jI_t hf hc
      exact wX1_lost_70 cx e1 e2 a0 hth _ _ _ _ _ _ _ hf hS (lv_sub hl [0, 1] rfl)
    · have hf := jI_f hf hc
      refine lv_aload_n (pc := 12) hx hb dX1_lost_12 rfl (lv_at hl 0 rfl) ?_
      refine lv_iload_n (pc := 13) hx hb dX1_lost_13 rfl (lv_at hl 2 rfl) ?_
      obtain ⟨y2, h1, e9, hf⟩ := jB_some hf
      refine j_callV (pc := 14) (st1 := [.int y2]) (As := [.int x2]) (rest := []) cx hS rfl hl.1 hm (metX1_isLayer l _ _ _ _ _ _ (hth.at hS) e9) (jle hf) (hth.at hS) rfl (lw_V q1484 q1486 qs44 q112 q1487) pdX1_isLayer rfl rfl (Nat.le_of_ble_eq_true rfl) ⟨Nat.le_of_ble_eq_true rfl, Nat.le_of_ble_eq_true rfl⟩ dX1_lost_14 rfl (fun H locs cells slots hS => ?_)
      refine lv_istore_n (pc := 17) (i := 3) (lv' := [(3, .int y2), (0, .ref a0), (1, .int x1), (2, .int x2)]) hx hb dX1_lost_17 rfl hl (Nat.le_of_ble_eq_true rfl) rfl (fun ls hl => ?_)
      refine lv_iconst (pc := 18) (v := 0) hx hb dX1_lost_18 rfl ?_
      refine lv_istore (pc := 19) (i := 4) (lv' := [(4, .int 0), (3, .int y2), (0, .ref a0), (1, .int x1), (2, .int x2)]) hx hb dX1_lost_19 hl (Nat.le_of_ble_eq_true rfl) rfl (fun ls hl => ?_)
      exact wX1_lost_21 cx e1 e2 a0 hth ih N _ _ _ _ _ _ _ _ _ _ hf hS (lv_sub hl [2, 3, 4, 1, 0] rfl)
theorem wX1_lost_0 {N : Nat} {r : Int32} (cx : jCx p s m args meth c cX1_lost "WornSkin" 5 (Option.some Jvm.ClassFile.FieldType.int) D dA H0 hs.2.2.2.2) (e1 : h'.2.2.1 = hs.2.2.1 + mc) (e2 : h'.2.2.2.1 = hs.2.2.2.1 + ms) (a0 : Nat) (hth : jTh hs a0 0) : ∀ (h : jH) (H : Heap) (locs : List Loc) (cells slots : Nat) (ls : Array Slot), (fX1_lost N a0).1 h = some (r, h') → jS D dA H0 hs h H locs cells slots → lv_has ls 5 [(0, .ref a0)] → W p l e { frames := 124, cells := mc, slots := ms, locals := 2660 } s m args below meth c H locs cells slots (jQ D dA H0 below s (.returned (some (.int r))) h' mc ms) (F0 m 0 ls []) := by
  have hx := cx.1
  have hb := cx.2.1
  have hown := cx.2.2.2.1
  have hts := cx.2.2.2.2.1
  have hm : h'.2.2.1 ≤ hs.2.2.1 + mc ∧ h'.2.2.2.1 ≤ hs.2.2.2.1 + ms := ⟨Nat.le_of_eq e1, Nat.le_of_eq e2⟩
  intro h H locs cells slots ls hf hS hl
  unfold fX1_lost at hf
  refine lv_iconst (pc := 0) (v := 0) hx hb dX1_lost_0 rfl ?_
  refine lv_istore_n (pc := 1) (i := 1) (lv' := [(1, .int 0), (0, .ref a0)]) hx hb dX1_lost_1 rfl hl (Nat.le_of_ble_eq_true rfl) rfl (fun ls hl => ?_)
  refine lv_iconst (pc := 2) (v := 0) hx hb dX1_lost_2 rfl ?_
  refine lv_istore_n (pc := 3) (i := 2) (lv' := [(2, .int 0), (1, .int 0), (0, .ref a0)]) hx hb dX1_lost_3 rfl hl (Nat.le_of_ble_eq_true rfl) rfl (fun ls hl => ?_)
  exact wX1_lost_4 cx e1 e2 a0 hth N _ _ _ _ _ _ _ _ hf hS (lv_sub hl [2, 1, 0] rfl)
theorem metX1_lost (l : Launch) (N : Nat) (a0 : Nat) (h h' : jH) (r : Int32) (hth : jcd h a0 = some 0) (hf : (fX1_lost N a0).1 h = some (r, h')) : jMet l yX1_lost (ws_ yX1_lost cX1_lost 5 (Option.some Jvm.ClassFile.FieldType.int)) (124) (2660) [.ref a0] h h' (.returned (some (.int r))) := by
  refine jStart rfl (jle hf) (Nat.le_of_ble_eq_true rfl) ?_
  intro p e s m below meth c D dA H0 mc ms ls cx hnm e1 e2 hS hl
  have hth := jTh.mk hS hth
  exact wX1_lost_0 cx e1 e2 a0 hth  _ _ _ _ _ _ hf hS hl
def fX1_place_29 (N : Nat) (a0 : Nat) (v0 : Int32) : jM Int32 := jR v0
def fX1_place_28 (N : Nat) (a0 : Nat) : jM Int32 := fX1_place_29 N a0 (-1)
def fX1_place (N : Nat) (a0 : Nat) (x1 : Int32) (x2 : Int32) : jM Int32 := jB (fX1_isText a0 x1) fun y1 => if y1 = 0 then (fX1_place_28 N a0) else (jB (fX1_isSkin a0 x2) fun y2 => if y2 = 0 then (fX1_place_28 N a0) else (jB (jgR [0] 1 (some a0)) fun y3 => jB (jrc 2 y3) fun b5 => jB (fX3_place N b5 x1 x2) fun y4 => fX1_place_29 N a0 y4))
theorem wX1_place_29 {N : Nat} {r : Int32} (cx : jCx p s m args meth c cX1_place "WornSkin" 3 (Option.some Jvm.ClassFile.FieldType.int) D dA H0 hs.2.2.2.2) (e1 : h'.2.2.1 = hs.2.2.1 + mc) (e2 : h'.2.2.2.1 = hs.2.2.2.1 + ms) (a0 : Nat) (hth : jTh hs a0 0) : ∀ (v0 : Int32), ∀ (h : jH) (H : Heap) (locs : List Loc) (cells slots : Nat) (ls : Array Slot), (fX1_place_29 N a0 v0).1 h = some (r, h') → jS D dA H0 hs h H locs cells slots → lv_has ls 3 [(0, .ref a0)] → W p l e { frames := 7, cells := mc, slots := ms, locals := 155 } s m args below meth c H locs cells slots (jQ D dA H0 below s (.returned (some (.int r))) h' mc ms) (F0 m 29 ls [.int v0]) := by
  have hx := cx.1
  have hb := cx.2.1
  have hown := cx.2.2.2.1
  have hts := cx.2.2.2.2.1
  have hm : h'.2.2.1 ≤ hs.2.2.1 + mc ∧ h'.2.2.2.1 ≤ hs.2.2.2.1 + ms := ⟨Nat.le_of_eq e1, Nat.le_of_eq e2⟩
  intro v0 h H locs cells slots ls hf hS hl
  unfold fX1_place_29 at hf
  exact j_iret (pc := 29) cx hS hf e1 e2 dX1_place_29
theorem wX1_place_28 {N : Nat} {r : Int32} (cx : jCx p s m args meth c cX1_place "WornSkin" 3 (Option.some Jvm.ClassFile.FieldType.int) D dA H0 hs.2.2.2.2) (e1 : h'.2.2.1 = hs.2.2.1 + mc) (e2 : h'.2.2.2.1 = hs.2.2.2.1 + ms) (a0 : Nat) (hth : jTh hs a0 0) : ∀ (h : jH) (H : Heap) (locs : List Loc) (cells slots : Nat) (ls : Array Slot), (fX1_place_28 N a0).1 h = some (r, h') → jS D dA H0 hs h H locs cells slots → lv_has ls 3 [(0, .ref a0)] → W p l e { frames := 7, cells := mc, slots := ms, locals := 155 } s m args below meth c H locs cells slots (jQ D dA H0 below s (.returned (some (.int r))) h' mc ms) (F0 m 28 ls []) := by
  have hx := cx.1
  have hb := cx.2.1
  have hown := cx.2.2.2.1
  have hts := cx.2.2.2.2.1
  have hm : h'.2.2.1 ≤ hs.2.2.1 + mc ∧ h'.2.2.2.1 ≤ hs.2.2.2.1 + ms := ⟨Nat.le_of_eq e1, Nat.le_of_eq e2⟩
  intro h H locs cells slots ls hf hS hl
  unfold fX1_place_28 at hf
  refine lv_iconst (pc := 28) (v := (-1)) hx hb dX1_place_28 rfl ?_
  exact wX1_place_29 cx e1 e2 a0 hth _ _ _ _ _ _ _ hf hS hl
theorem wX1_place_0 {N : Nat} {r : Int32} (cx : jCx p s m args meth c cX1_place "WornSkin" 3 (Option.some Jvm.ClassFile.FieldType.int) D dA H0 hs.2.2.2.2) (e1 : h'.2.2.1 = hs.2.2.1 + mc) (e2 : h'.2.2.2.1 = hs.2.2.2.1 + ms) (a0 : Nat) (hth : jTh hs a0 0) : ∀ (x1 : Int32) (x2 : Int32), ∀ (h : jH) (H : Heap) (locs : List Loc) (cells slots : Nat) (ls : Array Slot), (fX1_place N a0 x1 x2).1 h = some (r, h') → jS D dA H0 hs h H locs cells slots → lv_has ls 3 [(0, .ref a0), (1, .int x1), (2, .int x2)] → W p l e { frames := 7, cells := mc, slots := ms, locals := 155 } s m args below meth c H locs cells slots (jQ D dA H0 below s (.returned (some (.int r))) h' mc ms) (F0 m 0 ls []) := by
  have hx := cx.1
  have hb := cx.2.1
  have hown := cx.2.2.2.1
  have hts := cx.2.2.2.2.1
  have hm : h'.2.2.1 ≤ hs.2.2.1 + mc ∧ h'.2.2.2.1 ≤ hs.2.2.2.1 + ms := ⟨Nat.le_of_eq e1, Nat.le_of_eq e2⟩
  intro x1 x2 h H locs cells slots ls hf hS hl
  unfold fX1_place at hf
  refine lv_aload_n (pc := 0) hx hb dX1_place_0 rfl (lv_at hl 0 rfl) ?_
  refine lv_iload_n (pc := 1) hx hb dX1_place_1 rfl (lv_at hl 1 rfl) ?_
  obtain ⟨y1, h1, e9, hf⟩ := jB_some hf
  refine j_callV (pc := 2) (st1 := [.int y1]) (As := [.int x1]) (rest := []) cx hS rfl hl.1 hm (metX1_isText l _ _ _ _ _ (hth.at hS) e9) (jle hf) (hth.at hS) rfl (lw_V q1282 q1284 qs36 q112 q1285) pdX1_isText rfl rfl (Nat.le_of_ble_eq_true rfl) ⟨Nat.le_of_ble_eq_true rfl, Nat.le_of_ble_eq_true rfl⟩ dX1_place_2 rfl (fun H locs cells slots hS => ?_)
  refine lv_if_eq (pc := 5) (tgt := 28) hx hb dX1_place_5 (by decide) (fun hc => ?_) (fun hc => ?_)
  · have hf := jI_t hf hc
    exact wX1_place_28 cx e1 e2 a0 hth _ _ _ _ _ _ hf hS (lv_sub hl [0] rfl)
  · have hf := jI_f hf hc
    refine lv_aload_n (pc := 8) hx hb dX1_place_8 rfl (lv_at hl 0 rfl) ?_
    refine lv_iload_n (pc := 9) hx hb dX1_place_9 rfl (lv_at hl 2 rfl) ?_
    obtain ⟨y2, h1, e9, hf⟩ := jB_some hf
    refine j_callV (pc := 10) (st1 := [.int y2]) (As := [.int x2]) (rest := []) cx hS rfl hl.1 hm (metX1_isSkin l _ _ _ _ _ (hth.at hS) e9) (jle hf) (hth.at hS) rfl (lw_V q1149 q1151 qs33 q112 q1152) pdX1_isSkin rfl rfl (Nat.le_of_ble_eq_true rfl) ⟨Nat.le_of_ble_eq_true rfl, Nat.le_of_ble_eq_true rfl⟩ dX1_place_10 rfl (fun H locs cells slots hS => ?_)
    refine lv_if_eq (pc := 13) (tgt := 28) hx hb dX1_place_13 (by decide) (fun hc => ?_) (fun hc => ?_)
    · have hf := jI_t hf hc
      exact wX1_place_28 cx e1 e2 a0 hth _ _ _ _ _ _ hf hS (lv_sub hl [0] rfl)
    · have hf := jI_f hf hc
      refine lv_aload_n (pc := 16) hx hb dX1_place_16 rfl (lv_at hl 0 rfl) ?_
      refine j_gR (pc := 17) cx hS hf fd_WornSkin_shelf q430 dX1_place_17 (fun y3 hf => ?_)
      refine lv_iload_n (pc := 20) hx hb dX1_place_20 rfl (lv_at hl 1 rfl) ?_
      refine lv_iload_n (pc := 21) hx hb dX1_place_21 rfl (lv_at hl 2 rfl) ?_
      obtain ⟨b5, eb, hrc, hf⟩ := jrc_s hf
      refine j_nn (pc := 22) eb [.int x2, .int x1] [] rfl ?_
      obtain ⟨y4, h1, e9, hf⟩ := jB_some hf
      refine j_callV (pc := 22) (st1 := [.int y4]) (As := [.int x1, .int x2]) (rest := []) cx hS rfl hl.1 hm (metX3_place l _ _ _ _ _ _ _ hrc e9) (jle hf) hrc rfl (lw_V q1492 q1493 q1494 q114 q1495) pdX3_place rfl rfl (Nat.le_of_ble_eq_true rfl) ⟨Nat.le_of_ble_eq_true rfl, Nat.le_of_ble_eq_true rfl⟩ dX1_place_22 rfl (fun H locs cells slots hS => ?_)
      refine lv_goto (pc := 25) (tgt := 29) hx hb dX1_place_25 (by decide) ?_
      exact wX1_place_29 cx e1 e2 a0 hth _ _ _ _ _ _ _ hf hS (lv_sub hl [0] rfl)
theorem metX1_place (l : Launch) (N : Nat) (a0 : Nat) (x1 : Int32) (x2 : Int32) (h h' : jH) (r : Int32) (hth : jcd h a0 = some 0) (hf : (fX1_place N a0 x1 x2).1 h = some (r, h')) : jMet l yX1_place (ws_ yX1_place cX1_place 3 (Option.some Jvm.ClassFile.FieldType.int)) (7) (155) [.ref a0, .int x1, .int x2] h h' (.returned (some (.int r))) := by
  refine jStart rfl (jle hf) (Nat.le_of_ble_eq_true rfl) ?_
  intro p e s m below meth c D dA H0 mc ms ls cx hnm e1 e2 hS hl
  have hth := jTh.mk hS hth
  exact wX1_place_0 cx e1 e2 a0 hth _ _ _ _ _ _ _ _ hf hS hl
def fX1_costBy_71 (N : Nat) (a0 : Nat) (v0 : Int32) : jM Int32 := jR v0
def fX1_costBy (N : Nat) (a0 : Nat) (x1 : Int32) (x2 : Int32) (x3 : Int32) : jM Int32 := jB (jgR [0] 2 (some a0)) fun y1 => jB (jgR [0] 1 (some a0)) fun y2 => jB (jrc 2 y1) fun b4 => jB (fX3_copies b4 y2) fun y3 => jB (jgR [0] 2 (some a0)) fun y5 => jB (jrc 2 y5) fun b7 => jB (fX3_mayScrape b7 x2 x3) fun y6 => if y6 = 0 then (jR (-1)) else (jB (jgR [0] 2 (some a0)) fun y8 => jB (jrc 2 y8) fun b10 => jB (fX3_scrapes N b10 x2 x3) fun _ => jB (jgR [0] 2 (some a0)) fun y11 => jB (jrc 2 y11) fun b13 => jB (fX3_place N b13 x1 x2) fun y12 => if y12 = (-1) then (fX1_costBy_71 N a0 (-1)) else (jB (jgR [0] 1 (some a0)) fun y14 => jB (jgR [2] 3 y14) fun y15 => jB (jaI 0 y15 x2) fun y16 => jB (jgR [0] 2 (some a0)) fun y17 => jB (jgR [2] 3 y17) fun y18 => jB (jaI 0 y18 x2) fun y19 => fX1_costBy_71 N a0 (y16 - y19)))
theorem wX1_costBy_71 {N : Nat} {r : Int32} (cx : jCx p s m args meth c cX1_costBy "WornSkin" 4 (Option.some Jvm.ClassFile.FieldType.int) D dA H0 hs.2.2.2.2) (e1 : h'.2.2.1 = hs.2.2.1 + mc) (e2 : h'.2.2.2.1 = hs.2.2.2.1 + ms) (a0 : Nat) (hth : jTh hs a0 0) : ∀ (v0 : Int32), ∀ (h : jH) (H : Heap) (locs : List Loc) (cells slots : Nat) (ls : Array Slot), (fX1_costBy_71 N a0 v0).1 h = some (r, h') → jS D dA H0 hs h H locs cells slots → lv_has ls 4 [(0, .ref a0)] → W p l e { frames := 7, cells := mc, slots := ms, locals := 155 } s m args below meth c H locs cells slots (jQ D dA H0 below s (.returned (some (.int r))) h' mc ms) (F0 m 71 ls [.int v0]) := by
  have hx := cx.1
  have hb := cx.2.1
  have hown := cx.2.2.2.1
  have hts := cx.2.2.2.2.1
  have hm : h'.2.2.1 ≤ hs.2.2.1 + mc ∧ h'.2.2.2.1 ≤ hs.2.2.2.1 + ms := ⟨Nat.le_of_eq e1, Nat.le_of_eq e2⟩
  intro v0 h H locs cells slots ls hf hS hl
  unfold fX1_costBy_71 at hf
  exact j_iret (pc := 71) cx hS hf e1 e2 dX1_costBy_71
theorem wX1_costBy_0 {N : Nat} {r : Int32} (cx : jCx p s m args meth c cX1_costBy "WornSkin" 4 (Option.some Jvm.ClassFile.FieldType.int) D dA H0 hs.2.2.2.2) (e1 : h'.2.2.1 = hs.2.2.1 + mc) (e2 : h'.2.2.2.1 = hs.2.2.2.1 + ms) (a0 : Nat) (hth : jTh hs a0 0) : ∀ (x1 : Int32) (x2 : Int32) (x3 : Int32), ∀ (h : jH) (H : Heap) (locs : List Loc) (cells slots : Nat) (ls : Array Slot), (fX1_costBy N a0 x1 x2 x3).1 h = some (r, h') → jS D dA H0 hs h H locs cells slots → lv_has ls 4 [(0, .ref a0), (1, .int x1), (2, .int x2), (3, .int x3)] → W p l e { frames := 7, cells := mc, slots := ms, locals := 155 } s m args below meth c H locs cells slots (jQ D dA H0 below s (.returned (some (.int r))) h' mc ms) (F0 m 0 ls []) := by
  have hx := cx.1
  have hb := cx.2.1
  have hown := cx.2.2.2.1
  have hts := cx.2.2.2.2.1
  have hm : h'.2.2.1 ≤ hs.2.2.1 + mc ∧ h'.2.2.2.1 ≤ hs.2.2.2.1 + ms := ⟨Nat.le_of_eq e1, Nat.le_of_eq e2⟩
  intro x1 x2 x3 h H locs cells slots ls hf hS hl
  unfold fX1_costBy at hf
  refine lv_aload_n (pc := 0) hx hb dX1_costBy_0 rfl (lv_at hl 0 rfl) ?_
  refine j_gR (pc := 1) cx hS hf fd_WornSkin_trial q432 dX1_costBy_1 (fun y1 hf => ?_)
  refine lv_aload_n (pc := 4) hx hb dX1_costBy_4 rfl (lv_at hl 0 rfl) ?_
  refine j_gR (pc := 5) cx hS hf fd_WornSkin_shelf q430 dX1_costBy_5 (fun y2 hf => ?_)
  obtain ⟨b4, eb, hrc, hf⟩ := jrc_s hf
  refine j_nn (pc := 8) eb [va_rf y2] [] rfl ?_
  obtain ⟨y3, h1, e9, hf⟩ := jB_some hf
  refine j_callV (pc := 8) (st1 := [va_rf y3]) (As := [va_rf y2]) (rest := []) cx hS rfl hl.1 hm (metX3_copies l _ _ _ _ _ hrc e9) (jle hf) hrc rfl (lw_V q1505 q1368 q1369 q114 q1370) pdX3_copies rfl rfl (Nat.le_of_ble_eq_true rfl) ⟨Nat.le_of_ble_eq_true rfl, Nat.le_of_ble_eq_true rfl⟩ dX1_costBy_8 rfl (fun H locs cells slots hS => ?_)
  refine lv_pop (pc := 11) hx hb dX1_costBy_11 (jrfc _) ?_
  refine lv_aload_n (pc := 12) hx hb dX1_costBy_12 rfl (lv_at hl 0 rfl) ?_
  refine j_gR (pc := 13) cx hS hf fd_WornSkin_trial q432 dX1_costBy_13 (fun y5 hf => ?_)
  refine lv_iload_n (pc := 16) hx hb dX1_costBy_16 rfl (lv_at hl 2 rfl) ?_
  refine lv_iload_n (pc := 17) hx hb dX1_costBy_17 rfl (lv_at hl 3 rfl) ?_
  obtain ⟨b7, eb, hrc, hf⟩ := jrc_s hf
  refine j_nn (pc := 18) eb [.int x3, .int x2] [] rfl ?_
  obtain ⟨y6, h1, e9, hf⟩ := jB_some hf
  refine j_callV (pc := 18) (st1 := [.int y6]) (As := [.int x2, .int x3]) (rest := []) cx hS rfl hl.1 hm (metX3_mayScrape l _ _ _ _ _ _ hrc e9) (jle hf) hrc rfl (lw_V q1385 q1386 q1387 q114 q1388) pdX3_mayScrape rfl rfl (Nat.le_of_ble_eq_true rfl) ⟨Nat.le_of_ble_eq_true rfl, Nat.le_of_ble_eq_true rfl⟩ dX1_costBy_18 rfl (fun H locs cells slots hS => ?_)
  refine lv_if_ne (pc := 21) (tgt := 26) hx hb dX1_costBy_21 (by decide) (fun hc => ?_) (fun hc => ?_)
  · have hf := jI_f hf hc
    refine lv_aload_n (pc := 26) hx hb dX1_costBy_26 rfl (lv_at hl 0 rfl) ?_
    refine j_gR (pc := 27) cx hS hf fd_WornSkin_trial q432 dX1_costBy_27 (fun y8 hf => ?_)
    refine lv_iload_n (pc := 30) hx hb dX1_costBy_30 rfl (lv_at hl 2 rfl) ?_
    refine lv_iload_n (pc := 31) hx hb dX1_costBy_31 rfl (lv_at hl 3 rfl) ?_
    obtain ⟨b10, eb, hrc, hf⟩ := jrc_s hf
    refine j_nn (pc := 32) eb [.int x3, .int x2] [] rfl ?_
    obtain ⟨_, h1, e9, hf⟩ := jB_some hf
    refine j_callV (pc := 32) (st1 := []) (As := [.int x2, .int x3]) (rest := []) cx hS rfl hl.1 hm (metX3_scrapes l _ _ _ _ _ _ _ hrc e9) (jle hf) hrc rfl (lw_V q1394 q1395 q1396 q114 q1397) pdX3_scrapes rfl rfl (Nat.le_of_ble_eq_true rfl) ⟨Nat.le_of_ble_eq_true rfl, Nat.le_of_ble_eq_true rfl⟩ dX1_costBy_32 rfl (fun H locs cells slots hS => ?_)
    refine lv_aload_n (pc := 35) hx hb dX1_costBy_35 rfl (lv_at hl 0 rfl) ?_
    refine j_gR (pc := 36) cx hS hf fd_WornSkin_trial q432 dX1_costBy_36 (fun y11 hf => ?_)
    refine lv_iload_n (pc := 39) hx hb dX1_costBy_39 rfl (lv_at hl 1 rfl) ?_
    refine lv_iload_n (pc := 40) hx hb dX1_costBy_40 rfl (lv_at hl 2 rfl) ?_
    obtain ⟨b13, eb, hrc, hf⟩ := jrc_s hf
    refine j_nn (pc := 41) eb [.int x2, .int x1] [] rfl ?_
    obtain ⟨y12, h1, e9, hf⟩ := jB_some hf
    refine j_callV (pc := 41) (st1 := [.int y12]) (As := [.int x1, .int x2]) (rest := []) cx hS rfl hl.1 hm (metX3_place l _ _ _ _ _ _ _ hrc e9) (jle hf) hrc rfl (lw_V q1492 q1493 q1494 q114 q1495) pdX3_place rfl rfl (Nat.le_of_ble_eq_true rfl) ⟨Nat.le_of_ble_eq_true rfl, Nat.le_of_ble_eq_true rfl⟩ dX1_costBy_41 rfl (fun H locs cells slots hS => ?_)
    refine lv_iconst (pc := 44) (v := (-1)) hx hb dX1_costBy_44 rfl ?_
    refine lv_icmp_ne (pc := 45) (tgt := 52) hx hb dX1_costBy_45 (by decide) (fun hc => ?_) (fun hc => ?_)
    · have hf := jI_f hf hc
      refine lv_aload_n (pc := 52) hx hb dX1_costBy_52 rfl (lv_at hl 0 rfl) ?_
      refine j_gR (pc := 53) cx hS hf fd_WornSkin_shelf q430 dX1_costBy_53 (fun y14 hf => ?_)
      refine j_gR (pc := 56) cx hS hf fd_WornSkin_Shelf_thick q263 dX1_costBy_56 (fun y15 hf => ?_)
      refine lv_iload_n (pc := 59) hx hb dX1_costBy_59 rfl (lv_at hl 2 rfl) ?_
      refine j_aI (pc := 60) cx hS hf rfl dX1_costBy_60 (fun y16 hf => ?_)
      refine lv_aload_n (pc := 61) hx hb dX1_costBy_61 rfl (lv_at hl 0 rfl) ?_
      refine j_gR (pc := 62) cx hS hf fd_WornSkin_trial q432 dX1_costBy_62 (fun y17 hf => ?_)
      refine j_gR (pc := 65) cx hS hf fd_WornSkin_Shelf_thick q263 dX1_costBy_65 (fun y18 hf => ?_)
      refine lv_iload_n (pc := 68) hx hb dX1_costBy_68 rfl (lv_at hl 2 rfl) ?_
      refine j_aI (pc := 69) cx hS hf rfl dX1_costBy_69 (fun y19 hf => ?_)
      refine lv_isub (pc := 70) hx hb dX1_costBy_70 ?_
      exact wX1_costBy_71 cx e1 e2 a0 hth _ _ _ _ _ _ _ hf hS (lv_sub hl [0] rfl)
    · have hf := jI_t hf hc
      refine lv_iconst (pc := 48) (v := (-1)) hx hb dX1_costBy_48 rfl ?_
      refine lv_goto (pc := 49) (tgt := 71) hx hb dX1_costBy_49 (by decide) ?_
      exact wX1_costBy_71 cx e1 e2 a0 hth _ _ _ _ _ _ _ hf hS (lv_sub hl [0] rfl)
  · have hf := jI_t hf hc
    refine lv_iconst (pc := 24) (v := (-1)) hx hb dX1_costBy_24 rfl ?_
    exact j_iret (pc := 25) cx hS hf e1 e2 dX1_costBy_25
theorem metX1_costBy (l : Launch) (N : Nat) (a0 : Nat) (x1 : Int32) (x2 : Int32) (x3 : Int32) (h h' : jH) (r : Int32) (hth : jcd h a0 = some 0) (hf : (fX1_costBy N a0 x1 x2 x3).1 h = some (r, h')) : jMet l yX1_costBy (ws_ yX1_costBy cX1_costBy 4 (Option.some Jvm.ClassFile.FieldType.int)) (7) (155) [.ref a0, .int x1, .int x2, .int x3] h h' (.returned (some (.int r))) := by
  refine jStart rfl (jle hf) (Nat.le_of_ble_eq_true rfl) ?_
  intro p e s m below meth c D dA H0 mc ms ls cx hnm e1 e2 hS hl
  have hth := jTh.mk hS hth
  exact wX1_costBy_0 cx e1 e2 a0 hth _ _ _ _ _ _ _ _ _ hf hS hl
def fX1_cost_73 (N : Nat) (a0 : Nat) (v0 : Int32) : jM Int32 := jR v0
def fX1_cost_72 (N : Nat) (a0 : Nat) (x3 : Int32) : jM Int32 := fX1_cost_73 N a0 x3
def fX1_cost_67 (N : Nat) (a0 : Nat) (x4 : Int32) : jM Int32 := fX1_cost_73 N a0 x4
def fX1_cost_16 (N : Nat) (a0 : Nat) : jM Int32 := jR (-1)
def fX1_cost (N : Nat) (a0 : Nat) (x1 : Int32) (x2 : Int32) : jM Int32 := jB (fX1_isText a0 x1) fun y1 => if y1 = 0 then (fX1_cost_16 N a0) else (jB (fX1_isSkin a0 x2) fun y2 => if y2 = 0 then (fX1_cost_16 N a0) else (jB (jgR [0] 1 (some a0)) fun y3 => jB (jrc 2 y3) fun b5 => jB (fX3_place N b5 x1 x2) fun y4 => if y4 = (-1) then (jB (fX1_costBy N a0 x1 x2 1) fun y6 => jB (fX1_costBy N a0 x1 x2 0) fun y7 => if y6 = (-1) then (fX1_cost_67 N a0 y7) else (if y7 = (-1) then (fX1_cost_72 N a0 y6) else (if y6 ≤ y7 then (fX1_cost_72 N a0 y6) else (fX1_cost_67 N a0 y7)))) else (jR 0)))
theorem wX1_cost_73 {N : Nat} {r : Int32} (cx : jCx p s m args meth c cX1_cost "WornSkin" 5 (Option.some Jvm.ClassFile.FieldType.int) D dA H0 hs.2.2.2.2) (e1 : h'.2.2.1 = hs.2.2.1 + mc) (e2 : h'.2.2.2.1 = hs.2.2.2.1 + ms) (a0 : Nat) (hth : jTh hs a0 0) : ∀ (v0 : Int32), ∀ (h : jH) (H : Heap) (locs : List Loc) (cells slots : Nat) (ls : Array Slot), (fX1_cost_73 N a0 v0).1 h = some (r, h') → jS D dA H0 hs h H locs cells slots → lv_has ls 5 [(0, .ref a0)] → W p l e { frames := 8, cells := mc, slots := ms, locals := 178 } s m args below meth c H locs cells slots (jQ D dA H0 below s (.returned (some (.int r))) h' mc ms) (F0 m 73 ls [.int v0]) := by
  have hx := cx.1
  have hb := cx.2.1
  have hown := cx.2.2.2.1
  have hts := cx.2.2.2.2.1
  have hm : h'.2.2.1 ≤ hs.2.2.1 + mc ∧ h'.2.2.2.1 ≤ hs.2.2.2.1 + ms := ⟨Nat.le_of_eq e1, Nat.le_of_eq e2⟩
  intro v0 h H locs cells slots ls hf hS hl
  unfold fX1_cost_73 at hf
  exact j_iret (pc := 73) cx hS hf e1 e2 dX1_cost_73
theorem wX1_cost_72 {N : Nat} {r : Int32} (cx : jCx p s m args meth c cX1_cost "WornSkin" 5 (Option.some Jvm.ClassFile.FieldType.int) D dA H0 hs.2.2.2.2) (e1 : h'.2.2.1 = hs.2.2.1 + mc) (e2 : h'.2.2.2.1 = hs.2.2.2.1 + ms) (a0 : Nat) (hth : jTh hs a0 0) : ∀ (x3 : Int32), ∀ (h : jH) (H : Heap) (locs : List Loc) (cells slots : Nat) (ls : Array Slot), (fX1_cost_72 N a0 x3).1 h = some (r, h') → jS D dA H0 hs h H locs cells slots → lv_has ls 5 [(0, .ref a0), (3, .int x3)] → W p l e { frames := 8, cells := mc, slots := ms, locals := 178 } s m args below meth c H locs cells slots (jQ D dA H0 below s (.returned (some (.int r))) h' mc ms) (F0 m 72 ls []) := by
  have hx := cx.1
  have hb := cx.2.1
  have hown := cx.2.2.2.1
  have hts := cx.2.2.2.2.1
  have hm : h'.2.2.1 ≤ hs.2.2.1 + mc ∧ h'.2.2.2.1 ≤ hs.2.2.2.1 + ms := ⟨Nat.le_of_eq e1, Nat.le_of_eq e2⟩
  intro x3 h H locs cells slots ls hf hS hl
  unfold fX1_cost_72 at hf
  refine lv_iload_n (pc := 72) hx hb dX1_cost_72 rfl (lv_at hl 1 rfl) ?_
  exact wX1_cost_73 cx e1 e2 a0 hth _ _ _ _ _ _ _ hf hS (lv_sub hl [0] rfl)
theorem wX1_cost_67 {N : Nat} {r : Int32} (cx : jCx p s m args meth c cX1_cost "WornSkin" 5 (Option.some Jvm.ClassFile.FieldType.int) D dA H0 hs.2.2.2.2) (e1 : h'.2.2.1 = hs.2.2.1 + mc) (e2 : h'.2.2.2.1 = hs.2.2.2.1 + ms) (a0 : Nat) (hth : jTh hs a0 0) : ∀ (x4 : Int32), ∀ (h : jH) (H : Heap) (locs : List Loc) (cells slots : Nat) (ls : Array Slot), (fX1_cost_67 N a0 x4).1 h = some (r, h') → jS D dA H0 hs h H locs cells slots → lv_has ls 5 [(0, .ref a0), (4, .int x4)] → W p l e { frames := 8, cells := mc, slots := ms, locals := 178 } s m args below meth c H locs cells slots (jQ D dA H0 below s (.returned (some (.int r))) h' mc ms) (F0 m 67 ls []) := by
  have hx := cx.1
  have hb := cx.2.1
  have hown := cx.2.2.2.1
  have hts := cx.2.2.2.2.1
  have hm : h'.2.2.1 ≤ hs.2.2.1 + mc ∧ h'.2.2.2.1 ≤ hs.2.2.2.1 + ms := ⟨Nat.le_of_eq e1, Nat.le_of_eq e2⟩
  intro x4 h H locs cells slots ls hf hS hl
  unfold fX1_cost_67 at hf
  refine lv_iload (pc := 67) hx hb dX1_cost_67 (lv_at hl 1 rfl) ?_
  refine lv_goto (pc := 69) (tgt := 73) hx hb dX1_cost_69 (by decide) ?_
  exact wX1_cost_73 cx e1 e2 a0 hth _ _ _ _ _ _ _ hf hS (lv_sub hl [0] rfl)
theorem wX1_cost_16 {N : Nat} {r : Int32} (cx : jCx p s m args meth c cX1_cost "WornSkin" 5 (Option.some Jvm.ClassFile.FieldType.int) D dA H0 hs.2.2.2.2) (e1 : h'.2.2.1 = hs.2.2.1 + mc) (e2 : h'.2.2.2.1 = hs.2.2.2.1 + ms) (a0 : Nat) (hth : jTh hs a0 0) : ∀ (h : jH) (H : Heap) (locs : List Loc) (cells slots : Nat) (ls : Array Slot), (fX1_cost_16 N a0).1 h = some (r, h') → jS D dA H0 hs h H locs cells slots → lv_has ls 5 [(0, .ref a0)] → W p l e { frames := 8, cells := mc, slots := ms, locals := 178 } s m args below meth c H locs cells slots (jQ D dA H0 below s (.returned (some (.int r))) h' mc ms) (F0 m 16 ls []) := by
  have hx := cx.1
  have hb := cx.2.1
  have hown := cx.2.2.2.1
  have hts := cx.2.2.2.2.1
  have hm : h'.2.2.1 ≤ hs.2.2.1 + mc ∧ h'.2.2.2.1 ≤ hs.2.2.2.1 + ms := ⟨Nat.le_of_eq e1, Nat.le_of_eq e2⟩
  intro h H locs cells slots ls hf hS hl
  unfold fX1_cost_16 at hf
  refine lv_iconst (pc := 16) (v := (-1)) hx hb dX1_cost_16 rfl ?_
  exact j_iret (pc := 17) cx hS hf e1 e2 dX1_cost_17
theorem wX1_cost_0 {N : Nat} {r : Int32} (cx : jCx p s m args meth c cX1_cost "WornSkin" 5 (Option.some Jvm.ClassFile.FieldType.int) D dA H0 hs.2.2.2.2) (e1 : h'.2.2.1 = hs.2.2.1 + mc) (e2 : h'.2.2.2.1 = hs.2.2.2.1 + ms) (a0 : Nat) (hth : jTh hs a0 0) : ∀ (x1 : Int32) (x2 : Int32), ∀ (h : jH) (H : Heap) (locs : List Loc) (cells slots : Nat) (ls : Array Slot), (fX1_cost N a0 x1 x2).1 h = some (r, h') → jS D dA H0 hs h H locs cells slots → lv_has ls 5 [(0, .ref a0), (1, .int x1), (2, .int x2)] → W p l e { frames := 8, cells := mc, slots := ms, locals := 178 } s m args below meth c H locs cells slots (jQ D dA H0 below s (.returned (some (.int r))) h' mc ms) (F0 m 0 ls []) := by
  have hx := cx.1
  have hb := cx.2.1
  have hown := cx.2.2.2.1
  have hts := cx.2.2.2.2.1
  have hm : h'.2.2.1 ≤ hs.2.2.1 + mc ∧ h'.2.2.2.1 ≤ hs.2.2.2.1 + ms := ⟨Nat.le_of_eq e1, Nat.le_of_eq e2⟩
  intro x1 x2 h H locs cells slots ls hf hS hl
  unfold fX1_cost at hf
  refine lv_aload_n (pc := 0) hx hb dX1_cost_0 rfl (lv_at hl 0 rfl) ?_
  refine lv_iload_n (pc := 1) hx hb dX1_cost_1 rfl (lv_at hl 1 rfl) ?_
  obtain ⟨y1, h1, e9, hf⟩ := jB_some hf
  refine j_callV (pc := 2) (st1 := [.int y1]) (As := [.int x1]) (rest := []) cx hS rfl hl.1 hm (metX1_isText l _ _ _ _ _ (hth.at hS) e9) (jle hf) (hth.at hS) rfl (lw_V q1282 q1284 qs36 q112 q1285) pdX1_isText rfl rfl (Nat.le_of_ble_eq_true rfl) ⟨Nat.le_of_ble_eq_true rfl, Nat.le_of_ble_eq_true rfl⟩ dX1_cost_2 rfl (fun H locs cells slots hS => ?_)
  refine lv_if_eq (pc := 5) (tgt := 16) hx hb dX1_cost_5 (by decide) (fun hc => ?_) (fun hc => ?_)
  · have hf := jI_t hf hc
    exact wX1_cost_16 cx e1 e2 a0 hth _ _ _ _ _ _ hf hS (lv_sub hl [0] rfl)
  · have hf := jI_f hf hc
    refine lv_aload_n (pc := 8) hx hb dX1_cost_8 rfl (lv_at hl 0 rfl) ?_
    refine lv_iload_n (pc := 9) hx hb dX1_cost_9 rfl (lv_at hl 2 rfl) ?_
    obtain ⟨y2, h1, e9, hf⟩ := jB_some hf
    refine j_callV (pc := 10) (st1 := [.int y2]) (As := [.int x2]) (rest := []) cx hS rfl hl.1 hm (metX1_isSkin l _ _ _ _ _ (hth.at hS) e9) (jle hf) (hth.at hS) rfl (lw_V q1149 q1151 qs33 q112 q1152) pdX1_isSkin rfl rfl (Nat.le_of_ble_eq_true rfl) ⟨Nat.le_of_ble_eq_true rfl, Nat.le_of_ble_eq_true rfl⟩ dX1_cost_10 rfl (fun H locs cells slots hS => ?_)
    refine lv_if_ne (pc := 13) (tgt := 18) hx hb dX1_cost_13 (by decide) (fun hc => ?_) (fun hc => ?_)
    · have hf := jI_f hf hc
      refine lv_aload_n (pc := 18) hx hb dX1_cost_18 rfl (lv_at hl 0 rfl) ?_
      refine j_gR (pc := 19) cx hS hf fd_WornSkin_shelf q430 dX1_cost_19 (fun y3 hf => ?_)
      refine lv_iload_n (pc := 22) hx hb dX1_cost_22 rfl (lv_at hl 1 rfl) ?_
      refine lv_iload_n (pc := 23) hx hb dX1_cost_23 rfl (lv_at hl 2 rfl) ?_
      obtain ⟨b5, eb, hrc, hf⟩ := jrc_s hf
      refine j_nn (pc := 24) eb [.int x2, .int x1] [] rfl ?_
      obtain ⟨y4, h1, e9, hf⟩ := jB_some hf
      refine j_callV (pc := 24) (st1 := [.int y4]) (As := [.int x1, .int x2]) (rest := []) cx hS rfl hl.1 hm (metX3_place l _ _ _ _ _ _ _ hrc e9) (jle hf) hrc rfl (lw_V q1492 q1493 q1494 q114 q1495) pdX3_place rfl rfl (Nat.le_of_ble_eq_true rfl) ⟨Nat.le_of_ble_eq_true rfl, Nat.le_of_ble_eq_true rfl⟩ dX1_cost_24 rfl (fun H locs cells slots hS => ?_)
      refine lv_iconst (pc := 27) (v := (-1)) hx hb dX1_cost_27 rfl ?_
      refine lv_icmp_eq (pc := 28) (tgt := 33) hx hb dX1_cost_28 (by decide) (fun hc => ?_) (fun hc => ?_)
      · have hf := jI_t hf hc
        refine lv_aload_n (pc := 33) hx hb dX1_cost_33 rfl (lv_at hl 0 rfl) ?_
        refine lv_iload_n (pc := 34) hx hb dX1_cost_34 rfl (lv_at hl 1 rfl) ?_
        refine lv_iload_n (pc := 35) hx hb dX1_cost_35 rfl (lv_at hl 2 rfl) ?_
        refine lv_iconst (pc := 36) (v := 1) hx hb dX1_cost_36 rfl ?_
        obtain ⟨y6, h1, e9, hf⟩ := jB_some hf
        refine j_callV (pc := 37) (st1 := [.int y6]) (As := [.int x1, .int x2, .int 1]) (rest := []) cx hS rfl hl.1 hm (metX1_costBy l _ _ _ _ _ _ _ _ (hth.at hS) e9) (jle hf) (hth.at hS) rfl (lw_V q1501 q1503 qs45 q112 q1504) pdX1_costBy rfl rfl (Nat.le_of_ble_eq_true rfl) ⟨Nat.le_of_ble_eq_true rfl, Nat.le_of_ble_eq_true rfl⟩ dX1_cost_37 rfl (fun H locs cells slots hS => ?_)
        refine lv_istore_n (pc := 40) (i := 3) (lv' := [(3, .int y6), (0, .ref a0), (1, .int x1), (2, .int x2)]) hx hb dX1_cost_40 rfl hl (Nat.le_of_ble_eq_true rfl) rfl (fun ls hl => ?_)
        refine lv_aload_n (pc := 41) hx hb dX1_cost_41 rfl (lv_at hl 1 rfl) ?_
        refine lv_iload_n (pc := 42) hx hb dX1_cost_42 rfl (lv_at hl 2 rfl) ?_
        refine lv_iload_n (pc := 43) hx hb dX1_cost_43 rfl (lv_at hl 3 rfl) ?_
        refine lv_iconst (pc := 44) (v := 0) hx hb dX1_cost_44 rfl ?_
        obtain ⟨y7, h1, e9, hf⟩ := jB_some hf
        refine j_callV (pc := 45) (st1 := [.int y7]) (As := [.int x1, .int x2, .int 0]) (rest := []) cx hS rfl hl.1 hm (metX1_costBy l _ _ _ _ _ _ _ _ (hth.at hS) e9) (jle hf) (hth.at hS) rfl (lw_V q1501 q1503 qs45 q112 q1504) pdX1_costBy rfl rfl (Nat.le_of_ble_eq_true rfl) ⟨Nat.le_of_ble_eq_true rfl, Nat.le_of_ble_eq_true rfl⟩ dX1_cost_45 rfl (fun H locs cells slots hS => ?_)
        refine lv_istore (pc := 48) (i := 4) (lv' := [(4, .int y7), (3, .int y6), (0, .ref a0), (1, .int x1), (2, .int x2)]) hx hb dX1_cost_48 hl (Nat.le_of_ble_eq_true rfl) rfl (fun ls hl => ?_)
        refine lv_iload_n (pc := 50) hx hb dX1_cost_50 rfl (lv_at hl 1 rfl) ?_
        refine lv_iconst (pc := 51) (v := (-1)) hx hb dX1_cost_51 rfl ?_
        refine lv_icmp_eq (pc := 52) (tgt := 67) hx hb dX1_cost_52 (by decide) (fun hc => ?_) (fun hc => ?_)
        · have hf := jI_t hf hc
          exact wX1_cost_67 cx e1 e2 a0 hth _ _ _ _ _ _ _ hf hS (lv_sub hl [2, 0] rfl)
        · have hf := jI_f hf hc
          refine lv_iload (pc := 55) hx hb dX1_cost_55 (lv_at hl 0 rfl) ?_
          refine lv_iconst (pc := 57) (v := (-1)) hx hb dX1_cost_57 rfl ?_
          refine lv_icmp_eq (pc := 58) (tgt := 72) hx hb dX1_cost_58 (by decide) (fun hc => ?_) (fun hc => ?_)
          · have hf := jI_t hf hc
            exact wX1_cost_72 cx e1 e2 a0 hth _ _ _ _ _ _ _ hf hS (lv_sub hl [2, 1] rfl)
          · have hf := jI_f hf hc
            refine lv_iload (pc := 61) hx hb dX1_cost_61 (lv_at hl 0 rfl) ?_
            refine lv_iload_n (pc := 63) hx hb dX1_cost_63 rfl (lv_at hl 1 rfl) ?_
            refine lv_icmp_ge (pc := 64) (tgt := 72) hx hb dX1_cost_64 (by decide) (fun hc => ?_) (fun hc => ?_)
            · have hf := jI_t hf hc
              exact wX1_cost_72 cx e1 e2 a0 hth _ _ _ _ _ _ _ hf hS (lv_sub hl [2, 1] rfl)
            · have hf := jI_f hf hc
              exact wX1_cost_67 cx e1 e2 a0 hth _ _ _ _ _ _ _ hf hS (lv_sub hl [2, 0] rfl)
      · have hf := jI_f hf hc
        refine lv_iconst (pc := 31) (v := 0) hx hb dX1_cost_31 rfl ?_
        exact j_iret (pc := 32) cx hS hf e1 e2 dX1_cost_32
    · have hf := jI_t hf hc
      exact wX1_cost_16 cx e1 e2 a0 hth _ _ _ _ _ _ hf hS (lv_sub hl [0] rfl)
theorem metX1_cost (l : Launch) (N : Nat) (a0 : Nat) (x1 : Int32) (x2 : Int32) (h h' : jH) (r : Int32) (hth : jcd h a0 = some 0) (hf : (fX1_cost N a0 x1 x2).1 h = some (r, h')) : jMet l yX1_cost (ws_ yX1_cost cX1_cost 5 (Option.some Jvm.ClassFile.FieldType.int)) (8) (178) [.ref a0, .int x1, .int x2] h h' (.returned (some (.int r))) := by
  refine jStart rfl (jle hf) (Nat.le_of_ble_eq_true rfl) ?_
  intro p e s m below meth c D dA H0 mc ms ls cx hnm e1 e2 hS hl
  have hth := jTh.mk hS hth
  exact wX1_cost_0 cx e1 e2 a0 hth _ _ _ _ _ _ _ _ hf hS hl
def fX1_bears_78 (N : Nat) (a0 : Nat) (x3 : Int32) : jM Int32 := jR x3
def fX1_bears_32 (N : Nat) (a0 : Nat) : Nat → Int32 → Int32 → Int32 → jM Int32
  | 0, _, _, _ => jE
  | n + 1, x1, x2, x3 => jB (jgR [0] 2 (some a0)) fun y1 => jB (jrc 2 y1) fun b3 => jB (fX3_place N b3 x2 x1) fun y2 => if y2 = (-1) then (fX1_bears_78 N a0 x3) else (jB (jgR [0] 2 (some a0)) fun y4 => jB (jgR [0] 2 (some a0)) fun y5 => jB (jrc 2 y5) fun b7 => jB (fX3_place N b7 x2 x1) fun y6 => jB (jrc 2 y4) fun b9 => jB (fX3_writes N b9 x2 x1 y6) fun _ => jB (jgR [0] 2 (some a0)) fun y10 => jB (jrc 2 y10) fun b12 => jB (fX3_scrapes N b12 x1 0) fun _ => fX1_bears_32 N a0 n x1 x2 (x3 + 1))
def fX1_bears_16 (N : Nat) (a0 : Nat) : jM Int32 := jR (-1)
def fX1_bears (N : Nat) (a0 : Nat) (x1 : Int32) (x2 : Int32) : jM Int32 := jB (fX1_isText a0 x2) fun y1 => if y1 = 0 then (fX1_bears_16 N a0) else (jB (fX1_isSkin a0 x1) fun y2 => if y2 = 0 then (fX1_bears_16 N a0) else (jB (jgR [0] 2 (some a0)) fun y3 => jB (jgR [0] 1 (some a0)) fun y4 => jB (jrc 2 y3) fun b6 => jB (fX3_copies b6 y4) fun y5 => fX1_bears_32 N a0 N x1 x2 0))
theorem wX1_bears_78 {N : Nat} {r : Int32} (cx : jCx p s m args meth c cX1_bears "WornSkin" 4 (Option.some Jvm.ClassFile.FieldType.int) D dA H0 hs.2.2.2.2) (e1 : h'.2.2.1 = hs.2.2.1 + mc) (e2 : h'.2.2.2.1 = hs.2.2.2.1 + ms) (a0 : Nat) (hth : jTh hs a0 0) : ∀ (x3 : Int32), ∀ (h : jH) (H : Heap) (locs : List Loc) (cells slots : Nat) (ls : Array Slot), (fX1_bears_78 N a0 x3).1 h = some (r, h') → jS D dA H0 hs h H locs cells slots → lv_has ls 4 [(0, .ref a0), (3, .int x3)] → W p l e { frames := 7, cells := mc, slots := ms, locals := 155 } s m args below meth c H locs cells slots (jQ D dA H0 below s (.returned (some (.int r))) h' mc ms) (F0 m 78 ls []) := by
  have hx := cx.1
  have hb := cx.2.1
  have hown := cx.2.2.2.1
  have hts := cx.2.2.2.2.1
  have hm : h'.2.2.1 ≤ hs.2.2.1 + mc ∧ h'.2.2.2.1 ≤ hs.2.2.2.1 + ms := ⟨Nat.le_of_eq e1, Nat.le_of_eq e2⟩
  intro x3 h H locs cells slots ls hf hS hl
  unfold fX1_bears_78 at hf
  refine lv_iload_n (pc := 78) hx hb dX1_bears_78 rfl (lv_at hl 1 rfl) ?_
  exact j_iret (pc := 79) cx hS hf e1 e2 dX1_bears_79
theorem wX1_bears_32 {N : Nat} {r : Int32} (cx : jCx p s m args meth c cX1_bears "WornSkin" 4 (Option.some Jvm.ClassFile.FieldType.int) D dA H0 hs.2.2.2.2) (e1 : h'.2.2.1 = hs.2.2.1 + mc) (e2 : h'.2.2.2.1 = hs.2.2.2.1 + ms) (a0 : Nat) (hth : jTh hs a0 0) : ∀ (n : Nat) (x1 : Int32) (x2 : Int32) (x3 : Int32), ∀ (h : jH) (H : Heap) (locs : List Loc) (cells slots : Nat) (ls : Array Slot), (fX1_bears_32 N a0 n x1 x2 x3).1 h = some (r, h') → jS D dA H0 hs h H locs cells slots → lv_has ls 4 [(0, .ref a0), (1, .int x1), (2, .int x2), (3, .int x3)] → W p l e { frames := 7, cells := mc, slots := ms, locals := 155 } s m args below meth c H locs cells slots (jQ D dA H0 below s (.returned (some (.int r))) h' mc ms) (F0 m 32 ls []) := by
  have hx := cx.1
  have hb := cx.2.1
  have hown := cx.2.2.2.1
  have hts := cx.2.2.2.2.1
  have hm : h'.2.2.1 ≤ hs.2.2.1 + mc ∧ h'.2.2.2.1 ≤ hs.2.2.2.1 + ms := ⟨Nat.le_of_eq e1, Nat.le_of_eq e2⟩
  intro n
  induction n with
  | zero =>
    intro x1 x2 x3 h H locs cells slots ls hf hS hl
    exact jE_f hf
  | succ n ih =>
    intro x1 x2 x3 h H locs cells slots ls hf hS hl
    unfold fX1_bears_32 at hf
    refine lv_aload_n (pc := 32) hx hb dX1_bears_32 rfl (lv_at hl 0 rfl) ?_
    refine j_gR (pc := 33) cx hS hf fd_WornSkin_trial q432 dX1_bears_33 (fun y1 hf => ?_)
    refine lv_iload_n (pc := 36) hx hb dX1_bears_36 rfl (lv_at hl 2 rfl) ?_
    refine lv_iload_n (pc := 37) hx hb dX1_bears_37 rfl (lv_at hl 1 rfl) ?_
    obtain ⟨b3, eb, hrc, hf⟩ := jrc_s hf
    refine j_nn (pc := 38) eb [.int x1, .int x2] [] rfl ?_
    obtain ⟨y2, h1, e9, hf⟩ := jB_some hf
    refine j_callV (pc := 38) (st1 := [.int y2]) (As := [.int x2, .int x1]) (rest := []) cx hS rfl hl.1 hm (metX3_place l _ _ _ _ _ _ _ hrc e9) (jle hf) hrc rfl (lw_V q1492 q1493 q1494 q114 q1495) pdX3_place rfl rfl (Nat.le_of_ble_eq_true rfl) ⟨Nat.le_of_ble_eq_true rfl, Nat.le_of_ble_eq_true rfl⟩ dX1_bears_38 rfl (fun H locs cells slots hS => ?_)
    refine lv_iconst (pc := 41) (v := (-1)) hx hb dX1_bears_41 rfl ?_
    refine lv_icmp_eq (pc := 42) (tgt := 78) hx hb dX1_bears_42 (by decide) (fun hc => ?_) (fun hc => ?_)
    · have hf := jI_t hf hc
      exact wX1_bears_78 cx e1 e2 a0 hth _ _ _ _ _ _ _ hf hS (lv_sub hl [0, 3] rfl)
    · have hf := jI_f hf hc
      refine lv_aload_n (pc := 45) hx hb dX1_bears_45 rfl (lv_at hl 0 rfl) ?_
      refine j_gR (pc := 46) cx hS hf fd_WornSkin_trial q432 dX1_bears_46 (fun y4 hf => ?_)
      refine lv_iload_n (pc := 49) hx hb dX1_bears_49 rfl (lv_at hl 2 rfl) ?_
      refine lv_iload_n (pc := 50) hx hb dX1_bears_50 rfl (lv_at hl 1 rfl) ?_
      refine lv_aload_n (pc := 51) hx hb dX1_bears_51 rfl (lv_at hl 0 rfl) ?_
      refine j_gR (pc := 52) cx hS hf fd_WornSkin_trial q432 dX1_bears_52 (fun y5 hf => ?_)
      refine lv_iload_n (pc := 55) hx hb dX1_bears_55 rfl (lv_at hl 2 rfl) ?_
      refine lv_iload_n (pc := 56) hx hb dX1_bears_56 rfl (lv_at hl 1 rfl) ?_
      obtain ⟨b7, eb, hrc, hf⟩ := jrc_s hf
      refine j_nn (pc := 57) eb [.int x1, .int x2] [.int x1, .int x2, va_rf y4] rfl ?_
      obtain ⟨y6, h1, e9, hf⟩ := jB_some hf
      refine j_callV (pc := 57) (st1 := [.int y6, .int x1, .int x2, va_rf y4]) (As := [.int x2, .int x1]) (rest := [.int x1, .int x2, va_rf y4]) cx hS rfl hl.1 hm (metX3_place l _ _ _ _ _ _ _ hrc e9) (jle hf) hrc rfl (lw_V q1492 q1493 q1494 q114 q1495) pdX3_place rfl rfl (by simp only [List.map_cons, List.map_nil, List.sum_cons, List.sum_nil, jrfc]; exact Nat.le_of_ble_eq_true rfl) ⟨Nat.le_of_ble_eq_true rfl, Nat.le_of_ble_eq_true rfl⟩ dX1_bears_57 rfl (fun H locs cells slots hS => ?_)
      obtain ⟨b9, eb, hrc, hf⟩ := jrc_s hf
      refine j_nn (pc := 60) eb [.int y6, .int x1, .int x2] [] rfl ?_
      obtain ⟨_, h1, e9, hf⟩ := jB_some hf
      refine j_callV (pc := 60) (st1 := []) (As := [.int x2, .int x1, .int y6]) (rest := []) cx hS rfl hl.1 hm (metX3_writes l _ _ _ _ _ _ _ _ hrc e9) (jle hf) hrc rfl (lw_V q1373 q1374 q1375 q114 q1376) pdX3_writes rfl rfl (Nat.le_of_ble_eq_true rfl) ⟨Nat.le_of_ble_eq_true rfl, Nat.le_of_ble_eq_true rfl⟩ dX1_bears_60 rfl (fun H locs cells slots hS => ?_)
      refine lv_aload_n (pc := 63) hx hb dX1_bears_63 rfl (lv_at hl 0 rfl) ?_
      refine j_gR (pc := 64) cx hS hf fd_WornSkin_trial q432 dX1_bears_64 (fun y10 hf => ?_)
      refine lv_iload_n (pc := 67) hx hb dX1_bears_67 rfl (lv_at hl 1 rfl) ?_
      refine lv_iconst (pc := 68) (v := 0) hx hb dX1_bears_68 rfl ?_
      obtain ⟨b12, eb, hrc, hf⟩ := jrc_s hf
      refine j_nn (pc := 69) eb [.int 0, .int x1] [] rfl ?_
      obtain ⟨_, h1, e9, hf⟩ := jB_some hf
      refine j_callV (pc := 69) (st1 := []) (As := [.int x1, .int 0]) (rest := []) cx hS rfl hl.1 hm (metX3_scrapes l _ _ _ _ _ _ _ hrc e9) (jle hf) hrc rfl (lw_V q1394 q1395 q1396 q114 q1397) pdX3_scrapes rfl rfl (Nat.le_of_ble_eq_true rfl) ⟨Nat.le_of_ble_eq_true rfl, Nat.le_of_ble_eq_true rfl⟩ dX1_bears_69 rfl (fun H locs cells slots hS => ?_)
      refine lv_iinc (pc := 72) (v := (x3 + 1)) (lv' := [(3, .int (x3 + 1)), (0, .ref a0), (1, .int x1), (2, .int x2)]) hx hb dX1_bears_72 hl (k := 3) rfl rfl (Nat.le_of_ble_eq_true rfl) rfl (fun ls hl => ?_)
      refine lv_goto (pc := 75) (tgt := 32) hx hb dX1_bears_75 (by decide) ?_
      exact ih _ _ _ _ _ _ _ _ _ hf hS (lv_sub hl [1, 2, 3, 0] rfl)
theorem wX1_bears_16 {N : Nat} {r : Int32} (cx : jCx p s m args meth c cX1_bears "WornSkin" 4 (Option.some Jvm.ClassFile.FieldType.int) D dA H0 hs.2.2.2.2) (e1 : h'.2.2.1 = hs.2.2.1 + mc) (e2 : h'.2.2.2.1 = hs.2.2.2.1 + ms) (a0 : Nat) (hth : jTh hs a0 0) : ∀ (h : jH) (H : Heap) (locs : List Loc) (cells slots : Nat) (ls : Array Slot), (fX1_bears_16 N a0).1 h = some (r, h') → jS D dA H0 hs h H locs cells slots → lv_has ls 4 [(0, .ref a0)] → W p l e { frames := 7, cells := mc, slots := ms, locals := 155 } s m args below meth c H locs cells slots (jQ D dA H0 below s (.returned (some (.int r))) h' mc ms) (F0 m 16 ls []) := by
  have hx := cx.1
  have hb := cx.2.1
  have hown := cx.2.2.2.1
  have hts := cx.2.2.2.2.1
  have hm : h'.2.2.1 ≤ hs.2.2.1 + mc ∧ h'.2.2.2.1 ≤ hs.2.2.2.1 + ms := ⟨Nat.le_of_eq e1, Nat.le_of_eq e2⟩
  intro h H locs cells slots ls hf hS hl
  unfold fX1_bears_16 at hf
  refine lv_iconst (pc := 16) (v := (-1)) hx hb dX1_bears_16 rfl ?_
  exact j_iret (pc := 17) cx hS hf e1 e2 dX1_bears_17
theorem wX1_bears_0 {N : Nat} {r : Int32} (cx : jCx p s m args meth c cX1_bears "WornSkin" 4 (Option.some Jvm.ClassFile.FieldType.int) D dA H0 hs.2.2.2.2) (e1 : h'.2.2.1 = hs.2.2.1 + mc) (e2 : h'.2.2.2.1 = hs.2.2.2.1 + ms) (a0 : Nat) (hth : jTh hs a0 0) : ∀ (x1 : Int32) (x2 : Int32), ∀ (h : jH) (H : Heap) (locs : List Loc) (cells slots : Nat) (ls : Array Slot), (fX1_bears N a0 x1 x2).1 h = some (r, h') → jS D dA H0 hs h H locs cells slots → lv_has ls 4 [(0, .ref a0), (1, .int x1), (2, .int x2)] → W p l e { frames := 7, cells := mc, slots := ms, locals := 155 } s m args below meth c H locs cells slots (jQ D dA H0 below s (.returned (some (.int r))) h' mc ms) (F0 m 0 ls []) := by
  have hx := cx.1
  have hb := cx.2.1
  have hown := cx.2.2.2.1
  have hts := cx.2.2.2.2.1
  have hm : h'.2.2.1 ≤ hs.2.2.1 + mc ∧ h'.2.2.2.1 ≤ hs.2.2.2.1 + ms := ⟨Nat.le_of_eq e1, Nat.le_of_eq e2⟩
  intro x1 x2 h H locs cells slots ls hf hS hl
  unfold fX1_bears at hf
  refine lv_aload_n (pc := 0) hx hb dX1_bears_0 rfl (lv_at hl 0 rfl) ?_
  refine lv_iload_n (pc := 1) hx hb dX1_bears_1 rfl (lv_at hl 2 rfl) ?_
  obtain ⟨y1, h1, e9, hf⟩ := jB_some hf
  refine j_callV (pc := 2) (st1 := [.int y1]) (As := [.int x2]) (rest := []) cx hS rfl hl.1 hm (metX1_isText l _ _ _ _ _ (hth.at hS) e9) (jle hf) (hth.at hS) rfl (lw_V q1282 q1284 qs36 q112 q1285) pdX1_isText rfl rfl (Nat.le_of_ble_eq_true rfl) ⟨Nat.le_of_ble_eq_true rfl, Nat.le_of_ble_eq_true rfl⟩ dX1_bears_2 rfl (fun H locs cells slots hS => ?_)
  refine lv_if_eq (pc := 5) (tgt := 16) hx hb dX1_bears_5 (by decide) (fun hc => ?_) (fun hc => ?_)
  · have hf := jI_t hf hc
    exact wX1_bears_16 cx e1 e2 a0 hth _ _ _ _ _ _ hf hS (lv_sub hl [0] rfl)
  · have hf := jI_f hf hc
    refine lv_aload_n (pc := 8) hx hb dX1_bears_8 rfl (lv_at hl 0 rfl) ?_
    refine lv_iload_n (pc := 9) hx hb dX1_bears_9 rfl (lv_at hl 1 rfl) ?_
    obtain ⟨y2, h1, e9, hf⟩ := jB_some hf
    refine j_callV (pc := 10) (st1 := [.int y2]) (As := [.int x1]) (rest := []) cx hS rfl hl.1 hm (metX1_isSkin l _ _ _ _ _ (hth.at hS) e9) (jle hf) (hth.at hS) rfl (lw_V q1149 q1151 qs33 q112 q1152) pdX1_isSkin rfl rfl (Nat.le_of_ble_eq_true rfl) ⟨Nat.le_of_ble_eq_true rfl, Nat.le_of_ble_eq_true rfl⟩ dX1_bears_10 rfl (fun H locs cells slots hS => ?_)
    refine lv_if_ne (pc := 13) (tgt := 18) hx hb dX1_bears_13 (by decide) (fun hc => ?_) (fun hc => ?_)
    · have hf := jI_f hf hc
      refine lv_aload_n (pc := 18) hx hb dX1_bears_18 rfl (lv_at hl 0 rfl) ?_
      refine j_gR (pc := 19) cx hS hf fd_WornSkin_trial q432 dX1_bears_19 (fun y3 hf => ?_)
      refine lv_aload_n (pc := 22) hx hb dX1_bears_22 rfl (lv_at hl 0 rfl) ?_
      refine j_gR (pc := 23) cx hS hf fd_WornSkin_shelf q430 dX1_bears_23 (fun y4 hf => ?_)
      obtain ⟨b6, eb, hrc, hf⟩ := jrc_s hf
      refine j_nn (pc := 26) eb [va_rf y4] [] rfl ?_
      obtain ⟨y5, h1, e9, hf⟩ := jB_some hf
      refine j_callV (pc := 26) (st1 := [va_rf y5]) (As := [va_rf y4]) (rest := []) cx hS rfl hl.1 hm (metX3_copies l _ _ _ _ _ hrc e9) (jle hf) hrc rfl (lw_V q1505 q1368 q1369 q114 q1370) pdX3_copies rfl rfl (Nat.le_of_ble_eq_true rfl) ⟨Nat.le_of_ble_eq_true rfl, Nat.le_of_ble_eq_true rfl⟩ dX1_bears_26 rfl (fun H locs cells slots hS => ?_)
      refine lv_pop (pc := 29) hx hb dX1_bears_29 (jrfc _) ?_
      refine lv_iconst (pc := 30) (v := 0) hx hb dX1_bears_30 rfl ?_
      refine lv_istore_n (pc := 31) (i := 3) (lv' := [(3, .int 0), (0, .ref a0), (1, .int x1), (2, .int x2)]) hx hb dX1_bears_31 rfl hl (Nat.le_of_ble_eq_true rfl) rfl (fun ls hl => ?_)
      exact wX1_bears_32 cx e1 e2 a0 hth N _ _ _ _ _ _ _ _ _ hf hS (lv_sub hl [1, 2, 3, 0] rfl)
    · have hf := jI_t hf hc
      exact wX1_bears_16 cx e1 e2 a0 hth _ _ _ _ _ _ hf hS (lv_sub hl [0] rfl)
theorem metX1_bears (l : Launch) (N : Nat) (a0 : Nat) (x1 : Int32) (x2 : Int32) (h h' : jH) (r : Int32) (hth : jcd h a0 = some 0) (hf : (fX1_bears N a0 x1 x2).1 h = some (r, h')) : jMet l yX1_bears (ws_ yX1_bears cX1_bears 4 (Option.some Jvm.ClassFile.FieldType.int)) (7) (155) [.ref a0, .int x1, .int x2] h h' (.returned (some (.int r))) := by
  refine jStart rfl (jle hf) (Nat.le_of_ble_eq_true rfl) ?_
  intro p e s m below meth c D dA H0 mc ms ls cx hnm e1 e2 hS hl
  have hth := jTh.mk hS hth
  exact wX1_bears_0 cx e1 e2 a0 hth _ _ _ _ _ _ _ _ hf hS hl
def fX1_over_38 (N : Nat) (a0 : Nat) (x2 : Int32) : jM Int32 := jR x2
def fX1_over_14 (N : Nat) (a0 : Nat) : Nat → Int32 → Int32 → Int32 → jM Int32
  | 0, _, _, _ => jE
  | n + 1, x1, x2, x3 => if 18 ≤ x3 then (fX1_over_38 N a0 x2) else (jB (jgR [0] 1 (some a0)) fun y1 => jB (jrc 2 y1) fun b3 => jB (fX3_over N b3 x3 x1) fun y2 => fX1_over_14 N a0 n x1 (x2 ||| y2) (x3 + 1))
def fX1_over (N : Nat) (a0 : Nat) (x1 : Int32) : jM Int32 := jB (fX1_isText a0 x1) fun y1 => if y1 = 0 then (jR (-1)) else (fX1_over_14 N a0 N x1 0 0)
theorem wX1_over_38 {N : Nat} {r : Int32} (cx : jCx p s m args meth c cX1_over "WornSkin" 4 (Option.some Jvm.ClassFile.FieldType.int) D dA H0 hs.2.2.2.2) (e1 : h'.2.2.1 = hs.2.2.1 + mc) (e2 : h'.2.2.2.1 = hs.2.2.2.1 + ms) (a0 : Nat) (hth : jTh hs a0 0) : ∀ (x2 : Int32), ∀ (h : jH) (H : Heap) (locs : List Loc) (cells slots : Nat) (ls : Array Slot), (fX1_over_38 N a0 x2).1 h = some (r, h') → jS D dA H0 hs h H locs cells slots → lv_has ls 4 [(0, .ref a0), (2, .int x2)] → W p l e { frames := 3, cells := mc, slots := ms, locals := 61 } s m args below meth c H locs cells slots (jQ D dA H0 below s (.returned (some (.int r))) h' mc ms) (F0 m 38 ls []) := by
  have hx := cx.1
  have hb := cx.2.1
  have hown := cx.2.2.2.1
  have hts := cx.2.2.2.2.1
  have hm : h'.2.2.1 ≤ hs.2.2.1 + mc ∧ h'.2.2.2.1 ≤ hs.2.2.2.1 + ms := ⟨Nat.le_of_eq e1, Nat.le_of_eq e2⟩
  intro x2 h H locs cells slots ls hf hS hl
  unfold fX1_over_38 at hf
  refine lv_iload_n (pc := 38) hx hb dX1_over_38 rfl (lv_at hl 1 rfl) ?_
  exact j_iret (pc := 39) cx hS hf e1 e2 dX1_over_39
theorem wX1_over_14 {N : Nat} {r : Int32} (cx : jCx p s m args meth c cX1_over "WornSkin" 4 (Option.some Jvm.ClassFile.FieldType.int) D dA H0 hs.2.2.2.2) (e1 : h'.2.2.1 = hs.2.2.1 + mc) (e2 : h'.2.2.2.1 = hs.2.2.2.1 + ms) (a0 : Nat) (hth : jTh hs a0 0) : ∀ (n : Nat) (x1 : Int32) (x2 : Int32) (x3 : Int32), ∀ (h : jH) (H : Heap) (locs : List Loc) (cells slots : Nat) (ls : Array Slot), (fX1_over_14 N a0 n x1 x2 x3).1 h = some (r, h') → jS D dA H0 hs h H locs cells slots → lv_has ls 4 [(0, .ref a0), (1, .int x1), (2, .int x2), (3, .int x3)] → W p l e { frames := 3, cells := mc, slots := ms, locals := 61 } s m args below meth c H locs cells slots (jQ D dA H0 below s (.returned (some (.int r))) h' mc ms) (F0 m 14 ls []) := by
  have hx := cx.1
  have hb := cx.2.1
  have hown := cx.2.2.2.1
  have hts := cx.2.2.2.2.1
  have hm : h'.2.2.1 ≤ hs.2.2.1 + mc ∧ h'.2.2.2.1 ≤ hs.2.2.2.1 + ms := ⟨Nat.le_of_eq e1, Nat.le_of_eq e2⟩
  intro n
  induction n with
  | zero =>
    intro x1 x2 x3 h H locs cells slots ls hf hS hl
    exact jE_f hf
  | succ n ih =>
    intro x1 x2 x3 h H locs cells slots ls hf hS hl
    unfold fX1_over_14 at hf
    refine lv_iload_n (pc := 14) hx hb dX1_over_14 rfl (lv_at hl 3 rfl) ?_
    refine lv_bipush (pc := 15) (v := 18) hx hb dX1_over_15 rfl ?_
    refine lv_icmp_ge (pc := 17) (tgt := 38) hx hb dX1_over_17 (by decide) (fun hc => ?_) (fun hc => ?_)
    · have hf := jI_t hf hc
      exact wX1_over_38 cx e1 e2 a0 hth _ _ _ _ _ _ _ hf hS (lv_sub hl [0, 2] rfl)
    · have hf := jI_f hf hc
      refine lv_iload_n (pc := 20) hx hb dX1_over_20 rfl (lv_at hl 2 rfl) ?_
      refine lv_aload_n (pc := 21) hx hb dX1_over_21 rfl (lv_at hl 0 rfl) ?_
      refine j_gR (pc := 22) cx hS hf fd_WornSkin_shelf q430 dX1_over_22 (fun y1 hf => ?_)
      refine lv_iload_n (pc := 25) hx hb dX1_over_25 rfl (lv_at hl 3 rfl) ?_
      refine lv_iload_n (pc := 26) hx hb dX1_over_26 rfl (lv_at hl 1 rfl) ?_
      obtain ⟨b3, eb, hrc, hf⟩ := jrc_s hf
      refine j_nn (pc := 27) eb [.int x1, .int x3] [.int x2] rfl ?_
      obtain ⟨y2, h1, e9, hf⟩ := jB_some hf
      refine j_callV (pc := 27) (st1 := [.int y2, .int x2]) (As := [.int x3, .int x1]) (rest := [.int x2]) cx hS rfl hl.1 hm (metX3_over l _ _ _ _ _ _ _ hrc e9) (jle hf) hrc rfl (lw_V q1537 q1538 q1539 q114 q1540) pdX3_over rfl rfl (Nat.le_of_ble_eq_true rfl) ⟨Nat.le_of_ble_eq_true rfl, Nat.le_of_ble_eq_true rfl⟩ dX1_over_27 rfl (fun H locs cells slots hS => ?_)
      refine lv_ior (pc := 30) hx hb dX1_over_30 ?_
      refine lv_istore_n (pc := 31) (i := 2) (lv' := [(2, .int (x2 ||| y2)), (0, .ref a0), (1, .int x1), (3, .int x3)]) hx hb dX1_over_31 rfl hl (Nat.le_of_ble_eq_true rfl) rfl (fun ls hl => ?_)
      refine lv_iinc (pc := 32) (v := (x3 + 1)) (lv' := [(3, .int (x3 + 1)), (2, .int (x2 ||| y2)), (0, .ref a0), (1, .int x1)]) hx hb dX1_over_32 hl (k := 3) rfl rfl (Nat.le_of_ble_eq_true rfl) rfl (fun ls hl => ?_)
      refine lv_goto (pc := 35) (tgt := 14) hx hb dX1_over_35 (by decide) ?_
      exact ih _ _ _ _ _ _ _ _ _ hf hS (lv_sub hl [2, 3, 1, 0] rfl)
theorem wX1_over_0 {N : Nat} {r : Int32} (cx : jCx p s m args meth c cX1_over "WornSkin" 4 (Option.some Jvm.ClassFile.FieldType.int) D dA H0 hs.2.2.2.2) (e1 : h'.2.2.1 = hs.2.2.1 + mc) (e2 : h'.2.2.2.1 = hs.2.2.2.1 + ms) (a0 : Nat) (hth : jTh hs a0 0) : ∀ (x1 : Int32), ∀ (h : jH) (H : Heap) (locs : List Loc) (cells slots : Nat) (ls : Array Slot), (fX1_over N a0 x1).1 h = some (r, h') → jS D dA H0 hs h H locs cells slots → lv_has ls 4 [(0, .ref a0), (1, .int x1)] → W p l e { frames := 3, cells := mc, slots := ms, locals := 61 } s m args below meth c H locs cells slots (jQ D dA H0 below s (.returned (some (.int r))) h' mc ms) (F0 m 0 ls []) := by
  have hx := cx.1
  have hb := cx.2.1
  have hown := cx.2.2.2.1
  have hts := cx.2.2.2.2.1
  have hm : h'.2.2.1 ≤ hs.2.2.1 + mc ∧ h'.2.2.2.1 ≤ hs.2.2.2.1 + ms := ⟨Nat.le_of_eq e1, Nat.le_of_eq e2⟩
  intro x1 h H locs cells slots ls hf hS hl
  unfold fX1_over at hf
  refine lv_aload_n (pc := 0) hx hb dX1_over_0 rfl (lv_at hl 0 rfl) ?_
  refine lv_iload_n (pc := 1) hx hb dX1_over_1 rfl (lv_at hl 1 rfl) ?_
  obtain ⟨y1, h1, e9, hf⟩ := jB_some hf
  refine j_callV (pc := 2) (st1 := [.int y1]) (As := [.int x1]) (rest := []) cx hS rfl hl.1 hm (metX1_isText l _ _ _ _ _ (hth.at hS) e9) (jle hf) (hth.at hS) rfl (lw_V q1282 q1284 qs36 q112 q1285) pdX1_isText rfl rfl (Nat.le_of_ble_eq_true rfl) ⟨Nat.le_of_ble_eq_true rfl, Nat.le_of_ble_eq_true rfl⟩ dX1_over_2 rfl (fun H locs cells slots hS => ?_)
  refine lv_if_ne (pc := 5) (tgt := 10) hx hb dX1_over_5 (by decide) (fun hc => ?_) (fun hc => ?_)
  · have hf := jI_f hf hc
    refine lv_iconst (pc := 10) (v := 0) hx hb dX1_over_10 rfl ?_
    refine lv_istore_n (pc := 11) (i := 2) (lv' := [(2, .int 0), (0, .ref a0), (1, .int x1)]) hx hb dX1_over_11 rfl hl (Nat.le_of_ble_eq_true rfl) rfl (fun ls hl => ?_)
    refine lv_iconst (pc := 12) (v := 0) hx hb dX1_over_12 rfl ?_
    refine lv_istore_n (pc := 13) (i := 3) (lv' := [(3, .int 0), (2, .int 0), (0, .ref a0), (1, .int x1)]) hx hb dX1_over_13 rfl hl (Nat.le_of_ble_eq_true rfl) rfl (fun ls hl => ?_)
    exact wX1_over_14 cx e1 e2 a0 hth N _ _ _ _ _ _ _ _ _ hf hS (lv_sub hl [2, 3, 1, 0] rfl)
  · have hf := jI_t hf hc
    refine lv_iconst (pc := 8) (v := (-1)) hx hb dX1_over_8 rfl ?_
    exact j_iret (pc := 9) cx hS hf e1 e2 dX1_over_9
theorem metX1_over (l : Launch) (N : Nat) (a0 : Nat) (x1 : Int32) (h h' : jH) (r : Int32) (hth : jcd h a0 = some 0) (hf : (fX1_over N a0 x1).1 h = some (r, h')) : jMet l yX1_over (ws_ yX1_over cX1_over 4 (Option.some Jvm.ClassFile.FieldType.int)) (3) (61) [.ref a0, .int x1] h h' (.returned (some (.int r))) := by
  refine jStart rfl (jle hf) (Nat.le_of_ble_eq_true rfl) ?_
  intro p e s m below meth c D dA H0 mc ms ls cx hnm e1 e2 hS hl
  have hth := jTh.mk hS hth
  exact wX1_over_0 cx e1 e2 a0 hth _ _ _ _ _ _ _ hf hS hl
def fX1_deepest_52 (N : Nat) (a0 : Nat) (x2 : Int32) : jM Int32 := jR x2
def fX1_deepest_46 (N : Nat) (k14 : Int32 → Int32 → Int32 → jM Int32) (a0 : Nat) (x1 : Int32) (x2 : Int32) (x3 : Int32) : jM Int32 := k14 x1 x2 (x3 + 1)
def fX1_deepest_14 (N : Nat) (a0 : Nat) : Nat → Int32 → Int32 → Int32 → jM Int32
  | 0, _, _, _ => jE
  | n + 1, x1, x2, x3 => jB (jgR [0] 1 (some a0)) fun y1 => jB (jrc 2 y1) fun b3 => jB (fX3_skin b3 x1) fun y2 => jB (jgI [12] 0 y2) fun y4 => if y4 ≤ x3 then (fX1_deepest_52 N a0 x2) else (jB (fX1_layers a0 x1 x3) fun y5 => jB (fX1_layers a0 x1 x2) fun y6 => if y5 ≤ y6 then (fX1_deepest_46 N (fX1_deepest_14 N a0 n) a0 x1 x2 x3) else (fX1_deepest_46 N (fX1_deepest_14 N a0 n) a0 x1 x3 x3))
def fX1_deepest (N : Nat) (a0 : Nat) (x1 : Int32) : jM Int32 := jB (fX1_isSkin a0 x1) fun y1 => if y1 = 0 then (jR (-1)) else (fX1_deepest_14 N a0 N x1 0 1)
theorem wX1_deepest_52 {N : Nat} {r : Int32} (cx : jCx p s m args meth c cX1_deepest "WornSkin" 4 (Option.some Jvm.ClassFile.FieldType.int) D dA H0 hs.2.2.2.2) (e1 : h'.2.2.1 = hs.2.2.1 + mc) (e2 : h'.2.2.2.1 = hs.2.2.2.1 + ms) (a0 : Nat) (hth : jTh hs a0 0) : ∀ (x2 : Int32), ∀ (h : jH) (H : Heap) (locs : List Loc) (cells slots : Nat) (ls : Array Slot), (fX1_deepest_52 N a0 x2).1 h = some (r, h') → jS D dA H0 hs h H locs cells slots → lv_has ls 4 [(0, .ref a0), (2, .int x2)] → W p l e { frames := 6, cells := mc, slots := ms, locals := 129 } s m args below meth c H locs cells slots (jQ D dA H0 below s (.returned (some (.int r))) h' mc ms) (F0 m 52 ls []) := by
  have hx := cx.1
  have hb := cx.2.1
  have hown := cx.2.2.2.1
  have hts := cx.2.2.2.2.1
  have hm : h'.2.2.1 ≤ hs.2.2.1 + mc ∧ h'.2.2.2.1 ≤ hs.2.2.2.1 + ms := ⟨Nat.le_of_eq e1, Nat.le_of_eq e2⟩
  intro x2 h H locs cells slots ls hf hS hl
  unfold fX1_deepest_52 at hf
  refine lv_iload_n (pc := 52) hx hb dX1_deepest_52 rfl (lv_at hl 1 rfl) ?_
  exact j_iret (pc := 53) cx hS hf e1 e2 dX1_deepest_53
theorem wX1_deepest_46 {N : Nat} {k14 : Int32 → Int32 → Int32 → jM Int32} {r : Int32} (cx : jCx p s m args meth c cX1_deepest "WornSkin" 4 (Option.some Jvm.ClassFile.FieldType.int) D dA H0 hs.2.2.2.2) (e1 : h'.2.2.1 = hs.2.2.1 + mc) (e2 : h'.2.2.2.1 = hs.2.2.2.1 + ms) (a0 : Nat) (hth : jTh hs a0 0) (hk14 : ∀ (x1 : Int32) (x2 : Int32) (x3 : Int32), ∀ (h : jH) (H : Heap) (locs : List Loc) (cells slots : Nat) (ls : Array Slot), (k14 x1 x2 x3).1 h = some (r, h') → jS D dA H0 hs h H locs cells slots → lv_has ls 4 [(0, .ref a0), (1, .int x1), (2, .int x2), (3, .int x3)] → W p l e { frames := 6, cells := mc, slots := ms, locals := 129 } s m args below meth c H locs cells slots (jQ D dA H0 below s (.returned (some (.int r))) h' mc ms) (F0 m 14 ls [])) : ∀ (x1 : Int32) (x2 : Int32) (x3 : Int32), ∀ (h : jH) (H : Heap) (locs : List Loc) (cells slots : Nat) (ls : Array Slot), (fX1_deepest_46 N k14 a0 x1 x2 x3).1 h = some (r, h') → jS D dA H0 hs h H locs cells slots → lv_has ls 4 [(0, .ref a0), (1, .int x1), (2, .int x2), (3, .int x3)] → W p l e { frames := 6, cells := mc, slots := ms, locals := 129 } s m args below meth c H locs cells slots (jQ D dA H0 below s (.returned (some (.int r))) h' mc ms) (F0 m 46 ls []) := by
  have hx := cx.1
  have hb := cx.2.1
  have hown := cx.2.2.2.1
  have hts := cx.2.2.2.2.1
  have hm : h'.2.2.1 ≤ hs.2.2.1 + mc ∧ h'.2.2.2.1 ≤ hs.2.2.2.1 + ms := ⟨Nat.le_of_eq e1, Nat.le_of_eq e2⟩
  intro x1 x2 x3 h H locs cells slots ls hf hS hl
  unfold fX1_deepest_46 at hf
  refine lv_iinc (pc := 46) (v := (x3 + 1)) (lv' := [(3, .int (x3 + 1)), (0, .ref a0), (1, .int x1), (2, .int x2)]) hx hb dX1_deepest_46 hl (k := 3) rfl rfl (Nat.le_of_ble_eq_true rfl) rfl (fun ls hl => ?_)
  refine lv_goto (pc := 49) (tgt := 14) hx hb dX1_deepest_49 (by decide) ?_
  exact hk14 _ _ _ _ _ _ _ _ _ hf hS (lv_sub hl [1, 2, 3, 0] rfl)
theorem wX1_deepest_14 {N : Nat} {r : Int32} (cx : jCx p s m args meth c cX1_deepest "WornSkin" 4 (Option.some Jvm.ClassFile.FieldType.int) D dA H0 hs.2.2.2.2) (e1 : h'.2.2.1 = hs.2.2.1 + mc) (e2 : h'.2.2.2.1 = hs.2.2.2.1 + ms) (a0 : Nat) (hth : jTh hs a0 0) : ∀ (n : Nat) (x1 : Int32) (x2 : Int32) (x3 : Int32), ∀ (h : jH) (H : Heap) (locs : List Loc) (cells slots : Nat) (ls : Array Slot), (fX1_deepest_14 N a0 n x1 x2 x3).1 h = some (r, h') → jS D dA H0 hs h H locs cells slots → lv_has ls 4 [(0, .ref a0), (1, .int x1), (2, .int x2), (3, .int x3)] → W p l e { frames := 6, cells := mc, slots := ms, locals := 129 } s m args below meth c H locs cells slots (jQ D dA H0 below s (.returned (some (.int r))) h' mc ms) (F0 m 14 ls []) := by
  have hx := cx.1
  have hb := cx.2.1
  have hown := cx.2.2.2.1
  have hts := cx.2.2.2.2.1
  have hm : h'.2.2.1 ≤ hs.2.2.1 + mc ∧ h'.2.2.2.1 ≤ hs.2.2.2.1 + ms := ⟨Nat.le_of_eq e1, Nat.le_of_eq e2⟩
  intro n
  induction n with
  | zero =>
    intro x1 x2 x3 h H locs cells slots ls hf hS hl
    exact jE_f hf
  | succ n ih =>
    intro x1 x2 x3 h H locs cells slots ls hf hS hl
    unfold fX1_deepest_14 at hf
    refine lv_iload_n (pc := 14) hx hb dX1_deepest_14 rfl (lv_at hl 3 rfl) ?_
    refine lv_aload_n (pc := 15) hx hb dX1_deepest_15 rfl (lv_at hl 0 rfl) ?_
    refine j_gR (pc := 16) cx hS hf fd_WornSkin_shelf q430 dX1_deepest_16 (fun y1 hf => ?_)
    refine lv_iload_n (pc := 19) hx hb dX1_deepest_19 rfl (lv_at hl 1 rfl) ?_
    obtain ⟨b3, eb, hrc, hf⟩ := jrc_s hf
    refine j_nn (pc := 20) eb [.int x1] [.int x3] rfl ?_
    obtain ⟨y2, h1, e9, hf⟩ := jB_some hf
    refine j_callV (pc := 20) (st1 := [va_rf y2, .int x3]) (As := [.int x1]) (rest := [.int x3]) cx hS rfl hl.1 hm (metX3_skin l _ _ _ _ _ hrc e9) (jle hf) hrc rfl (lw_V q1159 q380 q381 q114 q382) pdX3_skin rfl rfl (Nat.le_of_ble_eq_true rfl) ⟨Nat.le_of_ble_eq_true rfl, Nat.le_of_ble_eq_true rfl⟩ dX1_deepest_20 rfl (fun H locs cells slots hS => ?_)
    refine j_gI (pc := 23) cx hS hf fd_WornSkin_Skin_lines q839 dX1_deepest_23 (fun y4 hf => ?_)
    refine lv_icmp_ge (pc := 26) (tgt := 52) hx hb dX1_deepest_26 (by decide) (fun hc => ?_) (fun hc => ?_)
    · have hf := jI_t hf hc
      exact wX1_deepest_52 cx e1 e2 a0 hth _ _ _ _ _ _ _ hf hS (lv_sub hl [0, 2] rfl)
    · have hf := jI_f hf hc
      refine lv_aload_n (pc := 29) hx hb dX1_deepest_29 rfl (lv_at hl 0 rfl) ?_
      refine lv_iload_n (pc := 30) hx hb dX1_deepest_30 rfl (lv_at hl 1 rfl) ?_
      refine lv_iload_n (pc := 31) hx hb dX1_deepest_31 rfl (lv_at hl 3 rfl) ?_
      obtain ⟨y5, h1, e9, hf⟩ := jB_some hf
      refine j_callV (pc := 32) (st1 := [.int y5]) (As := [.int x1, .int x3]) (rest := []) cx hS rfl hl.1 hm (metX1_layers l _ _ _ _ _ _ (hth.at hS) e9) (jle hf) (hth.at hS) rfl (lw_V q1326 q1315 q1316 q112 q1317) pdX1_layers rfl rfl (Nat.le_of_ble_eq_true rfl) ⟨Nat.le_of_ble_eq_true rfl, Nat.le_of_ble_eq_true rfl⟩ dX1_deepest_32 rfl (fun H locs cells slots hS => ?_)
      refine lv_aload_n (pc := 35) hx hb dX1_deepest_35 rfl (lv_at hl 0 rfl) ?_
      refine lv_iload_n (pc := 36) hx hb dX1_deepest_36 rfl (lv_at hl 1 rfl) ?_
      refine lv_iload_n (pc := 37) hx hb dX1_deepest_37 rfl (lv_at hl 2 rfl) ?_
      obtain ⟨y6, h1, e9, hf⟩ := jB_some hf
      refine j_callV (pc := 38) (st1 := [.int y6, .int y5]) (As := [.int x1, .int x2]) (rest := [.int y5]) cx hS rfl hl.1 hm (metX1_layers l _ _ _ _ _ _ (hth.at hS) e9) (jle hf) (hth.at hS) rfl (lw_V q1326 q1315 q1316 q112 q1317) pdX1_layers rfl rfl (Nat.le_of_ble_eq_true rfl) ⟨Nat.le_of_ble_eq_true rfl, Nat.le_of_ble_eq_true rfl⟩ dX1_deepest_38 rfl (fun H locs cells slots hS => ?_)
      refine lv_icmp_le (pc := 41) (tgt := 46) hx hb dX1_deepest_41 (by decide) (fun hc => ?_) (fun hc => ?_)
      · have hf := jI_t hf hc
        exact wX1_deepest_46 cx e1 e2 a0 hth ih _ _ _ _ _ _ _ _ _ hf hS hl
      · have hf := jI_f hf hc
        refine lv_iload_n (pc := 44) hx hb dX1_deepest_44 rfl (lv_at hl 3 rfl) ?_
        refine lv_istore_n (pc := 45) (i := 2) (lv' := [(2, .int x3), (0, .ref a0), (1, .int x1), (3, .int x3)]) hx hb dX1_deepest_45 rfl hl (Nat.le_of_ble_eq_true rfl) rfl (fun ls hl => ?_)
        exact wX1_deepest_46 cx e1 e2 a0 hth ih _ _ _ _ _ _ _ _ _ hf hS (lv_sub hl [1, 2, 0, 3] rfl)
theorem wX1_deepest_0 {N : Nat} {r : Int32} (cx : jCx p s m args meth c cX1_deepest "WornSkin" 4 (Option.some Jvm.ClassFile.FieldType.int) D dA H0 hs.2.2.2.2) (e1 : h'.2.2.1 = hs.2.2.1 + mc) (e2 : h'.2.2.2.1 = hs.2.2.2.1 + ms) (a0 : Nat) (hth : jTh hs a0 0) : ∀ (x1 : Int32), ∀ (h : jH) (H : Heap) (locs : List Loc) (cells slots : Nat) (ls : Array Slot), (fX1_deepest N a0 x1).1 h = some (r, h') → jS D dA H0 hs h H locs cells slots → lv_has ls 4 [(0, .ref a0), (1, .int x1)] → W p l e { frames := 6, cells := mc, slots := ms, locals := 129 } s m args below meth c H locs cells slots (jQ D dA H0 below s (.returned (some (.int r))) h' mc ms) (F0 m 0 ls []) := by
  have hx := cx.1
  have hb := cx.2.1
  have hown := cx.2.2.2.1
  have hts := cx.2.2.2.2.1
  have hm : h'.2.2.1 ≤ hs.2.2.1 + mc ∧ h'.2.2.2.1 ≤ hs.2.2.2.1 + ms := ⟨Nat.le_of_eq e1, Nat.le_of_eq e2⟩
  intro x1 h H locs cells slots ls hf hS hl
  unfold fX1_deepest at hf
  refine lv_aload_n (pc := 0) hx hb dX1_deepest_0 rfl (lv_at hl 0 rfl) ?_
  refine lv_iload_n (pc := 1) hx hb dX1_deepest_1 rfl (lv_at hl 1 rfl) ?_
  obtain ⟨y1, h1, e9, hf⟩ := jB_some hf
  refine j_callV (pc := 2) (st1 := [.int y1]) (As := [.int x1]) (rest := []) cx hS rfl hl.1 hm (metX1_isSkin l _ _ _ _ _ (hth.at hS) e9) (jle hf) (hth.at hS) rfl (lw_V q1149 q1151 qs33 q112 q1152) pdX1_isSkin rfl rfl (Nat.le_of_ble_eq_true rfl) ⟨Nat.le_of_ble_eq_true rfl, Nat.le_of_ble_eq_true rfl⟩ dX1_deepest_2 rfl (fun H locs cells slots hS => ?_)
  refine lv_if_ne (pc := 5) (tgt := 10) hx hb dX1_deepest_5 (by decide) (fun hc => ?_) (fun hc => ?_)
  · have hf := jI_f hf hc
    refine lv_iconst (pc := 10) (v := 0) hx hb dX1_deepest_10 rfl ?_
    refine lv_istore_n (pc := 11) (i := 2) (lv' := [(2, .int 0), (0, .ref a0), (1, .int x1)]) hx hb dX1_deepest_11 rfl hl (Nat.le_of_ble_eq_true rfl) rfl (fun ls hl => ?_)
    refine lv_iconst (pc := 12) (v := 1) hx hb dX1_deepest_12 rfl ?_
    refine lv_istore_n (pc := 13) (i := 3) (lv' := [(3, .int 1), (2, .int 0), (0, .ref a0), (1, .int x1)]) hx hb dX1_deepest_13 rfl hl (Nat.le_of_ble_eq_true rfl) rfl (fun ls hl => ?_)
    exact wX1_deepest_14 cx e1 e2 a0 hth N _ _ _ _ _ _ _ _ _ hf hS (lv_sub hl [2, 3, 1, 0] rfl)
  · have hf := jI_t hf hc
    refine lv_iconst (pc := 8) (v := (-1)) hx hb dX1_deepest_8 rfl ?_
    exact j_iret (pc := 9) cx hS hf e1 e2 dX1_deepest_9
theorem metX1_deepest (l : Launch) (N : Nat) (a0 : Nat) (x1 : Int32) (h h' : jH) (r : Int32) (hth : jcd h a0 = some 0) (hf : (fX1_deepest N a0 x1).1 h = some (r, h')) : jMet l yX1_deepest (ws_ yX1_deepest cX1_deepest 4 (Option.some Jvm.ClassFile.FieldType.int)) (6) (129) [.ref a0, .int x1] h h' (.returned (some (.int r))) := by
  refine jStart rfl (jle hf) (Nat.le_of_ble_eq_true rfl) ?_
  intro p e s m below meth c D dA H0 mc ms ls cx hnm e1 e2 hS hl
  have hth := jTh.mk hS hth
  exact wX1_deepest_0 cx e1 e2 a0 hth _ _ _ _ _ _ _ hf hS hl
def fX1_bare_68 (N : Nat) (a0 : Nat) (x2 : Int32) : jM Int32 := jR x2
def fX1_bare_62 (N : Nat) (k14 : Int32 → Int32 → Int32 → jM Int32) (a0 : Nat) (x1 : Int32) (x2 : Int32) (x3 : Int32) : jM Int32 := k14 x1 x2 (x3 + 1)
def fX1_bare_14 (N : Nat) (a0 : Nat) : Nat → Int32 → Int32 → Int32 → jM Int32
  | 0, _, _, _ => jE
  | n + 1, x1, x2, x3 => jB (jgR [0] 1 (some a0)) fun y1 => jB (jrc 2 y1) fun b3 => jB (fX3_skin b3 x1) fun y2 => jB (jgI [12] 0 y2) fun y4 => if y4 ≤ x3 then (fX1_bare_68 N a0 x2) else (jB (fX1_layers a0 x1 x3) fun y5 => if y5 = 0 then (jB (jgR [0] 1 (some a0)) fun y6 => jB (jrc 2 y6) fun b8 => jB (fX3_skin b8 x1) fun y7 => jB (jgI [12] 2 y7) fun y9 => jB (fX1_has y9 x3) fun y10 => if y10 = 0 then (fX1_bare_62 N (fX1_bare_14 N a0 n) a0 x1 (x2 ||| (1 <<< (x3 &&& 31))) x3) else (fX1_bare_62 N (fX1_bare_14 N a0 n) a0 x1 x2 x3)) else (fX1_bare_62 N (fX1_bare_14 N a0 n) a0 x1 x2 x3))
def fX1_bare (N : Nat) (a0 : Nat) (x1 : Int32) : jM Int32 := jB (fX1_isSkin a0 x1) fun y1 => if y1 = 0 then (jR (-1)) else (fX1_bare_14 N a0 N x1 0 0)
theorem wX1_bare_68 {N : Nat} {r : Int32} (cx : jCx p s m args meth c cX1_bare "WornSkin" 4 (Option.some Jvm.ClassFile.FieldType.int) D dA H0 hs.2.2.2.2) (e1 : h'.2.2.1 = hs.2.2.1 + mc) (e2 : h'.2.2.2.1 = hs.2.2.2.1 + ms) (a0 : Nat) (hth : jTh hs a0 0) : ∀ (x2 : Int32), ∀ (h : jH) (H : Heap) (locs : List Loc) (cells slots : Nat) (ls : Array Slot), (fX1_bare_68 N a0 x2).1 h = some (r, h') → jS D dA H0 hs h H locs cells slots → lv_has ls 4 [(0, .ref a0), (2, .int x2)] → W p l e { frames := 6, cells := mc, slots := ms, locals := 129 } s m args below meth c H locs cells slots (jQ D dA H0 below s (.returned (some (.int r))) h' mc ms) (F0 m 68 ls []) := by
  have hx := cx.1
  have hb := cx.2.1
  have hown := cx.2.2.2.1
  have hts := cx.2.2.2.2.1
  have hm : h'.2.2.1 ≤ hs.2.2.1 + mc ∧ h'.2.2.2.1 ≤ hs.2.2.2.1 + ms := ⟨Nat.le_of_eq e1, Nat.le_of_eq e2⟩
  intro x2 h H locs cells slots ls hf hS hl
  unfold fX1_bare_68 at hf
  refine lv_iload_n (pc := 68) hx hb dX1_bare_68 rfl (lv_at hl 1 rfl) ?_
  exact j_iret (pc := 69) cx hS hf e1 e2 dX1_bare_69
theorem wX1_bare_62 {N : Nat} {k14 : Int32 → Int32 → Int32 → jM Int32} {r : Int32} (cx : jCx p s m args meth c cX1_bare "WornSkin" 4 (Option.some Jvm.ClassFile.FieldType.int) D dA H0 hs.2.2.2.2) (e1 : h'.2.2.1 = hs.2.2.1 + mc) (e2 : h'.2.2.2.1 = hs.2.2.2.1 + ms) (a0 : Nat) (hth : jTh hs a0 0) (hk14 : ∀ (x1 : Int32) (x2 : Int32) (x3 : Int32), ∀ (h : jH) (H : Heap) (locs : List Loc) (cells slots : Nat) (ls : Array Slot), (k14 x1 x2 x3).1 h = some (r, h') → jS D dA H0 hs h H locs cells slots → lv_has ls 4 [(0, .ref a0), (1, .int x1), (2, .int x2), (3, .int x3)] → W p l e { frames := 6, cells := mc, slots := ms, locals := 129 } s m args below meth c H locs cells slots (jQ D dA H0 below s (.returned (some (.int r))) h' mc ms) (F0 m 14 ls [])) : ∀ (x1 : Int32) (x2 : Int32) (x3 : Int32), ∀ (h : jH) (H : Heap) (locs : List Loc) (cells slots : Nat) (ls : Array Slot), (fX1_bare_62 N k14 a0 x1 x2 x3).1 h = some (r, h') → jS D dA H0 hs h H locs cells slots → lv_has ls 4 [(0, .ref a0), (1, .int x1), (2, .int x2), (3, .int x3)] → W p l e { frames := 6, cells := mc, slots := ms, locals := 129 } s m args below meth c H locs cells slots (jQ D dA H0 below s (.returned (some (.int r))) h' mc ms) (F0 m 62 ls []) := by
  have hx := cx.1
  have hb := cx.2.1
  have hown := cx.2.2.2.1
  have hts := cx.2.2.2.2.1
  have hm : h'.2.2.1 ≤ hs.2.2.1 + mc ∧ h'.2.2.2.1 ≤ hs.2.2.2.1 + ms := ⟨Nat.le_of_eq e1, Nat.le_of_eq e2⟩
  intro x1 x2 x3 h H locs cells slots ls hf hS hl
  unfold fX1_bare_62 at hf
  refine lv_iinc (pc := 62) (v := (x3 + 1)) (lv' := [(3, .int (x3 + 1)), (0, .ref a0), (1, .int x1), (2, .int x2)]) hx hb dX1_bare_62 hl (k := 3) rfl rfl (Nat.le_of_ble_eq_true rfl) rfl (fun ls hl => ?_)
  refine lv_goto (pc := 65) (tgt := 14) hx hb dX1_bare_65 (by decide) ?_
  exact hk14 _ _ _ _ _ _ _ _ _ hf hS (lv_sub hl [1, 2, 3, 0] rfl)
theorem wX1_bare_14 {N : Nat} {r : Int32} (cx : jCx p s m args meth c cX1_bare "WornSkin" 4 (Option.some Jvm.ClassFile.FieldType.int) D dA H0 hs.2.2.2.2) (e1 : h'.2.2.1 = hs.2.2.1 + mc) (e2 : h'.2.2.2.1 = hs.2.2.2.1 + ms) (a0 : Nat) (hth : jTh hs a0 0) : ∀ (n : Nat) (x1 : Int32) (x2 : Int32) (x3 : Int32), ∀ (h : jH) (H : Heap) (locs : List Loc) (cells slots : Nat) (ls : Array Slot), (fX1_bare_14 N a0 n x1 x2 x3).1 h = some (r, h') → jS D dA H0 hs h H locs cells slots → lv_has ls 4 [(0, .ref a0), (1, .int x1), (2, .int x2), (3, .int x3)] → W p l e { frames := 6, cells := mc, slots := ms, locals := 129 } s m args below meth c H locs cells slots (jQ D dA H0 below s (.returned (some (.int r))) h' mc ms) (F0 m 14 ls []) := by
  have hx := cx.1
  have hb := cx.2.1
  have hown := cx.2.2.2.1
  have hts := cx.2.2.2.2.1
  have hm : h'.2.2.1 ≤ hs.2.2.1 + mc ∧ h'.2.2.2.1 ≤ hs.2.2.2.1 + ms := ⟨Nat.le_of_eq e1, Nat.le_of_eq e2⟩
  intro n
  induction n with
  | zero =>
    intro x1 x2 x3 h H locs cells slots ls hf hS hl
    exact jE_f hf
  | succ n ih =>
    intro x1 x2 x3 h H locs cells slots ls hf hS hl
    unfold fX1_bare_14 at hf
    refine lv_iload_n (pc := 14) hx hb dX1_bare_14 rfl (lv_at hl 3 rfl) ?_
    refine lv_aload_n (pc := 15) hx hb dX1_bare_15 rfl (lv_at hl 0 rfl) ?_
    refine j_gR (pc := 16) cx hS hf fd_WornSkin_shelf q430 dX1_bare_16 (fun y1 hf => ?_)
    refine lv_iload_n (pc := 19) hx hb dX1_bare_19 rfl (lv_at hl 1 rfl) ?_
    obtain ⟨b3, eb, hrc, hf⟩ := jrc_s hf
    refine j_nn (pc := 20) eb [.int x1] [.int x3] rfl ?_
    obtain ⟨y2, h1, e9, hf⟩ := jB_some hf
    refine j_callV (pc := 20) (st1 := [va_rf y2, .int x3]) (As := [.int x1]) (rest := [.int x3]) cx hS rfl hl.1 hm (metX3_skin l _ _ _ _ _ hrc e9) (jle hf) hrc rfl (lw_V q1159 q380 q381 q114 q382) pdX3_skin rfl rfl (Nat.le_of_ble_eq_true rfl) ⟨Nat.le_of_ble_eq_true rfl, Nat.le_of_ble_eq_true rfl⟩ dX1_bare_20 rfl (fun H locs cells slots hS => ?_)
    refine j_gI (pc := 23) cx hS hf fd_WornSkin_Skin_lines q839 dX1_bare_23 (fun y4 hf => ?_)
    refine lv_icmp_ge (pc := 26) (tgt := 68) hx hb dX1_bare_26 (by decide) (fun hc => ?_) (fun hc => ?_)
    · have hf := jI_t hf hc
      exact wX1_bare_68 cx e1 e2 a0 hth _ _ _ _ _ _ _ hf hS (lv_sub hl [0, 2] rfl)
    · have hf := jI_f hf hc
      refine lv_aload_n (pc := 29) hx hb dX1_bare_29 rfl (lv_at hl 0 rfl) ?_
      refine lv_iload_n (pc := 30) hx hb dX1_bare_30 rfl (lv_at hl 1 rfl) ?_
      refine lv_iload_n (pc := 31) hx hb dX1_bare_31 rfl (lv_at hl 3 rfl) ?_
      obtain ⟨y5, h1, e9, hf⟩ := jB_some hf
      refine j_callV (pc := 32) (st1 := [.int y5]) (As := [.int x1, .int x3]) (rest := []) cx hS rfl hl.1 hm (metX1_layers l _ _ _ _ _ _ (hth.at hS) e9) (jle hf) (hth.at hS) rfl (lw_V q1326 q1315 q1316 q112 q1317) pdX1_layers rfl rfl (Nat.le_of_ble_eq_true rfl) ⟨Nat.le_of_ble_eq_true rfl, Nat.le_of_ble_eq_true rfl⟩ dX1_bare_32 rfl (fun H locs cells slots hS => ?_)
      refine lv_if_ne (pc := 35) (tgt := 62) hx hb dX1_bare_35 (by decide) (fun hc => ?_) (fun hc => ?_)
      · have hf := jI_f hf hc
        exact wX1_bare_62 cx e1 e2 a0 hth ih _ _ _ _ _ _ _ _ _ hf hS hl
      · have hf := jI_t hf hc
        refine lv_aload_n (pc := 38) hx hb dX1_bare_38 rfl (lv_at hl 0 rfl) ?_
        refine j_gR (pc := 39) cx hS hf fd_WornSkin_shelf q430 dX1_bare_39 (fun y6 hf => ?_)
        refine lv_iload_n (pc := 42) hx hb dX1_bare_42 rfl (lv_at hl 1 rfl) ?_
        obtain ⟨b8, eb, hrc, hf⟩ := jrc_s hf
        refine j_nn (pc := 43) eb [.int x1] [] rfl ?_
        obtain ⟨y7, h1, e9, hf⟩ := jB_some hf
        refine j_callV (pc := 43) (st1 := [va_rf y7]) (As := [.int x1]) (rest := []) cx hS rfl hl.1 hm (metX3_skin l _ _ _ _ _ hrc e9) (jle hf) hrc rfl (lw_V q1159 q380 q381 q114 q382) pdX3_skin rfl rfl (Nat.le_of_ble_eq_true rfl) ⟨Nat.le_of_ble_eq_true rfl, Nat.le_of_ble_eq_true rfl⟩ dX1_bare_43 rfl (fun H locs cells slots hS => ?_)
        refine j_gI (pc := 46) cx hS hf fd_WornSkin_Skin_holes q844 dX1_bare_46 (fun y9 hf => ?_)
        refine lv_iload_n (pc := 49) hx hb dX1_bare_49 rfl (lv_at hl 3 rfl) ?_
        obtain ⟨y10, h1, e9, hf⟩ := jB_some hf
        refine j_callS (pc := 50) (st1 := [.int y10]) (As := [.int y9, .int x3]) (rest := []) cx hS rfl hl.1 hm (metX1_has l _ _ _ _ _ e9) (jle hf) (lw_S q1549 q864 q112 q865) pdX1_has rfl rfl (Nat.le_of_ble_eq_true rfl) ⟨Nat.le_of_ble_eq_true rfl, Nat.le_of_ble_eq_true rfl⟩ dX1_bare_50 rfl (fun H locs cells slots hS => ?_)
        refine lv_if_ne (pc := 53) (tgt := 62) hx hb dX1_bare_53 (by decide) (fun hc => ?_) (fun hc => ?_)
        · have hf := jI_f hf hc
          exact wX1_bare_62 cx e1 e2 a0 hth ih _ _ _ _ _ _ _ _ _ hf hS hl
        · have hf := jI_t hf hc
          refine lv_iload_n (pc := 56) hx hb dX1_bare_56 rfl (lv_at hl 2 rfl) ?_
          refine lv_iconst (pc := 57) (v := 1) hx hb dX1_bare_57 rfl ?_
          refine lv_iload_n (pc := 58) hx hb dX1_bare_58 rfl (lv_at hl 3 rfl) ?_
          refine lv_ishl (pc := 59) hx hb dX1_bare_59 ?_
          refine lv_ior (pc := 60) hx hb dX1_bare_60 ?_
          refine lv_istore_n (pc := 61) (i := 2) (lv' := [(2, .int (x2 ||| (1 <<< (x3 &&& 31)))), (0, .ref a0), (1, .int x1), (3, .int x3)]) hx hb dX1_bare_61 rfl hl (Nat.le_of_ble_eq_true rfl) rfl (fun ls hl => ?_)
          exact wX1_bare_62 cx e1 e2 a0 hth ih _ _ _ _ _ _ _ _ _ hf hS (lv_sub hl [1, 2, 0, 3] rfl)
theorem wX1_bare_0 {N : Nat} {r : Int32} (cx : jCx p s m args meth c cX1_bare "WornSkin" 4 (Option.some Jvm.ClassFile.FieldType.int) D dA H0 hs.2.2.2.2) (e1 : h'.2.2.1 = hs.2.2.1 + mc) (e2 : h'.2.2.2.1 = hs.2.2.2.1 + ms) (a0 : Nat) (hth : jTh hs a0 0) : ∀ (x1 : Int32), ∀ (h : jH) (H : Heap) (locs : List Loc) (cells slots : Nat) (ls : Array Slot), (fX1_bare N a0 x1).1 h = some (r, h') → jS D dA H0 hs h H locs cells slots → lv_has ls 4 [(0, .ref a0), (1, .int x1)] → W p l e { frames := 6, cells := mc, slots := ms, locals := 129 } s m args below meth c H locs cells slots (jQ D dA H0 below s (.returned (some (.int r))) h' mc ms) (F0 m 0 ls []) := by
  have hx := cx.1
  have hb := cx.2.1
  have hown := cx.2.2.2.1
  have hts := cx.2.2.2.2.1
  have hm : h'.2.2.1 ≤ hs.2.2.1 + mc ∧ h'.2.2.2.1 ≤ hs.2.2.2.1 + ms := ⟨Nat.le_of_eq e1, Nat.le_of_eq e2⟩
  intro x1 h H locs cells slots ls hf hS hl
  unfold fX1_bare at hf
  refine lv_aload_n (pc := 0) hx hb dX1_bare_0 rfl (lv_at hl 0 rfl) ?_
  refine lv_iload_n (pc := 1) hx hb dX1_bare_1 rfl (lv_at hl 1 rfl) ?_
  obtain ⟨y1, h1, e9, hf⟩ := jB_some hf
  refine j_callV (pc := 2) (st1 := [.int y1]) (As := [.int x1]) (rest := []) cx hS rfl hl.1 hm (metX1_isSkin l _ _ _ _ _ (hth.at hS) e9) (jle hf) (hth.at hS) rfl (lw_V q1149 q1151 qs33 q112 q1152) pdX1_isSkin rfl rfl (Nat.le_of_ble_eq_true rfl) ⟨Nat.le_of_ble_eq_true rfl, Nat.le_of_ble_eq_true rfl⟩ dX1_bare_2 rfl (fun H locs cells slots hS => ?_)
  refine lv_if_ne (pc := 5) (tgt := 10) hx hb dX1_bare_5 (by decide) (fun hc => ?_) (fun hc => ?_)
  · have hf := jI_f hf hc
    refine lv_iconst (pc := 10) (v := 0) hx hb dX1_bare_10 rfl ?_
    refine lv_istore_n (pc := 11) (i := 2) (lv' := [(2, .int 0), (0, .ref a0), (1, .int x1)]) hx hb dX1_bare_11 rfl hl (Nat.le_of_ble_eq_true rfl) rfl (fun ls hl => ?_)
    refine lv_iconst (pc := 12) (v := 0) hx hb dX1_bare_12 rfl ?_
    refine lv_istore_n (pc := 13) (i := 3) (lv' := [(3, .int 0), (2, .int 0), (0, .ref a0), (1, .int x1)]) hx hb dX1_bare_13 rfl hl (Nat.le_of_ble_eq_true rfl) rfl (fun ls hl => ?_)
    exact wX1_bare_14 cx e1 e2 a0 hth N _ _ _ _ _ _ _ _ _ hf hS (lv_sub hl [2, 3, 1, 0] rfl)
  · have hf := jI_t hf hc
    refine lv_iconst (pc := 8) (v := (-1)) hx hb dX1_bare_8 rfl ?_
    exact j_iret (pc := 9) cx hS hf e1 e2 dX1_bare_9
theorem metX1_bare (l : Launch) (N : Nat) (a0 : Nat) (x1 : Int32) (h h' : jH) (r : Int32) (hth : jcd h a0 = some 0) (hf : (fX1_bare N a0 x1).1 h = some (r, h')) : jMet l yX1_bare (ws_ yX1_bare cX1_bare 4 (Option.some Jvm.ClassFile.FieldType.int)) (6) (129) [.ref a0, .int x1] h h' (.returned (some (.int r))) := by
  refine jStart rfl (jle hf) (Nat.le_of_ble_eq_true rfl) ?_
  intro p e s m below meth c D dA H0 mc ms ls cx hnm e1 e2 hS hl
  have hth := jTh.mk hS hth
  exact wX1_bare_0 cx e1 e2 a0 hth _ _ _ _ _ _ _ hf hS hl
end
