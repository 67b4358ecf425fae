set_option maxRecDepth 100000
section
variable {p : Program} {l : Launch} {e : Env} {s : State} {m : MethodId} {args : Array Value} {below : List Frame} {meth : Method} {c : Code} {D : va_G} {dA : Nat → ClassId → Prop} {H0 : Heap} {hs h' : jH} {mc ms : Nat}
def fX1_same_47 (N : Nat) (a0 : Nat) (x1 : Int32) : jM Int32 := jR x1
def fX1_same_41 (N : Nat) (k4 : Int32 → Int32 → jM Int32) (a0 : Nat) (x1 : Int32) (x2 : Int32) : jM Int32 := k4 x1 (x2 + 1)
def fX1_same_35 (N : Nat) (k14 : Int32 → Int32 → Int32 → jM Int32) (a0 : Nat) (x1 : Int32) (x2 : Int32) (x3 : Int32) : jM Int32 := k14 x1 x2 (x3 + 1)
def fX1_same_14 (N : Nat) (k4 : Int32 → Int32 → jM Int32) (a0 : Nat) : Nat → Int32 → Int32 → Int32 → jM Int32
  | 0, _, _, _ => jE
  | n + 1, x1, x2, x3 => if 18 ≤ x3 then (fX1_same_41 N k4 a0 x1 x2) else (jB (jgR [0] 1 (some a0)) fun y1 => jB (jrc 2 y1) fun b3 => jB (fX3_areLike b3 x2 x3) fun y2 => if y2 = 0 then (fX1_same_35 N (fX1_same_14 N k4 a0 n) a0 x1 x2 x3) else (fX1_same_35 N (fX1_same_14 N k4 a0 n) a0 (x1 + 1) x2 x3))
def fX1_same_4 (N : Nat) (a0 : Nat) : Nat → Int32 → Int32 → jM Int32
  | 0, _, _ => jE
  | n + 1, x1, x2 => if 18 ≤ x2 then (fX1_same_47 N a0 x1) else (fX1_same_14 N (fX1_same_4 N a0 n) a0 N x1 x2 (x2 + 1))
def fX1_same (N : Nat) (a0 : Nat) : jM Int32 := fX1_same_4 N a0 N 0 0
theorem wX1_same_47 {N : Nat} {r : Int32} (cx : jCx p s m args meth c cX1_same "WornSkin" 4 (Option.some Jvm.ClassFile.FieldType.int) D dA H0 hs.2.2.2.2) (e1 : h'.2.2.1 = hs.2.2.1 + mc) (e2 : h'.2.2.2.1 = hs.2.2.2.1 + ms) (a0 : Nat) (hth : jTh hs a0 0) : ∀ (x1 : Int32), ∀ (h : jH) (H : Heap) (locs : List Loc) (cells slots : Nat) (ls : Array Slot), (fX1_same_47 N a0 x1).1 h = some (r, h') → jS D dA H0 hs h H locs cells slots → lv_has ls 4 [(0, .ref a0), (1, .int x1)] → W p l e { frames := 1, cells := mc, slots := ms, locals := 22 } s m args below meth c H locs cells slots (jQ D dA H0 below s (.returned (some (.int r))) h' mc ms) (F0 m 47 ls []) := by
  have hx := cx.1
  have hb := cx.2.1
  have hown := cx.2.2.2.1
  have hts := cx.2.2.2.2.1
  have hm : h'.2.2.1 ≤ hs.2.2.1 + mc ∧ h'.2.2.2.1 ≤ hs.2.2.2.1 + ms := ⟨Nat.le_of_eq e1, Nat.le_of_eq e2⟩
  intro x1 h H locs cells slots ls hf hS hl
  unfold fX1_same_47 at hf
  refine lv_iload_n (pc := 47) hx hb dX1_same_47 rfl (lv_at hl 1 rfl) ?_
  exact j_iret (pc := 48) cx hS hf e1 e2 dX1_same_48
theorem wX1_same_41 {N : Nat} {k4 : Int32 → Int32 → jM Int32} {r : Int32} (cx : jCx p s m args meth c cX1_same "WornSkin" 4 (Option.some Jvm.ClassFile.FieldType.int) D dA H0 hs.2.2.2.2) (e1 : h'.2.2.1 = hs.2.2.1 + mc) (e2 : h'.2.2.2.1 = hs.2.2.2.1 + ms) (a0 : Nat) (hth : jTh hs a0 0) (hk4 : ∀ (x1 : Int32) (x2 : Int32), ∀ (h : jH) (H : Heap) (locs : List Loc) (cells slots : Nat) (ls : Array Slot), (k4 x1 x2).1 h = some (r, h') → jS D dA H0 hs h H locs cells slots → lv_has ls 4 [(0, .ref a0), (1, .int x1), (2, .int x2)] → W p l e { frames := 1, cells := mc, slots := ms, locals := 22 } s m args below meth c H locs cells slots (jQ D dA H0 below s (.returned (some (.int r))) h' mc ms) (F0 m 4 ls [])) : ∀ (x1 : Int32) (x2 : Int32), ∀ (h : jH) (H : Heap) (locs : List Loc) (cells slots : Nat) (ls : Array Slot), (fX1_same_41 N k4 a0 x1 x2).1 h = some (r, h') → jS D dA H0 hs h H locs cells slots → lv_has ls 4 [(0, .ref a0), (1, .int x1), (2, .int x2)] → W p l e { frames := 1, cells := mc, slots := ms, locals := 22 } s m args below meth c H locs cells slots (jQ D dA H0 below s (.returned (some (.int r))) h' mc ms) (F0 m 41 ls []) := by
  have hx := cx.1
  have hb := cx.2.1
  have hown := cx.2.2.2.1
  have hts := cx.2.2.2.2.1
  have hm : h'.2.2.1 ≤ hs.2.2.1 + mc ∧ h'.2.2.2.1 ≤ hs.2.2.2.1 + ms := ⟨Nat.le_of_eq e1, Nat.le_of_eq e2⟩
  intro x1 x2 h H locs cells slots ls hf hS hl
  unfold fX1_same_41 at hf
  refine lv_iinc (pc := 41) (v := (x2 + 1)) (lv' := [(2, .int (x2 + 1)), (0, .ref a0), (1, .int x1)]) hx hb dX1_same_41 hl (k := 2) rfl rfl (Nat.le_of_ble_eq_true rfl) rfl (fun ls hl => ?_)
  refine lv_goto (pc := 44) (tgt := 4) hx hb dX1_same_44 (by decide) ?_
  exact hk4 _ _ _ _ _ _ _ _ hf hS (lv_sub hl [1, 2, 0] rfl)
theorem wX1_same_35 {N : Nat} {k14 : Int32 → Int32 → Int32 → jM Int32} {r : Int32} (cx : jCx p s m args meth c cX1_same "WornSkin" 4 (Option.some Jvm.ClassFile.FieldType.int) D dA H0 hs.2.2.2.2) (e1 : h'.2.2.1 = hs.2.2.1 + mc) (e2 : h'.2.2.2.1 = hs.2.2.2.1 + ms) (a0 : Nat) (hth : jTh hs a0 0) (hk14 : ∀ (x1 : Int32) (x2 : Int32) (x3 : Int32), ∀ (h : jH) (H : Heap) (locs : List Loc) (cells slots : Nat) (ls : Array Slot), (k14 x1 x2 x3).1 h = some (r, h') → jS D dA H0 hs h H locs cells slots → lv_has ls 4 [(0, .ref a0), (1, .int x1), (2, .int x2), (3, .int x3)] → W p l e { frames := 1, cells := mc, slots := ms, locals := 22 } s m args below meth c H locs cells slots (jQ D dA H0 below s (.returned (some (.int r))) h' mc ms) (F0 m 14 ls [])) : ∀ (x1 : Int32) (x2 : Int32) (x3 : Int32), ∀ (h : jH) (H : Heap) (locs : List Loc) (cells slots : Nat) (ls : Array Slot), (fX1_same_35 N k14 a0 x1 x2 x3).1 h = some (r, h') → jS D dA H0 hs h H locs cells slots → lv_has ls 4 [(0, .ref a0), (1, .int x1), (2, .int x2), (3, .int x3)] → W p l e { frames := 1, cells := mc, slots := ms, locals := 22 } s m args below meth c H locs cells slots (jQ D dA H0 below s (.returned (some (.int r))) h' mc ms) (F0 m 35 ls []) := by
  have hx := cx.1
  have hb := cx.2.1
  have hown := cx.2.2.2.1
  have hts := cx.2.2.2.2.1
  have hm : h'.2.2.1 ≤ hs.2.2.1 + mc ∧ h'.2.2.2.1 ≤ hs.2.2.2.1 + ms := ⟨Nat.le_of_eq e1, Nat.le_of_eq e2⟩
  intro x1 x2 x3 h H locs cells slots ls hf hS hl
  unfold fX1_same_35 at hf
  refine lv_iinc (pc := 35) (v := (x3 + 1)) (lv' := [(3, .int (x3 + 1)), (0, .ref a0), (1, .int x1), (2, .int x2)]) hx hb dX1_same_35 hl (k := 3) rfl rfl (Nat.le_of_ble_eq_true rfl) rfl (fun ls hl => ?_)
  refine lv_goto (pc := 38) (tgt := 14) hx hb dX1_same_38 (by decide) ?_
  exact hk14 _ _ _ _ _ _ _ _ _ hf hS (lv_sub hl [1, 2, 3, 0] rfl)
theorem wX1_same_14 {N : Nat} {k4 : Int32 → Int32 → jM Int32} {r : Int32} (cx : jCx p s m args meth c cX1_same "WornSkin" 4 (Option.some Jvm.ClassFile.FieldType.int) D dA H0 hs.2.2.2.2) (e1 : h'.2.2.1 = hs.2.2.1 + mc) (e2 : h'.2.2.2.1 = hs.2.2.2.1 + ms) (a0 : Nat) (hth : jTh hs a0 0) (hk4 : ∀ (x1 : Int32) (x2 : Int32), ∀ (h : jH) (H : Heap) (locs : List Loc) (cells slots : Nat) (ls : Array Slot), (k4 x1 x2).1 h = some (r, h') → jS D dA H0 hs h H locs cells slots → lv_has ls 4 [(0, .ref a0), (1, .int x1), (2, .int x2)] → W p l e { frames := 1, cells := mc, slots := ms, locals := 22 } s m args below meth c H locs cells slots (jQ D dA H0 below s (.returned (some (.int r))) h' mc ms) (F0 m 4 ls [])) : ∀ (n : Nat) (x1 : Int32) (x2 : Int32) (x3 : Int32), ∀ (h : jH) (H : Heap) (locs : List Loc) (cells slots : Nat) (ls : Array Slot), (fX1_same_14 N k4 a0 n x1 x2 x3).1 h = some (r, h') → jS D dA H0 hs h H locs cells slots → lv_has ls 4 [(0, .ref a0), (1, .int x1), (2, .int x2), (3, .int x3)] → W p l e { frames := 1, cells := mc, slots := ms, locals := 22 } s m args below meth c H locs cells slots (jQ D dA H0 below s (.returned (some (.int r))) h' mc ms) (F0 m 14 ls []) := by
  have hx := cx.1
  have hb := cx.2.1
  have hown := cx.2.2.2.1
  have hts := cx.2.2.2.2.1
  have hm : h'.2.2.1 ≤ hs.2.2.1 + mc ∧ h'.2.2.2.1 ≤ hs.2.2.2.1 + ms := ⟨Nat.le_of_eq e1, Nat.le_of_eq e2⟩
  intro n
  induction n with
  | zero =>
    intro x1 x2 x3 h H locs cells slots ls hf hS hl
    exact jE_f hf
  | succ n ih =>
    intro x1 x2 x3 h H locs cells slots ls hf hS hl
    unfold fX1_same_14 at hf
    refine lv_iload_n (pc := 14) hx hb dX1_same_14 rfl (lv_at hl 3 rfl) ?_
    refine lv_bipush (pc := 15) (v := 18) hx hb dX1_same_15 rfl ?_
    refine lv_icmp_ge (pc := 17) (tgt := 41) hx hb dX1_same_17 (by decide) (fun hc => ?_) (fun hc => ?_)
    · have hf := jI_t hf hc
      exact wX1_same_41 cx e1 e2 a0 hth hk4 _ _ _ _ _ _ _ _ hf hS (lv_sub hl [0, 1, 2] rfl)
    · have hf := jI_f hf hc
      refine lv_aload_n (pc := 20) hx hb dX1_same_20 rfl (lv_at hl 0 rfl) ?_
      refine j_gR (pc := 21) cx hS hf fd_WornSkin_shelf q430 dX1_same_21 (fun y1 hf => ?_)
      refine lv_iload_n (pc := 24) hx hb dX1_same_24 rfl (lv_at hl 2 rfl) ?_
      refine lv_iload_n (pc := 25) hx hb dX1_same_25 rfl (lv_at hl 3 rfl) ?_
      obtain ⟨b3, eb, hrc, hf⟩ := jrc_s hf
      refine j_nn (pc := 26) eb [.int x3, .int x2] [] rfl ?_
      obtain ⟨y2, h1, e9, hf⟩ := jB_some hf
      refine j_callV (pc := 26) (st1 := [.int y2]) (As := [.int x2, .int x3]) (rest := []) cx hS rfl hl.1 hm (metX3_areLike l _ _ _ _ _ _ hrc e9) (jle hf) hrc rfl (lw_V q1554 q1555 q1556 q114 q1557) pdX3_areLike rfl rfl (Nat.le_of_ble_eq_true rfl) ⟨Nat.le_of_ble_eq_true rfl, Nat.le_of_ble_eq_true rfl⟩ dX1_same_26 rfl (fun H locs cells slots hS => ?_)
      refine lv_if_eq (pc := 29) (tgt := 35) hx hb dX1_same_29 (by decide) (fun hc => ?_) (fun hc => ?_)
      · have hf := jI_t hf hc
        exact wX1_same_35 cx e1 e2 a0 hth ih _ _ _ _ _ _ _ _ _ hf hS hl
      · have hf := jI_f hf hc
        refine lv_iinc (pc := 32) (v := (x1 + 1)) (lv' := [(1, .int (x1 + 1)), (0, .ref a0), (2, .int x2), (3, .int x3)]) hx hb dX1_same_32 hl (k := 1) rfl rfl (Nat.le_of_ble_eq_true rfl) rfl (fun ls hl => ?_)
        exact wX1_same_35 cx e1 e2 a0 hth ih _ _ _ _ _ _ _ _ _ hf hS (lv_sub hl [1, 0, 2, 3] rfl)
theorem wX1_same_4 {N : Nat} {r : Int32} (cx : jCx p s m args meth c cX1_same "WornSkin" 4 (Option.some Jvm.ClassFile.FieldType.int) D dA H0 hs.2.2.2.2) (e1 : h'.2.2.1 = hs.2.2.1 + mc) (e2 : h'.2.2.2.1 = hs.2.2.2.1 + ms) (a0 : Nat) (hth : jTh hs a0 0) : ∀ (n : Nat) (x1 : Int32) (x2 : Int32), ∀ (h : jH) (H : Heap) (locs : List Loc) (cells slots : Nat) (ls : Array Slot), (fX1_same_4 N a0 n x1 x2).1 h = some (r, h') → jS D dA H0 hs h H locs cells slots → lv_has ls 4 [(0, .ref a0), (1, .int x1), (2, .int x2)] → W p l e { frames := 1, cells := mc, slots := ms, locals := 22 } s m args below meth c H locs cells slots (jQ D dA H0 below s (.returned (some (.int r))) h' mc ms) (F0 m 4 ls []) := by
  have hx := cx.1
  have hb := cx.2.1
  have hown := cx.2.2.2.1
  have hts := cx.2.2.2.2.1
  have hm : h'.2.2.1 ≤ hs.2.2.1 + mc ∧ h'.2.2.2.1 ≤ hs.2.2.2.1 + ms := ⟨Nat.le_of_eq e1, Nat.le_of_eq e2⟩
  intro n
  induction n with
  | zero =>
    intro x1 x2 h H locs cells slots ls hf hS hl
    exact jE_f hf
  | succ n ih =>
    intro x1 x2 h H locs cells slots ls hf hS hl
    unfold fX1_same_4 at hf
    refine lv_iload_n (pc := 4) hx hb dX1_same_4 rfl (lv_at hl 2 rfl) ?_
    refine lv_bipush (pc := 5) (v := 18) hx hb dX1_same_5 rfl ?_
    refine lv_icmp_ge (pc := 7) (tgt := 47) hx hb dX1_same_7 (by decide) (fun hc => ?_) (fun hc => ?_)
    · have hf := jI_t hf hc
      exact wX1_same_47 cx e1 e2 a0 hth _ _ _ _ _ _ _ hf hS (lv_sub hl [0, 1] rfl)
    · have hf := jI_f hf hc
      refine lv_iload_n (pc := 10) hx hb dX1_same_10 rfl (lv_at hl 2 rfl) ?_
      refine lv_iconst (pc := 11) (v := 1) hx hb dX1_same_11 rfl ?_
      refine lv_iadd (pc := 12) hx hb dX1_same_12 ?_
      refine lv_istore_n (pc := 13) (i := 3) (lv' := [(3, .int (x2 + 1)), (0, .ref a0), (1, .int x1), (2, .int x2)]) hx hb dX1_same_13 rfl hl (Nat.le_of_ble_eq_true rfl) rfl (fun ls hl => ?_)
      exact wX1_same_14 cx e1 e2 a0 hth ih N _ _ _ _ _ _ _ _ _ hf hS (lv_sub hl [1, 2, 3, 0] rfl)
theorem wX1_same_0 {N : Nat} {r : Int32} (cx : jCx p s m args meth c cX1_same "WornSkin" 4 (Option.some Jvm.ClassFile.FieldType.int) D dA H0 hs.2.2.2.2) (e1 : h'.2.2.1 = hs.2.2.1 + mc) (e2 : h'.2.2.2.1 = hs.2.2.2.1 + ms) (a0 : Nat) (hth : jTh hs a0 0) : ∀ (h : jH) (H : Heap) (locs : List Loc) (cells slots : Nat) (ls : Array Slot), (fX1_same N a0).1 h = some (r, h') → jS D dA H0 hs h H locs cells slots → lv_has ls 4 [(0, .ref a0)] → W p l e { frames := 1, cells := mc, slots := ms, locals := 22 } s m args below meth c H locs cells slots (jQ D dA H0 below s (.returned (some (.int r))) h' mc ms) (F0 m 0 ls []) := by
  have hx := cx.1
  have hb := cx.2.1
  have hown := cx.2.2.2.1
  have hts := cx.2.2.2.2.1
  have hm : h'.2.2.1 ≤ hs.2.2.1 + mc ∧ h'.2.2.2.1 ≤ hs.2.2.2.1 + ms := ⟨Nat.le_of_eq e1, Nat.le_of_eq e2⟩
  intro h H locs cells slots ls hf hS hl
  unfold fX1_same at hf
  refine lv_iconst (pc := 0) (v := 0) hx hb dX1_same_0 rfl ?_
  refine lv_istore_n (pc := 1) (i := 1) (lv' := [(1, .int 0), (0, .ref a0)]) hx hb dX1_same_1 rfl hl (Nat.le_of_ble_eq_true rfl) rfl (fun ls hl => ?_)
  refine lv_iconst (pc := 2) (v := 0) hx hb dX1_same_2 rfl ?_
  refine lv_istore_n (pc := 3) (i := 2) (lv' := [(2, .int 0), (1, .int 0), (0, .ref a0)]) hx hb dX1_same_3 rfl hl (Nat.le_of_ble_eq_true rfl) rfl (fun ls hl => ?_)
  exact wX1_same_4 cx e1 e2 a0 hth N _ _ _ _ _ _ _ _ hf hS (lv_sub hl [2, 1, 0] rfl)
theorem metX1_same (l : Launch) (N : Nat) (a0 : Nat) (h h' : jH) (r : Int32) (hth : jcd h a0 = some 0) (hf : (fX1_same N a0).1 h = some (r, h')) : jMet l yX1_same (ws_ yX1_same cX1_same 4 (Option.some Jvm.ClassFile.FieldType.int)) (1) (22) [.ref a0] h h' (.returned (some (.int r))) := by
  refine jStart rfl (jle hf) (Nat.le_of_ble_eq_true rfl) ?_
  intro p e s m below meth c D dA H0 mc ms ls cx hnm e1 e2 hS hl
  have hth := jTh.mk hS hth
  exact wX1_same_0 cx e1 e2 a0 hth  _ _ _ _ _ _ hf hS hl
def fX1_giveup_114 (N : Nat) (a0 : Nat) (x2 : Int32) : jM Int32 := jR x2
def fX1_giveup_108 (N : Nat) (k23 : Int32 → Int32 → Int32 → Int32 → jM Int32) (a0 : Nat) (x1 : Int32) (x2 : Int32) (x3 : Int32) (x4 : Int32) : jM Int32 := k23 x1 x2 x3 (x4 + 1)
def fX1_giveup_23 (N : Nat) (a0 : Nat) : Nat → Int32 → Int32 → Int32 → Int32 → jM Int32
  | 0, _, _, _, _ => jE
  | n + 1, x1, x2, x3, x4 => jB (fX1_skins a0) fun y1 => if y1 ≤ x4 then (fX1_giveup_114 N a0 x2) else (jB (jgR [0] 1 (some a0)) fun y2 => jB (jrc 2 y2) fun b4 => jB (fX3_mayScrape b4 x4 0) fun y3 => if y3 = 0 then (fX1_giveup_108 N (fX1_giveup_23 N a0 n) a0 x1 x2 x3 x4) else (jB (jgR [0] 2 (some a0)) fun y5 => jB (jgR [0] 1 (some a0)) fun y6 => jB (jrc 2 y5) fun b8 => jB (fX3_copies b8 y6) fun y7 => jB (jgR [0] 2 (some a0)) fun y9 => jB (jrc 2 y9) fun b11 => jB (fX3_scrapes N b11 x4 0) fun _ => jB (jgR [0] 2 (some a0)) fun y12 => jB (jgR [0] 2 (some a0)) fun y13 => jB (jrc 2 y13) fun b15 => jB (fX3_damp b15) fun y14 => jB (jrc 2 y12) fun b17 => jB (fX3_whole N b17 y14) fun y16 => jB (fX1_bits N (x1 &&& (y16 ^^^ (-1)))) fun y18 => if y18 < x3 then (fX1_giveup_108 N (fX1_giveup_23 N a0 n) a0 x1 x4 y18 x4) else (fX1_giveup_108 N (fX1_giveup_23 N a0 n) a0 x1 x2 x3 x4)))
def fX1_giveup (N : Nat) (a0 : Nat) : jM Int32 := jB (jgR [0] 1 (some a0)) fun y1 => jB (jgR [0] 1 (some a0)) fun y2 => jB (jrc 2 y2) fun b4 => jB (fX3_damp b4) fun y3 => jB (jrc 2 y1) fun b6 => jB (fX3_whole N b6 y3) fun y5 => fX1_giveup_23 N a0 N y5 (-1) 7 0
theorem wX1_giveup_114 {N : Nat} {r : Int32} (cx : jCx p s m args meth c cX1_giveup "WornSkin" 6 (Option.some Jvm.ClassFile.FieldType.int) D dA H0 hs.2.2.2.2) (e1 : h'.2.2.1 = hs.2.2.1 + mc) (e2 : h'.2.2.2.1 = hs.2.2.2.1 + ms) (a0 : Nat) (hth : jTh hs a0 0) : ∀ (x2 : Int32), ∀ (h : jH) (H : Heap) (locs : List Loc) (cells slots : Nat) (ls : Array Slot), (fX1_giveup_114 N a0 x2).1 h = some (r, h') → jS D dA H0 hs h H locs cells slots → lv_has ls 6 [(0, .ref a0), (2, .int x2)] → W p l e { frames := 125, cells := mc, slots := ms, locals := 2683 } s m args below meth c H locs cells slots (jQ D dA H0 below s (.returned (some (.int r))) h' mc ms) (F0 m 114 ls []) := by
  have hx := cx.1
  have hb := cx.2.1
  have hown := cx.2.2.2.1
  have hts := cx.2.2.2.2.1
  have hm : h'.2.2.1 ≤ hs.2.2.1 + mc ∧ h'.2.2.2.1 ≤ hs.2.2.2.1 + ms := ⟨Nat.le_of_eq e1, Nat.le_of_eq e2⟩
  intro x2 h H locs cells slots ls hf hS hl
  unfold fX1_giveup_114 at hf
  refine lv_iload_n (pc := 114) hx hb dX1_giveup_114 rfl (lv_at hl 1 rfl) ?_
  exact j_iret (pc := 115) cx hS hf e1 e2 dX1_giveup_115
theorem wX1_giveup_108 {N : Nat} {k23 : Int32 → Int32 → Int32 → Int32 → jM Int32} {r : Int32} (cx : jCx p s m args meth c cX1_giveup "WornSkin" 6 (Option.some Jvm.ClassFile.FieldType.int) D dA H0 hs.2.2.2.2) (e1 : h'.2.2.1 = hs.2.2.1 + mc) (e2 : h'.2.2.2.1 = hs.2.2.2.1 + ms) (a0 : Nat) (hth : jTh hs a0 0) (hk23 : ∀ (x1 : Int32) (x2 : Int32) (x3 : Int32) (x4 : Int32), ∀ (h : jH) (H : Heap) (locs : List Loc) (cells slots : Nat) (ls : Array Slot), (k23 x1 x2 x3 x4).1 h = some (r, h') → jS D dA H0 hs h H locs cells slots → lv_has ls 6 [(0, .ref a0), (1, .int x1), (2, .int x2), (3, .int x3), (4, .int x4)] → W p l e { frames := 125, cells := mc, slots := ms, locals := 2683 } s m args below meth c H locs cells slots (jQ D dA H0 below s (.returned (some (.int r))) h' mc ms) (F0 m 23 ls [])) : ∀ (x1 : Int32) (x2 : Int32) (x3 : Int32) (x4 : Int32), ∀ (h : jH) (H : Heap) (locs : List Loc) (cells slots : Nat) (ls : Array Slot), (fX1_giveup_108 N k23 a0 x1 x2 x3 x4).1 h = some (r, h') → jS D dA H0 hs h H locs cells slots → lv_has ls 6 [(0, .ref a0), (1, .int x1), (2, .int x2), (3, .int x3), (4, .int x4)] → W p l e { frames := 125, cells := mc, slots := ms, locals := 2683 } s m args below meth c H locs cells slots (jQ D dA H0 below s (.returned (some (.int r))) h' mc ms) (F0 m 108 ls []) := by
  have hx := cx.1
  have hb := cx.2.1
  have hown := cx.2.2.2.1
  have hts := cx.2.2.2.2.1
  have hm : h'.2.2.1 ≤ hs.2.2.1 + mc ∧ h'.2.2.2.1 ≤ hs.2.2.2.1 + ms := ⟨Nat.le_of_eq e1, Nat.le_of_eq e2⟩
  intro x1 x2 x3 x4 h H locs cells slots ls hf hS hl
  unfold fX1_giveup_108 at hf
  refine lv_iinc (pc := 108) (v := (x4 + 1)) (lv' := [(4, .int (x4 + 1)), (0, .ref a0), (1, .int x1), (2, .int x2), (3, .int x3)]) hx hb dX1_giveup_108 hl (k := 4) rfl rfl (Nat.le_of_ble_eq_true rfl) rfl (fun ls hl => ?_)
  refine lv_goto (pc := 111) (tgt := 23) hx hb dX1_giveup_111 (by decide) ?_
  exact hk23 _ _ _ _ _ _ _ _ _ _ hf hS (lv_sub hl [1, 2, 3, 4, 0] rfl)
theorem wX1_giveup_23 {N : Nat} {r : Int32} (cx : jCx p s m args meth c cX1_giveup "WornSkin" 6 (Option.some Jvm.ClassFile.FieldType.int) D dA H0 hs.2.2.2.2) (e1 : h'.2.2.1 = hs.2.2.1 + mc) (e2 : h'.2.2.2.1 = hs.2.2.2.1 + ms) (a0 : Nat) (hth : jTh hs a0 0) : ∀ (n : Nat) (x1 : Int32) (x2 : Int32) (x3 : Int32) (x4 : Int32), ∀ (h : jH) (H : Heap) (locs : List Loc) (cells slots : Nat) (ls : Array Slot), (fX1_giveup_23 N a0 n x1 x2 x3 x4).1 h = some (r, h') → jS D dA H0 hs h H locs cells slots → lv_has ls 6 [(0, .ref a0), (1, .int x1), (2, .int x2), (3, .int x3), (4, .int x4)] → W p l e { frames := 125, cells := mc, slots := ms, locals := 2683 } s m args below meth c H locs cells slots (jQ D dA H0 below s (.returned (some (.int r))) h' mc ms) (F0 m 23 ls []) := by
  have hx := cx.1
  have hb := cx.2.1
  have hown := cx.2.2.2.1
  have hts := cx.2.2.2.2.1
  have hm : h'.2.2.1 ≤ hs.2.2.1 + mc ∧ h'.2.2.2.1 ≤ hs.2.2.2.1 + ms := ⟨Nat.le_of_eq e1, Nat.le_of_eq e2⟩
  intro n
  induction n with
  | zero =>
    intro x1 x2 x3 x4 h H locs cells slots ls hf hS hl
    exact jE_f hf
  | succ n ih =>
    intro x1 x2 x3 x4 h H locs cells slots ls hf hS hl
    unfold fX1_giveup_23 at hf
    refine lv_iload (pc := 23) hx hb dX1_giveup_23 (lv_at hl 4 rfl) ?_
    refine lv_aload_n (pc := 25) hx hb dX1_giveup_25 rfl (lv_at hl 0 rfl) ?_
    obtain ⟨y1, h1, e9, hf⟩ := jB_some hf
    refine j_callV (pc := 26) (st1 := [.int y1, .int x4]) (As := []) (rest := [.int x4]) cx hS rfl hl.1 hm (metX1_skins l _ _ _ _ (hth.at hS) e9) (jle hf) (hth.at hS) rfl (lw_V q1153 q1155 qs34 q112 q1156) pdX1_skins rfl rfl (Nat.le_of_ble_eq_true rfl) ⟨Nat.le_of_ble_eq_true rfl, Nat.le_of_ble_eq_true rfl⟩ dX1_giveup_26 rfl (fun H locs cells slots hS => ?_)
    refine lv_icmp_ge (pc := 29) (tgt := 114) hx hb dX1_giveup_29 (by decide) (fun hc => ?_) (fun hc => ?_)
    · have hf := jI_t hf hc
      exact wX1_giveup_114 cx e1 e2 a0 hth _ _ _ _ _ _ _ hf hS (lv_sub hl [0, 2] rfl)
    · have hf := jI_f hf hc
      refine lv_aload_n (pc := 32) hx hb dX1_giveup_32 rfl (lv_at hl 0 rfl) ?_
      refine j_gR (pc := 33) cx hS hf fd_WornSkin_shelf q430 dX1_giveup_33 (fun y2 hf => ?_)
      refine lv_iload (pc := 36) hx hb dX1_giveup_36 (lv_at hl 4 rfl) ?_
      refine lv_iconst (pc := 38) (v := 0) hx hb dX1_giveup_38 rfl ?_
      obtain ⟨b4, eb, hrc, hf⟩ := jrc_s hf
      refine j_nn (pc := 39) eb [.int 0, .int x4] [] rfl ?_
      obtain ⟨y3, h1, e9, hf⟩ := jB_some hf
      refine j_callV (pc := 39) (st1 := [.int y3]) (As := [.int x4, .int 0]) (rest := []) cx hS rfl hl.1 hm (metX3_mayScrape l _ _ _ _ _ _ hrc e9) (jle hf) hrc rfl (lw_V q1385 q1386 q1387 q114 q1388) pdX3_mayScrape rfl rfl (Nat.le_of_ble_eq_true rfl) ⟨Nat.le_of_ble_eq_true rfl, Nat.le_of_ble_eq_true rfl⟩ dX1_giveup_39 rfl (fun H locs cells slots hS => ?_)
      refine lv_if_ne (pc := 42) (tgt := 48) hx hb dX1_giveup_42 (by decide) (fun hc => ?_) (fun hc => ?_)
      · have hf := jI_f hf hc
        refine lv_aload_n (pc := 48) hx hb dX1_giveup_48 rfl (lv_at hl 0 rfl) ?_
        refine j_gR (pc := 49) cx hS hf fd_WornSkin_trial q432 dX1_giveup_49 (fun y5 hf => ?_)
        refine lv_aload_n (pc := 52) hx hb dX1_giveup_52 rfl (lv_at hl 0 rfl) ?_
        refine j_gR (pc := 53) cx hS hf fd_WornSkin_shelf q430 dX1_giveup_53 (fun y6 hf => ?_)
        obtain ⟨b8, eb, hrc, hf⟩ := jrc_s hf
        refine j_nn (pc := 56) eb [va_rf y6] [] rfl ?_
        obtain ⟨y7, h1, e9, hf⟩ := jB_some hf
        refine j_callV (pc := 56) (st1 := [va_rf y7]) (As := [va_rf y6]) (rest := []) cx hS rfl hl.1 hm (metX3_copies l _ _ _ _ _ hrc e9) (jle hf) hrc rfl (lw_V q1505 q1368 q1369 q114 q1370) pdX3_copies rfl rfl (Nat.le_of_ble_eq_true rfl) ⟨Nat.le_of_ble_eq_true rfl, Nat.le_of_ble_eq_true rfl⟩ dX1_giveup_56 rfl (fun H locs cells slots hS => ?_)
        refine lv_pop (pc := 59) hx hb dX1_giveup_59 (jrfc _) ?_
        refine lv_aload_n (pc := 60) hx hb dX1_giveup_60 rfl (lv_at hl 0 rfl) ?_
        refine j_gR (pc := 61) cx hS hf fd_WornSkin_trial q432 dX1_giveup_61 (fun y9 hf => ?_)
        refine lv_iload (pc := 64) hx hb dX1_giveup_64 (lv_at hl 4 rfl) ?_
        refine lv_iconst (pc := 66) (v := 0) hx hb dX1_giveup_66 rfl ?_
        obtain ⟨b11, eb, hrc, hf⟩ := jrc_s hf
        refine j_nn (pc := 67) eb [.int 0, .int x4] [] rfl ?_
        obtain ⟨_, h1, e9, hf⟩ := jB_some hf
        refine j_callV (pc := 67) (st1 := []) (As := [.int x4, .int 0]) (rest := []) cx hS rfl hl.1 hm (metX3_scrapes l _ _ _ _ _ _ _ hrc e9) (jle hf) hrc rfl (lw_V q1394 q1395 q1396 q114 q1397) pdX3_scrapes rfl rfl (Nat.le_of_ble_eq_true rfl) ⟨Nat.le_of_ble_eq_true rfl, Nat.le_of_ble_eq_true rfl⟩ dX1_giveup_67 rfl (fun H locs cells slots hS => ?_)
        refine lv_iload_n (pc := 70) hx hb dX1_giveup_70 rfl (lv_at hl 1 rfl) ?_
        refine lv_aload_n (pc := 71) hx hb dX1_giveup_71 rfl (lv_at hl 0 rfl) ?_
        refine j_gR (pc := 72) cx hS hf fd_WornSkin_trial q432 dX1_giveup_72 (fun y12 hf => ?_)
        refine lv_aload_n (pc := 75) hx hb dX1_giveup_75 rfl (lv_at hl 0 rfl) ?_
        refine j_gR (pc := 76) cx hS hf fd_WornSkin_trial q432 dX1_giveup_76 (fun y13 hf => ?_)
        obtain ⟨b15, eb, hrc, hf⟩ := jrc_s hf
        refine j_nn (pc := 79) eb [] [va_rf y12, .int x1] rfl ?_
        obtain ⟨y14, h1, e9, hf⟩ := jB_some hf
        refine j_callV (pc := 79) (st1 := [.int y14, va_rf y12, .int x1]) (As := []) (rest := [va_rf y12, .int x1]) cx hS rfl hl.1 hm (metX3_damp l _ _ _ _ hrc e9) (jle hf) hrc rfl (lw_V q1168 q1169 q1170 q114 q1171) pdX3_damp rfl rfl (by simp only [List.map_cons, List.map_nil, List.sum_cons, List.sum_nil, jrfc]; exact Nat.le_of_ble_eq_true rfl) ⟨Nat.le_of_ble_eq_true rfl, Nat.le_of_ble_eq_true rfl⟩ dX1_giveup_79 rfl (fun H locs cells slots hS => ?_)
        obtain ⟨b17, eb, hrc, hf⟩ := jrc_s hf
        refine j_nn (pc := 82) eb [.int y14] [.int x1] rfl ?_
        obtain ⟨y16, h1, e9, hf⟩ := jB_some hf
        refine j_callV (pc := 82) (st1 := [.int y16, .int x1]) (As := [.int y14]) (rest := [.int x1]) cx hS rfl hl.1 hm (metX3_whole l _ _ _ _ _ _ hrc e9) (jle hf) hrc rfl (lw_V q1451 q1452 q1453 q114 q1454) pdX3_whole rfl rfl (Nat.le_of_ble_eq_true rfl) ⟨Nat.le_of_ble_eq_true rfl, Nat.le_of_ble_eq_true rfl⟩ dX1_giveup_82 rfl (fun H locs cells slots hS => ?_)
        refine lv_iconst (pc := 85) (v := (-1)) hx hb dX1_giveup_85 rfl ?_
        refine lv_ixor (pc := 86) hx hb dX1_giveup_86 ?_
        refine lv_iand (pc := 87) hx hb dX1_giveup_87 ?_
        obtain ⟨y18, h1, e9, hf⟩ := jB_some hf
        refine j_callS (pc := 88) (st1 := [.int y18]) (As := [.int (x1 &&& (y16 ^^^ (-1)))]) (rest := []) cx hS rfl hl.1 hm (metX1_bits l _ _ _ _ _ e9) (jle hf) (lw_S q1460 q1461 q112 q1462) pdX1_bits rfl rfl (Nat.le_of_ble_eq_true rfl) ⟨Nat.le_of_ble_eq_true rfl, Nat.le_of_ble_eq_true rfl⟩ dX1_giveup_88 rfl (fun H locs cells slots hS => ?_)
        refine lv_istore (pc := 91) (i := 5) (lv' := [(5, .int y18), (0, .ref a0), (1, .int x1), (2, .int x2), (3, .int x3), (4, .int x4)]) hx hb dX1_giveup_91 hl (Nat.le_of_ble_eq_true rfl) rfl (fun ls hl => ?_)
        refine lv_iload (pc := 93) hx hb dX1_giveup_93 (lv_at hl 0 rfl) ?_
        refine lv_iload_n (pc := 95) hx hb dX1_giveup_95 rfl (lv_at hl 4 rfl) ?_
        refine lv_icmp_lt (pc := 96) (tgt := 102) hx hb dX1_giveup_96 (by decide) (fun hc => ?_) (fun hc => ?_)
        · have hf := jI_t hf hc
          refine lv_iload (pc := 102) hx hb dX1_giveup_102 (lv_at hl 5 rfl) ?_
          refine lv_istore_n (pc := 104) (i := 2) (lv' := [(2, .int x4), (5, .int y18), (0, .ref a0), (1, .int x1), (3, .int x3), (4, .int x4)]) hx hb dX1_giveup_104 rfl hl (Nat.le_of_ble_eq_true rfl) rfl (fun ls hl => ?_)
          refine lv_iload (pc := 105) hx hb dX1_giveup_105 (lv_at hl 1 rfl) ?_
          refine lv_istore_n (pc := 107) (i := 3) (lv' := [(3, .int y18), (2, .int x4), (5, .int y18), (0, .ref a0), (1, .int x1), (4, .int x4)]) hx hb dX1_giveup_107 rfl hl (Nat.le_of_ble_eq_true rfl) rfl (fun ls hl => ?_)
          exact wX1_giveup_108 cx e1 e2 a0 hth ih _ _ _ _ _ _ _ _ _ _ hf hS (lv_sub hl [3, 4, 1, 0, 5] rfl)
        · have hf := jI_f hf hc
          refine lv_goto (pc := 99) (tgt := 108) hx hb dX1_giveup_99 (by decide) ?_
          exact wX1_giveup_108 cx e1 e2 a0 hth ih _ _ _ _ _ _ _ _ _ _ hf hS (lv_sub hl [1, 2, 3, 4, 5] rfl)
      · have hf := jI_t hf hc
        refine lv_goto (pc := 45) (tgt := 108) hx hb dX1_giveup_45 (by decide) ?_
        exact wX1_giveup_108 cx e1 e2 a0 hth ih _ _ _ _ _ _ _ _ _ _ hf hS hl
theorem wX1_giveup_0 {N : Nat} {r : Int32} (cx : jCx p s m args meth c cX1_giveup "WornSkin" 6 (Option.some Jvm.ClassFile.FieldType.int) D dA H0 hs.2.2.2.2) (e1 : h'.2.2.1 = hs.2.2.1 + mc) (e2 : h'.2.2.2.1 = hs.2.2.2.1 + ms) (a0 : Nat) (hth : jTh hs a0 0) : ∀ (h : jH) (H : Heap) (locs : List Loc) (cells slots : Nat) (ls : Array Slot), (fX1_giveup N a0).1 h = some (r, h') → jS D dA H0 hs h H locs cells slots → lv_has ls 6 [(0, .ref a0)] → W p l e { frames := 125, cells := mc, slots := ms, locals := 2683 } s m args below meth c H locs cells slots (jQ D dA H0 below s (.returned (some (.int r))) h' mc ms) (F0 m 0 ls []) := by
  have hx := cx.1
  have hb := cx.2.1
  have hown := cx.2.2.2.1
  have hts := cx.2.2.2.2.1
  have hm : h'.2.2.1 ≤ hs.2.2.1 + mc ∧ h'.2.2.2.1 ≤ hs.2.2.2.1 + ms := ⟨Nat.le_of_eq e1, Nat.le_of_eq e2⟩
  intro h H locs cells slots ls hf hS hl
  unfold fX1_giveup at hf
  refine lv_aload_n (pc := 0) hx hb dX1_giveup_0 rfl (lv_at hl 0 rfl) ?_
  refine j_gR (pc := 1) cx hS hf fd_WornSkin_shelf q430 dX1_giveup_1 (fun y1 hf => ?_)
  refine lv_aload_n (pc := 4) hx hb dX1_giveup_4 rfl (lv_at hl 0 rfl) ?_
  refine j_gR (pc := 5) cx hS hf fd_WornSkin_shelf q430 dX1_giveup_5 (fun y2 hf => ?_)
  obtain ⟨b4, eb, hrc, hf⟩ := jrc_s hf
  refine j_nn (pc := 8) eb [] [va_rf y1] rfl ?_
  obtain ⟨y3, h1, e9, hf⟩ := jB_some hf
  refine j_callV (pc := 8) (st1 := [.int y3, va_rf y1]) (As := []) (rest := [va_rf y1]) cx hS rfl hl.1 hm (metX3_damp l _ _ _ _ hrc e9) (jle hf) hrc rfl (lw_V q1168 q1169 q1170 q114 q1171) pdX3_damp rfl rfl (by simp only [List.map_cons, List.map_nil, List.sum_cons, List.sum_nil, jrfc]; exact Nat.le_of_ble_eq_true rfl) ⟨Nat.le_of_ble_eq_true rfl, Nat.le_of_ble_eq_true rfl⟩ dX1_giveup_8 rfl (fun H locs cells slots hS => ?_)
  obtain ⟨b6, eb, hrc, hf⟩ := jrc_s hf
  refine j_nn (pc := 11) eb [.int y3] [] rfl ?_
  obtain ⟨y5, h1, e9, hf⟩ := jB_some hf
  refine j_callV (pc := 11) (st1 := [.int y5]) (As := [.int y3]) (rest := []) cx hS rfl hl.1 hm (metX3_whole l _ _ _ _ _ _ hrc e9) (jle hf) hrc rfl (lw_V q1451 q1452 q1453 q114 q1454) pdX3_whole rfl rfl (Nat.le_of_ble_eq_true rfl) ⟨Nat.le_of_ble_eq_true rfl, Nat.le_of_ble_eq_true rfl⟩ dX1_giveup_11 rfl (fun H locs cells slots hS => ?_)
  refine lv_istore_n (pc := 14) (i := 1) (lv' := [(1, .int y5), (0, .ref a0)]) hx hb dX1_giveup_14 rfl hl (Nat.le_of_ble_eq_true rfl) rfl (fun ls hl => ?_)
  refine lv_iconst (pc := 15) (v := (-1)) hx hb dX1_giveup_15 rfl ?_
  refine lv_istore_n (pc := 16) (i := 2) (lv' := [(2, .int (-1)), (1, .int y5), (0, .ref a0)]) hx hb dX1_giveup_16 rfl hl (Nat.le_of_ble_eq_true rfl) rfl (fun ls hl => ?_)
  refine lv_bipush (pc := 17) (v := 7) hx hb dX1_giveup_17 rfl ?_
  refine lv_istore_n (pc := 19) (i := 3) (lv' := [(3, .int 7), (2, .int (-1)), (1, .int y5), (0, .ref a0)]) hx hb dX1_giveup_19 rfl hl (Nat.le_of_ble_eq_true rfl) rfl (fun ls hl => ?_)
  refine lv_iconst (pc := 20) (v := 0) hx hb dX1_giveup_20 rfl ?_
  refine lv_istore (pc := 21) (i := 4) (lv' := [(4, .int 0), (3, .int 7), (2, .int (-1)), (1, .int y5), (0, .ref a0)]) hx hb dX1_giveup_21 hl (Nat.le_of_ble_eq_true rfl) rfl (fun ls hl => ?_)
  exact wX1_giveup_23 cx e1 e2 a0 hth N _ _ _ _ _ _ _ _ _ _ hf hS (lv_sub hl [4, 3, 2, 1, 0] rfl)
theorem metX1_giveup (l : Launch) (N : Nat) (a0 : Nat) (h h' : jH) (r : Int32) (hth : jcd h a0 = some 0) (hf : (fX1_giveup N a0).1 h = some (r, h')) : jMet l yX1_giveup (ws_ yX1_giveup cX1_giveup 6 (Option.some Jvm.ClassFile.FieldType.int)) (125) (2683) [.ref a0] h h' (.returned (some (.int r))) := by
  refine jStart rfl (jle hf) (Nat.le_of_ble_eq_true rfl) ?_
  intro p e s m below meth c D dA H0 mc ms ls cx hnm e1 e2 hS hl
  have hth := jTh.mk hS hth
  exact wX1_giveup_0 cx e1 e2 a0 hth  _ _ _ _ _ _ hf hS hl
def fX1_see_73 (a0 : Nat) (v0 : Option Nat) (v1 : Option Nat) (v2 : Option Nat) (v3 : Int32) (v4 : Int32) : jM Int32 := jB (jsI 0 v2 v3 v4) fun _ => jB (jrc 4 v0) fun b2 => jB (fJ2_add b2 v1) fun y1 => jRn .boolean 1
def fX1_see_40 (a0 : Nat) : jM Int32 := jRn .boolean 0
def fX1_see (a0 : Nat) (x1 : Int32) (x2 : Int32) (x3 : Int32) (x4 : Int32) : jM Int32 := jB (fX1_isSkin a0 x1) fun y1 => if y1 = 0 then (fX1_see_40 a0) else (jB (fX1_within x2 1 9) fun y2 => if y2 = 0 then (fX1_see_40 a0) else (jB (fX1_within x3 0 9) fun y3 => if y3 = 0 then (fX1_see_40 a0) else (jB (jgR [0] 4 (some a0)) fun y4 => jB (jrc 4 y4) fun b6 => jB (fJ2_size b6) fun y5 => if y5 = 8 then (fX1_see_40 a0) else (jB (jgR [0] 4 (some a0)) fun y7 => jB (jnaI 0 4) fun q8 => jB (jsI 0 (some q8) 0 x1) fun _ => jB (jsI 0 (some q8) 1 x2) fun _ => jB (jsI 0 (some q8) 2 x3) fun _ => if x4 = 0 then (fX1_see_73 a0 y7 (some q8) (some q8) 3 0) else (fX1_see_73 a0 y7 (some q8) (some q8) 3 1)))))
theorem wX1_see_73 {r : Int32} (cx : jCx p s m args meth c cX1_see "WornSkin" 5 (Option.some Jvm.ClassFile.FieldType.boolean) D dA H0 hs.2.2.2.2) (e1 : h'.2.2.1 = hs.2.2.1 + mc) (e2 : h'.2.2.2.1 = hs.2.2.2.1 + ms) (a0 : Nat) (hth : jTh hs a0 0) : ∀ (v0 : Option Nat) (v1 : Option Nat) (v2 : Option Nat) (v3 : Int32) (v4 : Int32), ∀ (h : jH) (H : Heap) (locs : List Loc) (cells slots : Nat) (ls : Array Slot), (fX1_see_73 a0 v0 v1 v2 v3 v4).1 h = some (r, h') → jS D dA H0 hs h H locs cells slots → lv_has ls 5 [(0, .ref a0)] → W p l e { frames := 7, cells := mc, slots := ms, locals := 161 } s m args below meth c H locs cells slots (jQ D dA H0 below s (.returned (some (.int r))) h' mc ms) (F0 m 73 ls [.int v4, .int v3, va_rf v2, va_rf v1, va_rf v0]) := by
  have hx := cx.1
  have hb := cx.2.1
  have hown := cx.2.2.2.1
  have hts := cx.2.2.2.2.1
  have hm : h'.2.2.1 ≤ hs.2.2.1 + mc ∧ h'.2.2.2.1 ≤ hs.2.2.2.1 + ms := ⟨Nat.le_of_eq e1, Nat.le_of_eq e2⟩
  intro v0 v1 v2 v3 v4 h H locs cells slots ls hf hS hl
  unfold fX1_see_73 at hf
  refine j_sI (pc := 73) cx hS hf rfl dX1_see_73 (fun h H locs hf hS => ?_)
  obtain ⟨b2, eb, hrc, hf⟩ := jrc_s hf
  refine j_nn (pc := 74) eb [va_rf v1] [] rfl ?_
  obtain ⟨y1, h1, e9, hf⟩ := jB_some hf
  refine j_callV (pc := 74) (st1 := [.int y1]) (As := [va_rf v1]) (rest := []) cx hS rfl hl.1 hm (metJ2_add l _ _ _ _ _ hrc e9) (jle hf) hrc rfl (lw_V q1372 q727 q728 q118 q729) pdJ2_add rfl rfl (Nat.le_of_ble_eq_true rfl) ⟨Nat.le_of_ble_eq_true rfl, Nat.le_of_ble_eq_true rfl⟩ dX1_see_74 rfl (fun H locs cells slots hS => ?_)
  refine lv_pop (pc := 77) hx hb dX1_see_77 rfl ?_
  refine lv_iconst (pc := 78) (v := 1) hx hb dX1_see_78 rfl ?_
  exact j_zret (pc := 79) cx (Or.inl rfl) hS hf e1 e2 dX1_see_79
theorem wX1_see_40 {r : Int32} (cx : jCx p s m args meth c cX1_see "WornSkin" 5 (Option.some Jvm.ClassFile.FieldType.boolean) D dA H0 hs.2.2.2.2) (e1 : h'.2.2.1 = hs.2.2.1 + mc) (e2 : h'.2.2.2.1 = hs.2.2.2.1 + ms) (a0 : Nat) (hth : jTh hs a0 0) : ∀ (h : jH) (H : Heap) (locs : List Loc) (cells slots : Nat) (ls : Array Slot), (fX1_see_40 a0).1 h = some (r, h') → jS D dA H0 hs h H locs cells slots → lv_has ls 5 [(0, .ref a0)] → W p l e { frames := 7, cells := mc, slots := ms, locals := 161 } s m args below meth c H locs cells slots (jQ D dA H0 below s (.returned (some (.int r))) h' mc ms) (F0 m 40 ls []) := by
  have hx := cx.1
  have hb := cx.2.1
  have hown := cx.2.2.2.1
  have hts := cx.2.2.2.2.1
  have hm : h'.2.2.1 ≤ hs.2.2.1 + mc ∧ h'.2.2.2.1 ≤ hs.2.2.2.1 + ms := ⟨Nat.le_of_eq e1, Nat.le_of_eq e2⟩
  intro h H locs cells slots ls hf hS hl
  unfold fX1_see_40 at hf
  refine lv_iconst (pc := 40) (v := 0) hx hb dX1_see_40 rfl ?_
  exact j_zret (pc := 41) cx (Or.inl rfl) hS hf e1 e2 dX1_see_41
theorem wX1_see_0 {r : Int32} (cx : jCx p s m args meth c cX1_see "WornSkin" 5 (Option.some Jvm.ClassFile.FieldType.boolean) D dA H0 hs.2.2.2.2) (e1 : h'.2.2.1 = hs.2.2.1 + mc) (e2 : h'.2.2.2.1 = hs.2.2.2.1 + ms) (a0 : Nat) (hth : jTh hs a0 0) : ∀ (x1 : Int32) (x2 : Int32) (x3 : Int32) (x4 : Int32), ∀ (h : jH) (H : Heap) (locs : List Loc) (cells slots : Nat) (ls : Array Slot), (fX1_see a0 x1 x2 x3 x4).1 h = some (r, h') → jS D dA H0 hs h H locs cells slots → lv_has ls 5 [(0, .ref a0), (1, .int x1), (2, .int x2), (3, .int x3), (4, .int x4)] → W p l e { frames := 7, cells := mc, slots := ms, locals := 161 } s m args below meth c H locs cells slots (jQ D dA H0 below s (.returned (some (.int r))) h' mc ms) (F0 m 0 ls []) := by
  have hx := cx.1
  have hb := cx.2.1
  have hown := cx.2.2.2.1
  have hts := cx.2.2.2.2.1
  have hm : h'.2.2.1 ≤ hs.2.2.1 + mc ∧ h'.2.2.2.1 ≤ hs.2.2.2.1 + ms := ⟨Nat.le_of_eq e1, Nat.le_of_eq e2⟩
  intro x1 x2 x3 x4 h H locs cells slots ls hf hS hl
  unfold fX1_see at hf
  refine lv_aload_n (pc := 0) hx hb dX1_see_0 rfl (lv_at hl 0 rfl) ?_
  refine lv_iload_n (pc := 1) hx hb dX1_see_1 rfl (lv_at hl 1 rfl) ?_
  obtain ⟨y1, h1, e9, hf⟩ := jB_some hf
  refine j_callV (pc := 2) (st1 := [.int y1]) (As := [.int x1]) (rest := []) cx hS rfl hl.1 hm (metX1_isSkin l _ _ _ _ _ (hth.at hS) e9) (jle hf) (hth.at hS) rfl (lw_V q1149 q1151 qs33 q112 q1152) pdX1_isSkin rfl rfl (Nat.le_of_ble_eq_true rfl) ⟨Nat.le_of_ble_eq_true rfl, Nat.le_of_ble_eq_true rfl⟩ dX1_see_2 rfl (fun H locs cells slots hS => ?_)
  refine lv_if_eq (pc := 5) (tgt := 40) hx hb dX1_see_5 (by decide) (fun hc => ?_) (fun hc => ?_)
  · have hf := jI_t hf hc
    exact wX1_see_40 cx e1 e2 a0 hth _ _ _ _ _ _ hf hS (lv_sub hl [0] rfl)
  · have hf := jI_f hf hc
    refine lv_iload_n (pc := 8) hx hb dX1_see_8 rfl (lv_at hl 2 rfl) ?_
    refine lv_iconst (pc := 9) (v := 1) hx hb dX1_see_9 rfl ?_
    refine lv_bipush (pc := 10) (v := 9) hx hb dX1_see_10 rfl ?_
    obtain ⟨y2, h1, e9, hf⟩ := jB_some hf
    refine j_callS (pc := 12) (st1 := [.int y2]) (As := [.int x2, .int 1, .int 9]) (rest := []) cx hS rfl hl.1 hm (metX1_within l _ _ _ _ _ _ e9) (jle hf) (lw_S q1158 q468 q112 q469) pdX1_within rfl rfl (Nat.le_of_ble_eq_true rfl) ⟨Nat.le_of_ble_eq_true rfl, Nat.le_of_ble_eq_true rfl⟩ dX1_see_12 rfl (fun H locs cells slots hS => ?_)
    refine lv_if_eq (pc := 15) (tgt := 40) hx hb dX1_see_15 (by decide) (fun hc => ?_) (fun hc => ?_)
    · have hf := jI_t hf hc
      exact wX1_see_40 cx e1 e2 a0 hth _ _ _ _ _ _ hf hS (lv_sub hl [0] rfl)
    · have hf := jI_f hf hc
      refine lv_iload_n (pc := 18) hx hb dX1_see_18 rfl (lv_at hl 3 rfl) ?_
      refine lv_iconst (pc := 19) (v := 0) hx hb dX1_see_19 rfl ?_
      refine lv_bipush (pc := 20) (v := 9) hx hb dX1_see_20 rfl ?_
      obtain ⟨y3, h1, e9, hf⟩ := jB_some hf
      refine j_callS (pc := 22) (st1 := [.int y3]) (As := [.int x3, .int 0, .int 9]) (rest := []) cx hS rfl hl.1 hm (metX1_within l _ _ _ _ _ _ e9) (jle hf) (lw_S q1158 q468 q112 q469) pdX1_within rfl rfl (Nat.le_of_ble_eq_true rfl) ⟨Nat.le_of_ble_eq_true rfl, Nat.le_of_ble_eq_true rfl⟩ dX1_see_22 rfl (fun H locs cells slots hS => ?_)
      refine lv_if_eq (pc := 25) (tgt := 40) hx hb dX1_see_25 (by decide) (fun hc => ?_) (fun hc => ?_)
      · have hf := jI_t hf hc
        exact wX1_see_40 cx e1 e2 a0 hth _ _ _ _ _ _ hf hS (lv_sub hl [0] rfl)
      · have hf := jI_f hf hc
        refine lv_aload_n (pc := 28) hx hb dX1_see_28 rfl (lv_at hl 0 rfl) ?_
        refine j_gR (pc := 29) cx hS hf fd_WornSkin_seen q434 dX1_see_29 (fun y4 hf => ?_)
        obtain ⟨b6, eb, hrc, hf⟩ := jrc_s hf
        refine j_nn (pc := 32) eb [] [] rfl ?_
        obtain ⟨y5, h1, e9, hf⟩ := jB_some hf
        refine j_callV (pc := 32) (st1 := [.int y5]) (As := []) (rest := []) cx hS rfl hl.1 hm (metJ2_size l _ _ _ _ hrc e9) (jle hf) hrc rfl (lw_V q1157 q376 q377 q118 q378) pdJ2_size rfl rfl (Nat.le_of_ble_eq_true rfl) ⟨Nat.le_of_ble_eq_true rfl, Nat.le_of_ble_eq_true rfl⟩ dX1_see_32 rfl (fun H locs cells slots hS => ?_)
        refine lv_bipush (pc := 35) (v := 8) hx hb dX1_see_35 rfl ?_
        refine lv_icmp_ne (pc := 37) (tgt := 42) hx hb dX1_see_37 (by decide) (fun hc => ?_) (fun hc => ?_)
        · have hf := jI_f hf hc
          refine lv_aload_n (pc := 42) hx hb dX1_see_42 rfl (lv_at hl 0 rfl) ?_
          refine j_gR (pc := 43) cx hS hf fd_WornSkin_seen q434 dX1_see_43 (fun y7 hf => ?_)
          refine lv_iconst (pc := 46) (v := 4) hx hb dX1_see_46 rfl ?_
          refine j_naG (pc := 47) cx hS hf (ty := .int) rfl rfl (fun _ => rfl) (by decide) q247 dX1_see_47 (fun _ hh => by cases hh) hm (fun q8 h H cells slots hf hS => ?_)
          refine lv_dup (pc := 49) hx hb dX1_see_49 rfl ?_
          refine lv_iconst (pc := 50) (v := 0) hx hb dX1_see_50 rfl ?_
          refine lv_iload_n (pc := 51) hx hb dX1_see_51 rfl (lv_at hl 1 rfl) ?_
          refine j_sI (pc := 52) cx hS hf rfl dX1_see_52 (fun h H locs hf hS => ?_)
          refine lv_dup (pc := 53) hx hb dX1_see_53 rfl ?_
          refine lv_iconst (pc := 54) (v := 1) hx hb dX1_see_54 rfl ?_
          refine lv_iload_n (pc := 55) hx hb dX1_see_55 rfl (lv_at hl 2 rfl) ?_
          refine j_sI (pc := 56) cx hS hf rfl dX1_see_56 (fun h H locs hf hS => ?_)
          refine lv_dup (pc := 57) hx hb dX1_see_57 rfl ?_
          refine lv_iconst (pc := 58) (v := 2) hx hb dX1_see_58 rfl ?_
          refine lv_iload_n (pc := 59) hx hb dX1_see_59 rfl (lv_at hl 3 rfl) ?_
          refine j_sI (pc := 60) cx hS hf rfl dX1_see_60 (fun h H locs hf hS => ?_)
          refine lv_dup (pc := 61) hx hb dX1_see_61 rfl ?_
          refine lv_iconst (pc := 62) (v := 3) hx hb dX1_see_62 rfl ?_
          refine lv_iload (pc := 63) hx hb dX1_see_63 (lv_at hl 4 rfl) ?_
          refine lv_if_eq (pc := 65) (tgt := 72) hx hb dX1_see_65 (by decide) (fun hc => ?_) (fun hc => ?_)
          · have hf := jI_t hf hc
            refine lv_iconst (pc := 72) (v := 0) hx hb dX1_see_72 rfl ?_
            exact wX1_see_73 cx e1 e2 a0 hth _ _ _ _ _ _ _ _ _ _ _ hf hS (lv_sub hl [0] rfl)
          · have hf := jI_f hf hc
            refine lv_iconst (pc := 68) (v := 1) hx hb dX1_see_68 rfl ?_
            refine lv_goto (pc := 69) (tgt := 73) hx hb dX1_see_69 (by decide) ?_
            exact wX1_see_73 cx e1 e2 a0 hth _ _ _ _ _ _ _ _ _ _ _ hf hS (lv_sub hl [0] rfl)
        · have hf := jI_t hf hc
          exact wX1_see_40 cx e1 e2 a0 hth _ _ _ _ _ _ hf hS (lv_sub hl [0] rfl)
theorem metX1_see (l : Launch) (a0 : Nat) (x1 : Int32) (x2 : Int32) (x3 : Int32) (x4 : Int32) (h h' : jH) (r : Int32) (hth : jcd h a0 = some 0) (hf : (fX1_see a0 x1 x2 x3 x4).1 h = some (r, h')) : jMet l yX1_see (ws_ yX1_see cX1_see 5 (Option.some Jvm.ClassFile.FieldType.boolean)) (7) (161) [.ref a0, .int x1, .int x2, .int x3, .int x4] h h' (.returned (some (.int r))) := by
  refine jStart rfl (jle hf) (Nat.le_of_ble_eq_true rfl) ?_
  intro p e s m below meth c D dA H0 mc ms ls cx hnm e1 e2 hS hl
  have hth := jTh.mk hS hth
  exact wX1_see_0 cx e1 e2 a0 hth _ _ _ _ _ _ _ _ _ _ hf hS hl
def fX1_isAsSeen_73 (N : Nat) (a0 : Nat) : jM Int32 := jRn .boolean 1
def fX1_isAsSeen_65 (N : Nat) (a0 : Nat) : jM Int32 := jRn .boolean 0
def fX1_isAsSeen_62 (N : Nat) (k2 : Option Nat → Int32 → jM Int32) (a0 : Nat) (x1 : Option Nat) (x2 : Int32) (v0 : Int32) (v1 : Int32) : jM Int32 := if v0 = v1 then (k2 x1 (x2 + 1)) else (fX1_isAsSeen_65 N a0)
def fX1_isAsSeen_2 (N : Nat) (a0 : Nat) : Nat → Option Nat → Int32 → jM Int32
  | 0, _, _ => jE
  | n + 1, x1, x2 => jB (jgR [0] 4 (some a0)) fun y1 => jB (jrc 4 y1) fun b3 => jB (fJ2_size b3) fun y2 => if y2 ≤ x2 then (fX1_isAsSeen_73 N a0) else (jB (jgR [0] 4 (some a0)) fun y4 => jB (jrc 4 y4) fun b6 => jB (fJ2_get b6 x2) fun y5 => jB (jck [1000] y5) fun _ => jB (fX1_now a0) fun y7 => jB (jaI 0 y5 1) fun y8 => jB (jaI 0 y5 2) fun y9 => jB (jgR [0] 1 (some a0)) fun y10 => jB (jgR [2] 3 y10) fun y11 => jB (jaI 0 y5 0) fun y12 => jB (jaI 0 y11 y12) fun y13 => jB (jrc 3 y7) fun b15 => jB (fX4_shows N b15 x1 y8 y9 y13) fun y14 => jB (jaI 0 y5 3) fun y16 => if y16 = 1 then (fX1_isAsSeen_62 N (fX1_isAsSeen_2 N a0 n) a0 x1 x2 y14 1) else (fX1_isAsSeen_62 N (fX1_isAsSeen_2 N a0 n) a0 x1 x2 y14 0))
def fX1_isAsSeen (N : Nat) (a0 : Nat) (x1 : Option Nat) : jM Int32 := fX1_isAsSeen_2 N a0 N x1 0
theorem wX1_isAsSeen_73 {N : Nat} {r : Int32} (cx : jCx p s m args meth c cX1_isAsSeen "WornSkin" 4 (Option.some Jvm.ClassFile.FieldType.boolean) D dA H0 hs.2.2.2.2) (e1 : h'.2.2.1 = hs.2.2.1 + mc) (e2 : h'.2.2.2.1 = hs.2.2.2.1 + ms) (a0 : Nat) (hth : jTh hs a0 0) : ∀ (h : jH) (H : Heap) (locs : List Loc) (cells slots : Nat) (ls : Array Slot), (fX1_isAsSeen_73 N a0).1 h = some (r, h') → jS D dA H0 hs h H locs cells slots → lv_has ls 4 [(0, .ref a0)] → W p l e { frames := 122, cells := mc, slots := ms, locals := 2610 } s m args below meth c H locs cells slots (jQ D dA H0 below s (.returned (some (.int r))) h' mc ms) (F0 m 73 ls []) := by
  have hx := cx.1
  have hb := cx.2.1
  have hown := cx.2.2.2.1
  have hts := cx.2.2.2.2.1
  have hm : h'.2.2.1 ≤ hs.2.2.1 + mc ∧ h'.2.2.2.1 ≤ hs.2.2.2.1 + ms := ⟨Nat.le_of_eq e1, Nat.le_of_eq e2⟩
  intro h H locs cells slots ls hf hS hl
  unfold fX1_isAsSeen_73 at hf
  refine lv_iconst (pc := 73) (v := 1) hx hb dX1_isAsSeen_73 rfl ?_
  exact j_zret (pc := 74) cx (Or.inl rfl) hS hf e1 e2 dX1_isAsSeen_74
theorem wX1_isAsSeen_65 {N : Nat} {r : Int32} (cx : jCx p s m args meth c cX1_isAsSeen "WornSkin" 4 (Option.some Jvm.ClassFile.FieldType.boolean) D dA H0 hs.2.2.2.2) (e1 : h'.2.2.1 = hs.2.2.1 + mc) (e2 : h'.2.2.2.1 = hs.2.2.2.1 + ms) (a0 : Nat) (hth : jTh hs a0 0) : ∀ (h : jH) (H : Heap) (locs : List Loc) (cells slots : Nat) (ls : Array Slot), (fX1_isAsSeen_65 N a0).1 h = some (r, h') → jS D dA H0 hs h H locs cells slots → lv_has ls 4 [(0, .ref a0)] → W p l e { frames := 122, cells := mc, slots := ms, locals := 2610 } s m args below meth c H locs cells slots (jQ D dA H0 below s (.returned (some (.int r))) h' mc ms) (F0 m 65 ls []) := by
  have hx := cx.1
  have hb := cx.2.1
  have hown := cx.2.2.2.1
  have hts := cx.2.2.2.2.1
  have hm : h'.2.2.1 ≤ hs.2.2.1 + mc ∧ h'.2.2.2.1 ≤ hs.2.2.2.1 + ms := ⟨Nat.le_of_eq e1, Nat.le_of_eq e2⟩
  intro h H locs cells slots ls hf hS hl
  unfold fX1_isAsSeen_65 at hf
  refine lv_iconst (pc := 65) (v := 0) hx hb dX1_isAsSeen_65 rfl ?_
  exact j_zret (pc := 66) cx (Or.inl rfl) hS hf e1 e2 dX1_isAsSeen_66
theorem wX1_isAsSeen_62 {N : Nat} {k2 : Option Nat → Int32 → jM Int32} {r : Int32} (cx : jCx p s m args meth c cX1_isAsSeen "WornSkin" 4 (Option.some Jvm.ClassFile.FieldType.boolean) D dA H0 hs.2.2.2.2) (e1 : h'.2.2.1 = hs.2.2.1 + mc) (e2 : h'.2.2.2.1 = hs.2.2.2.1 + ms) (a0 : Nat) (hth : jTh hs a0 0) (hk2 : ∀ (x1 : Option Nat) (x2 : Int32), ∀ (h : jH) (H : Heap) (locs : List Loc) (cells slots : Nat) (ls : Array Slot), (k2 x1 x2).1 h = some (r, h') → jS D dA H0 hs h H locs cells slots → lv_has ls 4 [(0, .ref a0), (1, va_rf x1), (2, .int x2)] → W p l e { frames := 122, cells := mc, slots := ms, locals := 2610 } s m args below meth c H locs cells slots (jQ D dA H0 below s (.returned (some (.int r))) h' mc ms) (F0 m 2 ls [])) : ∀ (x1 : Option Nat) (x2 : Int32) (v0 : Int32) (v1 : Int32), ∀ (h : jH) (H : Heap) (locs : List Loc) (cells slots : Nat) (ls : Array Slot), (fX1_isAsSeen_62 N k2 a0 x1 x2 v0 v1).1 h = some (r, h') → jS D dA H0 hs h H locs cells slots → lv_has ls 4 [(0, .ref a0), (1, va_rf x1), (2, .int x2)] → W p l e { frames := 122, cells := mc, slots := ms, locals := 2610 } s m args below meth c H locs cells slots (jQ D dA H0 below s (.returned (some (.int r))) h' mc ms) (F0 m 62 ls [.int v1, .int v0]) := by
  have hx := cx.1
  have hb := cx.2.1
  have hown := cx.2.2.2.1
  have hts := cx.2.2.2.2.1
  have hm : h'.2.2.1 ≤ hs.2.2.1 + mc ∧ h'.2.2.2.1 ≤ hs.2.2.2.1 + ms := ⟨Nat.le_of_eq e1, Nat.le_of_eq e2⟩
  intro x1 x2 v0 v1 h H locs cells slots ls hf hS hl
  unfold fX1_isAsSeen_62 at hf
  refine lv_icmp_eq (pc := 62) (tgt := 67) hx hb dX1_isAsSeen_62 (by decide) (fun hc => ?_) (fun hc => ?_)
  · have hf := jI_t hf hc
    refine lv_iinc (pc := 67) (v := (x2 + 1)) (lv' := [(2, .int (x2 + 1)), (0, .ref a0), (1, va_rf x1)]) hx hb dX1_isAsSeen_67 hl (k := 2) rfl rfl (Nat.le_of_ble_eq_true rfl) (by cases x1 <;> rfl) (fun ls hl => ?_)
    refine lv_goto (pc := 70) (tgt := 2) hx hb dX1_isAsSeen_70 (by decide) ?_
    exact hk2 _ _ _ _ _ _ _ _ hf hS (lv_sub hl [1, 2, 0] rfl)
  · have hf := jI_f hf hc
    exact wX1_isAsSeen_65 cx e1 e2 a0 hth _ _ _ _ _ _ hf hS (lv_sub hl [0] rfl)
theorem wX1_isAsSeen_2 {N : Nat} {r : Int32} (cx : jCx p s m args meth c cX1_isAsSeen "WornSkin" 4 (Option.some Jvm.ClassFile.FieldType.boolean) D dA H0 hs.2.2.2.2) (e1 : h'.2.2.1 = hs.2.2.1 + mc) (e2 : h'.2.2.2.1 = hs.2.2.2.1 + ms) (a0 : Nat) (hth : jTh hs a0 0) : ∀ (n : Nat) (x1 : Option Nat) (x2 : Int32), ∀ (h : jH) (H : Heap) (locs : List Loc) (cells slots : Nat) (ls : Array Slot), (fX1_isAsSeen_2 N a0 n x1 x2).1 h = some (r, h') → jS D dA H0 hs h H locs cells slots → lv_has ls 4 [(0, .ref a0), (1, va_rf x1), (2, .int x2)] → W p l e { frames := 122, cells := mc, slots := ms, locals := 2610 } s m args below meth c H locs cells slots (jQ D dA H0 below s (.returned (some (.int r))) h' mc ms) (F0 m 2 ls []) := by
  have hx := cx.1
  have hb := cx.2.1
  have hown := cx.2.2.2.1
  have hts := cx.2.2.2.2.1
  have hm : h'.2.2.1 ≤ hs.2.2.1 + mc ∧ h'.2.2.2.1 ≤ hs.2.2.2.1 + ms := ⟨Nat.le_of_eq e1, Nat.le_of_eq e2⟩
  intro n
  induction n with
  | zero =>
    intro x1 x2 h H locs cells slots ls hf hS hl
    exact jE_f hf
  | succ n ih =>
    intro x1 x2 h H locs cells slots ls hf hS hl
    unfold fX1_isAsSeen_2 at hf
    refine lv_iload_n (pc := 2) hx hb dX1_isAsSeen_2 rfl (lv_at hl 2 rfl) ?_
    refine lv_aload_n (pc := 3) hx hb dX1_isAsSeen_3 rfl (lv_at hl 0 rfl) ?_
    refine j_gR (pc := 4) cx hS hf fd_WornSkin_seen q434 dX1_isAsSeen_4 (fun y1 hf => ?_)
    obtain ⟨b3, eb, hrc, hf⟩ := jrc_s hf
    refine j_nn (pc := 7) eb [] [.int x2] rfl ?_
    obtain ⟨y2, h1, e9, hf⟩ := jB_some hf
    refine j_callV (pc := 7) (st1 := [.int y2, .int x2]) (As := []) (rest := [.int x2]) cx hS rfl hl.1 hm (metJ2_size l _ _ _ _ hrc e9) (jle hf) hrc rfl (lw_V q1157 q376 q377 q118 q378) pdJ2_size rfl rfl (Nat.le_of_ble_eq_true rfl) ⟨Nat.le_of_ble_eq_true rfl, Nat.le_of_ble_eq_true rfl⟩ dX1_isAsSeen_7 rfl (fun H locs cells slots hS => ?_)
    refine lv_icmp_ge (pc := 10) (tgt := 73) hx hb dX1_isAsSeen_10 (by decide) (fun hc => ?_) (fun hc => ?_)
    · have hf := jI_t hf hc
      exact wX1_isAsSeen_73 cx e1 e2 a0 hth _ _ _ _ _ _ hf hS (lv_sub hl [0] rfl)
    · have hf := jI_f hf hc
      refine lv_aload_n (pc := 13) hx hb dX1_isAsSeen_13 rfl (lv_at hl 0 rfl) ?_
      refine j_gR (pc := 14) cx hS hf fd_WornSkin_seen q434 dX1_isAsSeen_14 (fun y4 hf => ?_)
      refine lv_iload_n (pc := 17) hx hb dX1_isAsSeen_17 rfl (lv_at hl 2 rfl) ?_
      obtain ⟨b6, eb, hrc, hf⟩ := jrc_s hf
      refine j_nn (pc := 18) eb [.int x2] [] rfl ?_
      obtain ⟨y5, h1, e9, hf⟩ := jB_some hf
      refine j_callV (pc := 18) (st1 := [va_rf y5]) (As := [.int x2]) (rest := []) cx hS rfl hl.1 hm (metJ2_get l _ _ _ _ _ hrc e9) (jle hf) hrc rfl (lw_V q1429 q384 q385 q118 q386) pdJ2_get rfl rfl (Nat.le_of_ble_eq_true rfl) ⟨Nat.le_of_ble_eq_true rfl, Nat.le_of_ble_eq_true rfl⟩ dX1_isAsSeen_18 rfl (fun H locs cells slots hS => ?_)
      refine j_cast (pc := 21) cx hS hf ok__I q1574 dX1_isAsSeen_21 (fun hf => ?_)
      refine j_astore_n (pc := 24) (i := 3) (r := y5) (lv' := [(3, va_rf y5), (0, .ref a0), (1, va_rf x1), (2, .int x2)]) hx hb dX1_isAsSeen_24 rfl hl (Nat.le_of_ble_eq_true rfl) rfl (fun ls hl => ?_)
      refine lv_aload_n (pc := 25) hx hb dX1_isAsSeen_25 rfl (lv_at hl 1 rfl) ?_
      obtain ⟨y7, h1, e9, hf⟩ := jB_some hf
      refine j_callV (pc := 26) (st1 := [va_rf y7]) (As := []) (rest := []) cx hS rfl hl.1 hm (metX1_now l _ _ _ _ (hth.at hS) e9) (jle hf) (hth.at hS) rfl (lw_V q1092 q1094 qs31 q112 q1095) pdX1_now rfl rfl (Nat.le_of_ble_eq_true rfl) ⟨Nat.le_of_ble_eq_true rfl, Nat.le_of_ble_eq_true rfl⟩ dX1_isAsSeen_26 rfl (fun H locs cells slots hS => ?_)
      refine j_aload_n (pc := 29) (r := x1) hx hb dX1_isAsSeen_29 rfl (lv_at hl 2 rfl) ?_
      refine j_aload_n (pc := 30) (r := y5) hx hb dX1_isAsSeen_30 rfl (lv_at hl 0 rfl) ?_
      refine lv_iconst (pc := 31) (v := 1) hx hb dX1_isAsSeen_31 rfl ?_
      refine j_aI (pc := 32) cx hS hf rfl dX1_isAsSeen_32 (fun y8 hf => ?_)
      refine j_aload_n (pc := 33) (r := y5) hx hb dX1_isAsSeen_33 rfl (lv_at hl 0 rfl) ?_
      refine lv_iconst (pc := 34) (v := 2) hx hb dX1_isAsSeen_34 rfl ?_
      refine j_aI (pc := 35) cx hS hf rfl dX1_isAsSeen_35 (fun y9 hf => ?_)
      refine lv_aload_n (pc := 36) hx hb dX1_isAsSeen_36 rfl (lv_at hl 1 rfl) ?_
      refine j_gR (pc := 37) cx hS hf fd_WornSkin_shelf q430 dX1_isAsSeen_37 (fun y10 hf => ?_)
      refine j_gR (pc := 40) cx hS hf fd_WornSkin_Shelf_thick q263 dX1_isAsSeen_40 (fun y11 hf => ?_)
      refine j_aload_n (pc := 43) (r := y5) hx hb dX1_isAsSeen_43 rfl (lv_at hl 0 rfl) ?_
      refine lv_iconst (pc := 44) (v := 0) hx hb dX1_isAsSeen_44 rfl ?_
      refine j_aI (pc := 45) cx hS hf rfl dX1_isAsSeen_45 (fun y12 hf => ?_)
      refine j_aI (pc := 46) cx hS hf rfl dX1_isAsSeen_46 (fun y13 hf => ?_)
      obtain ⟨b15, eb, hrc, hf⟩ := jrc_s hf
      refine j_nn (pc := 47) eb [.int y13, .int y9, .int y8, va_rf x1] [] rfl ?_
      obtain ⟨y14, h1, e9, hf⟩ := jB_some hf
      refine j_callV (pc := 47) (st1 := [.int y14]) (As := [va_rf x1, .int y8, .int y9, .int y13]) (rest := []) cx hS rfl hl.1 hm (metX4_shows l _ _ _ _ _ _ _ _ _ hrc e9) (jle hf) hrc rfl (lw_V q1575 q1199 q1200 q115 q1201) pdX4_shows rfl rfl (Nat.le_of_ble_eq_true rfl) ⟨Nat.le_of_ble_eq_true rfl, Nat.le_of_ble_eq_true rfl⟩ dX1_isAsSeen_47 rfl (fun H locs cells slots hS => ?_)
      refine j_aload_n (pc := 50) (r := y5) hx hb dX1_isAsSeen_50 rfl (lv_at hl 0 rfl) ?_
      refine lv_iconst (pc := 51) (v := 3) hx hb dX1_isAsSeen_51 rfl ?_
      refine j_aI (pc := 52) cx hS hf rfl dX1_isAsSeen_52 (fun y16 hf => ?_)
      refine lv_iconst (pc := 53) (v := 1) hx hb dX1_isAsSeen_53 rfl ?_
      refine lv_icmp_ne (pc := 54) (tgt := 61) hx hb dX1_isAsSeen_54 (by decide) (fun hc => ?_) (fun hc => ?_)
      · have hf := jI_f hf hc
        refine lv_iconst (pc := 61) (v := 0) hx hb dX1_isAsSeen_61 rfl ?_
        exact wX1_isAsSeen_62 cx e1 e2 a0 hth ih _ _ _ _ _ _ _ _ _ _ hf hS (lv_sub hl [1, 2, 3] rfl)
      · have hf := jI_t hf hc
        refine lv_iconst (pc := 57) (v := 1) hx hb dX1_isAsSeen_57 rfl ?_
        refine lv_goto (pc := 58) (tgt := 62) hx hb dX1_isAsSeen_58 (by decide) ?_
        exact wX1_isAsSeen_62 cx e1 e2 a0 hth ih _ _ _ _ _ _ _ _ _ _ hf hS (lv_sub hl [1, 2, 3] rfl)
theorem wX1_isAsSeen_0 {N : Nat} {r : Int32} (cx : jCx p s m args meth c cX1_isAsSeen "WornSkin" 4 (Option.some Jvm.ClassFile.FieldType.boolean) D dA H0 hs.2.2.2.2) (e1 : h'.2.2.1 = hs.2.2.1 + mc) (e2 : h'.2.2.2.1 = hs.2.2.2.1 + ms) (a0 : Nat) (hth : jTh hs a0 0) : ∀ (x1 : Option Nat), ∀ (h : jH) (H : Heap) (locs : List Loc) (cells slots : Nat) (ls : Array Slot), (fX1_isAsSeen N a0 x1).1 h = some (r, h') → jS D dA H0 hs h H locs cells slots → lv_has ls 4 [(0, .ref a0), (1, va_rf x1)] → W p l e { frames := 122, cells := mc, slots := ms, locals := 2610 } s m args below meth c H locs cells slots (jQ D dA H0 below s (.returned (some (.int r))) h' mc ms) (F0 m 0 ls []) := by
  have hx := cx.1
  have hb := cx.2.1
  have hown := cx.2.2.2.1
  have hts := cx.2.2.2.2.1
  have hm : h'.2.2.1 ≤ hs.2.2.1 + mc ∧ h'.2.2.2.1 ≤ hs.2.2.2.1 + ms := ⟨Nat.le_of_eq e1, Nat.le_of_eq e2⟩
  intro x1 h H locs cells slots ls hf hS hl
  unfold fX1_isAsSeen at hf
  refine lv_iconst (pc := 0) (v := 0) hx hb dX1_isAsSeen_0 rfl ?_
  refine lv_istore_n (pc := 1) (i := 2) (lv' := [(2, .int 0), (0, .ref a0), (1, va_rf x1)]) hx hb dX1_isAsSeen_1 rfl hl (Nat.le_of_ble_eq_true rfl) (by cases x1 <;> rfl) (fun ls hl => ?_)
  exact wX1_isAsSeen_2 cx e1 e2 a0 hth N _ _ _ _ _ _ _ _ hf hS (lv_sub hl [1, 2, 0] rfl)
theorem metX1_isAsSeen (l : Launch) (N : Nat) (a0 : Nat) (x1 : Option Nat) (h h' : jH) (r : Int32) (hth : jcd h a0 = some 0) (hf : (fX1_isAsSeen N a0 x1).1 h = some (r, h')) : jMet l yX1_isAsSeen (ws_ yX1_isAsSeen cX1_isAsSeen 4 (Option.some Jvm.ClassFile.FieldType.boolean)) (122) (2610) [.ref a0, va_rf x1] h h' (.returned (some (.int r))) := by
  refine jStart rfl (jle hf) (by cases x1 <;> exact Nat.le_of_ble_eq_true rfl) ?_
  intro p e s m below meth c D dA H0 mc ms ls cx hnm e1 e2 hS hl
  have hl : lv_has ls 4 [(0, .ref a0), (1, va_rf x1)] := by cases x1 <;> exact hl
  have hth := jTh.mk hS hth
  exact wX1_isAsSeen_0 cx e1 e2 a0 hth _ _ _ _ _ _ _ hf hS hl
def fX1_who_39 (N : Nat) (a0 : Nat) (x1 : Int32) : jM Int32 := jR x1
def fX1_who_33 (N : Nat) (k4 : Int32 → Int32 → jM Int32) (a0 : Nat) (x1 : Int32) (x2 : Int32) : jM Int32 := k4 x1 (x2 + 1)
def fX1_who_4 (N : Nat) (a0 : Nat) : Nat → Int32 → Int32 → jM Int32
  | 0, _, _ => jE
  | n + 1, x1, x2 => jB (fX1_texts a0) fun y1 => if y1 ≤ x2 then (fX1_who_39 N a0 x1) else (jB (jgR [0] 1 (some a0)) fun y2 => jB (jrc 2 y2) fun b4 => jB (fX3_text b4 x2) fun y3 => jB (fX1_isAsSeen N a0 y3) fun y5 => if y5 = 0 then (fX1_who_33 N (fX1_who_4 N a0 n) a0 x1 x2) else (fX1_who_33 N (fX1_who_4 N a0 n) a0 (x1 ||| (1 <<< (x2 &&& 31))) x2))
def fX1_who (N : Nat) (a0 : Nat) : jM Int32 := fX1_who_4 N a0 N 0 0
theorem wX1_who_39 {N : Nat} {r : Int32} (cx : jCx p s m args meth c cX1_who "WornSkin" 3 (Option.some Jvm.ClassFile.FieldType.int) D dA H0 hs.2.2.2.2) (e1 : h'.2.2.1 = hs.2.2.1 + mc) (e2 : h'.2.2.2.1 = hs.2.2.2.1 + ms) (a0 : Nat) (hth : jTh hs a0 0) : ∀ (x1 : Int32), ∀ (h : jH) (H : Heap) (locs : List Loc) (cells slots : Nat) (ls : Array Slot), (fX1_who_39 N a0 x1).1 h = some (r, h') → jS D dA H0 hs h H locs cells slots → lv_has ls 3 [(0, .ref a0), (1, .int x1)] → W p l e { frames := 123, cells := mc, slots := ms, locals := 2633 } s m args below meth c H locs cells slots (jQ D dA H0 below s (.returned (some (.int r))) h' mc ms) (F0 m 39 ls []) := by
  have hx := cx.1
  have hb := cx.2.1
  have hown := cx.2.2.2.1
  have hts := cx.2.2.2.2.1
  have hm : h'.2.2.1 ≤ hs.2.2.1 + mc ∧ h'.2.2.2.1 ≤ hs.2.2.2.1 + ms := ⟨Nat.le_of_eq e1, Nat.le_of_eq e2⟩
  intro x1 h H locs cells slots ls hf hS hl
  unfold fX1_who_39 at hf
  refine lv_iload_n (pc := 39) hx hb dX1_who_39 rfl (lv_at hl 1 rfl) ?_
  exact j_iret (pc := 40) cx hS hf e1 e2 dX1_who_40
theorem wX1_who_33 {N : Nat} {k4 : Int32 → Int32 → jM Int32} {r : Int32} (cx : jCx p s m args meth c cX1_who "WornSkin" 3 (Option.some Jvm.ClassFile.FieldType.int) D dA H0 hs.2.2.2.2) (e1 : h'.2.2.1 = hs.2.2.1 + mc) (e2 : h'.2.2.2.1 = hs.2.2.2.1 + ms) (a0 : Nat) (hth : jTh hs a0 0) (hk4 : ∀ (x1 : Int32) (x2 : Int32), ∀ (h : jH) (H : Heap) (locs : List Loc) (cells slots : Nat) (ls : Array Slot), (k4 x1 x2).1 h = some (r, h') → jS D dA H0 hs h H locs cells slots → lv_has ls 3 [(0, .ref a0), (1, .int x1), (2, .int x2)] → W p l e { frames := 123, cells := mc, slots := ms, locals := 2633 } s m args below meth c H locs cells slots (jQ D dA H0 below s (.returned (some (.int r))) h' mc ms) (F0 m 4 ls [])) : ∀ (x1 : Int32) (x2 : Int32), ∀ (h : jH) (H : Heap) (locs : List Loc) (cells slots : Nat) (ls : Array Slot), (fX1_who_33 N k4 a0 x1 x2).1 h = some (r, h') → jS D dA H0 hs h H locs cells slots → lv_has ls 3 [(0, .ref a0), (1, .int x1), (2, .int x2)] → W p l e { frames := 123, cells := mc, slots := ms, locals := 2633 } s m args below meth c H locs cells slots (jQ D dA H0 below s (.returned (some (.int r))) h' mc ms) (F0 m 33 ls []) := by
  have hx := cx.1
  have hb := cx.2.1
  have hown := cx.2.2.2.1
  have hts := cx.2.2.2.2.1
  have hm : h'.2.2.1 ≤ hs.2.2.1 + mc ∧ h'.2.2.2.1 ≤ hs.2.2.2.1 + ms := ⟨Nat.le_of_eq e1, Nat.le_of_eq e2⟩
  intro x1 x2 h H locs cells slots ls hf hS hl
  unfold fX1_who_33 at hf
  refine lv_iinc (pc := 33) (v := (x2 + 1)) (lv' := [(2, .int (x2 + 1)), (0, .ref a0), (1, .int x1)]) hx hb dX1_who_33 hl (k := 2) rfl rfl (Nat.le_of_ble_eq_true rfl) rfl (fun ls hl => ?_)
  refine lv_goto (pc := 36) (tgt := 4) hx hb dX1_who_36 (by decide) ?_
  exact hk4 _ _ _ _ _ _ _ _ hf hS (lv_sub hl [1, 2, 0] rfl)
theorem wX1_who_4 {N : Nat} {r : Int32} (cx : jCx p s m args meth c cX1_who "WornSkin" 3 (Option.some Jvm.ClassFile.FieldType.int) D dA H0 hs.2.2.2.2) (e1 : h'.2.2.1 = hs.2.2.1 + mc) (e2 : h'.2.2.2.1 = hs.2.2.2.1 + ms) (a0 : Nat) (hth : jTh hs a0 0) : ∀ (n : Nat) (x1 : Int32) (x2 : Int32), ∀ (h : jH) (H : Heap) (locs : List Loc) (cells slots : Nat) (ls : Array Slot), (fX1_who_4 N a0 n x1 x2).1 h = some (r, h') → jS D dA H0 hs h H locs cells slots → lv_has ls 3 [(0, .ref a0), (1, .int x1), (2, .int x2)] → W p l e { frames := 123, cells := mc, slots := ms, locals := 2633 } s m args below meth c H locs cells slots (jQ D dA H0 below s (.returned (some (.int r))) h' mc ms) (F0 m 4 ls []) := by
  have hx := cx.1
  have hb := cx.2.1
  have hown := cx.2.2.2.1
  have hts := cx.2.2.2.2.1
  have hm : h'.2.2.1 ≤ hs.2.2.1 + mc ∧ h'.2.2.2.1 ≤ hs.2.2.2.1 + ms := ⟨Nat.le_of_eq e1, Nat.le_of_eq e2⟩
  intro n
  induction n with
  | zero =>
    intro x1 x2 h H locs cells slots ls hf hS hl
    exact jE_f hf
  | succ n ih =>
    intro x1 x2 h H locs cells slots ls hf hS hl
    unfold fX1_who_4 at hf
    refine lv_iload_n (pc := 4) hx hb dX1_who_4 rfl (lv_at hl 2 rfl) ?_
    refine lv_aload_n (pc := 5) hx hb dX1_who_5 rfl (lv_at hl 0 rfl) ?_
    obtain ⟨y1, h1, e9, hf⟩ := jB_some hf
    refine j_callV (pc := 6) (st1 := [.int y1, .int x2]) (As := []) (rest := [.int x2]) cx hS rfl hl.1 hm (metX1_texts l _ _ _ _ (hth.at hS) e9) (jle hf) (hth.at hS) rfl (lw_V q1286 q1288 qs37 q112 q1289) pdX1_texts rfl rfl (Nat.le_of_ble_eq_true rfl) ⟨Nat.le_of_ble_eq_true rfl, Nat.le_of_ble_eq_true rfl⟩ dX1_who_6 rfl (fun H locs cells slots hS => ?_)
    refine lv_icmp_ge (pc := 9) (tgt := 39) hx hb dX1_who_9 (by decide) (fun hc => ?_) (fun hc => ?_)
    · have hf := jI_t hf hc
      exact wX1_who_39 cx e1 e2 a0 hth _ _ _ _ _ _ _ hf hS (lv_sub hl [0, 1] rfl)
    · have hf := jI_f hf hc
      refine lv_aload_n (pc := 12) hx hb dX1_who_12 rfl (lv_at hl 0 rfl) ?_
      refine lv_aload_n (pc := 13) hx hb dX1_who_13 rfl (lv_at hl 0 rfl) ?_
      refine j_gR (pc := 14) cx hS hf fd_WornSkin_shelf q430 dX1_who_14 (fun y2 hf => ?_)
      refine lv_iload_n (pc := 17) hx hb dX1_who_17 rfl (lv_at hl 2 rfl) ?_
      obtain ⟨b4, eb, hrc, hf⟩ := jrc_s hf
      refine j_nn (pc := 18) eb [.int x2] [.ref a0] rfl ?_
      obtain ⟨y3, h1, e9, hf⟩ := jB_some hf
      refine j_callV (pc := 18) (st1 := [va_rf y3, .ref a0]) (As := [.int x2]) (rest := [.ref a0]) cx hS rfl hl.1 hm (metX3_text l _ _ _ _ _ hrc e9) (jle hf) hrc rfl (lw_V q1290 q1194 q1195 q114 q1196) pdX3_text rfl rfl (Nat.le_of_ble_eq_true rfl) ⟨Nat.le_of_ble_eq_true rfl, Nat.le_of_ble_eq_true rfl⟩ dX1_who_18 rfl (fun H locs cells slots hS => ?_)
      obtain ⟨y5, h1, e9, hf⟩ := jB_some hf
      refine j_callV (pc := 21) (st1 := [.int y5]) (As := [va_rf y3]) (rest := []) cx hS rfl hl.1 hm (metX1_isAsSeen l _ _ _ _ _ _ (hth.at hS) e9) (jle hf) (hth.at hS) rfl (lw_V q1570 q1572 qs48 q112 q1573) pdX1_isAsSeen rfl rfl (Nat.le_of_ble_eq_true rfl) ⟨Nat.le_of_ble_eq_true rfl, Nat.le_of_ble_eq_true rfl⟩ dX1_who_21 rfl (fun H locs cells slots hS => ?_)
      refine lv_if_eq (pc := 24) (tgt := 33) hx hb dX1_who_24 (by decide) (fun hc => ?_) (fun hc => ?_)
      · have hf := jI_t hf hc
        exact wX1_who_33 cx e1 e2 a0 hth ih _ _ _ _ _ _ _ _ hf hS hl
      · have hf := jI_f hf hc
        refine lv_iload_n (pc := 27) hx hb dX1_who_27 rfl (lv_at hl 1 rfl) ?_
        refine lv_iconst (pc := 28) (v := 1) hx hb dX1_who_28 rfl ?_
        refine lv_iload_n (pc := 29) hx hb dX1_who_29 rfl (lv_at hl 2 rfl) ?_
        refine lv_ishl (pc := 30) hx hb dX1_who_30 ?_
        refine lv_ior (pc := 31) hx hb dX1_who_31 ?_
        refine lv_istore_n (pc := 32) (i := 1) (lv' := [(1, .int (x1 ||| (1 <<< (x2 &&& 31)))), (0, .ref a0), (2, .int x2)]) hx hb dX1_who_32 rfl hl (Nat.le_of_ble_eq_true rfl) rfl (fun ls hl => ?_)
        exact wX1_who_33 cx e1 e2 a0 hth ih _ _ _ _ _ _ _ _ hf hS (lv_sub hl [1, 0, 2] rfl)
theorem wX1_who_0 {N : Nat} {r : Int32} (cx : jCx p s m args meth c cX1_who "WornSkin" 3 (Option.some Jvm.ClassFile.FieldType.int) D dA H0 hs.2.2.2.2) (e1 : h'.2.2.1 = hs.2.2.1 + mc) (e2 : h'.2.2.2.1 = hs.2.2.2.1 + ms) (a0 : Nat) (hth : jTh hs a0 0) : ∀ (h : jH) (H : Heap) (locs : List Loc) (cells slots : Nat) (ls : Array Slot), (fX1_who N a0).1 h = some (r, h') → jS D dA H0 hs h H locs cells slots → lv_has ls 3 [(0, .ref a0)] → W p l e { frames := 123, cells := mc, slots := ms, locals := 2633 } s m args below meth c H locs cells slots (jQ D dA H0 below s (.returned (some (.int r))) h' mc ms) (F0 m 0 ls []) := by
  have hx := cx.1
  have hb := cx.2.1
  have hown := cx.2.2.2.1
  have hts := cx.2.2.2.2.1
  have hm : h'.2.2.1 ≤ hs.2.2.1 + mc ∧ h'.2.2.2.1 ≤ hs.2.2.2.1 + ms := ⟨Nat.le_of_eq e1, Nat.le_of_eq e2⟩
  intro h H locs cells slots ls hf hS hl
  unfold fX1_who at hf
  refine lv_iconst (pc := 0) (v := 0) hx hb dX1_who_0 rfl ?_
  refine lv_istore_n (pc := 1) (i := 1) (lv' := [(1, .int 0), (0, .ref a0)]) hx hb dX1_who_1 rfl hl (Nat.le_of_ble_eq_true rfl) rfl (fun ls hl => ?_)
  refine lv_iconst (pc := 2) (v := 0) hx hb dX1_who_2 rfl ?_
  refine lv_istore_n (pc := 3) (i := 2) (lv' := [(2, .int 0), (1, .int 0), (0, .ref a0)]) hx hb dX1_who_3 rfl hl (Nat.le_of_ble_eq_true rfl) rfl (fun ls hl => ?_)
  exact wX1_who_4 cx e1 e2 a0 hth N _ _ _ _ _ _ _ _ hf hS (lv_sub hl [2, 1, 0] rfl)
theorem metX1_who (l : Launch) (N : Nat) (a0 : Nat) (h h' : jH) (r : Int32) (hth : jcd h a0 = some 0) (hf : (fX1_who N a0).1 h = some (r, h')) : jMet l yX1_who (ws_ yX1_who cX1_who 3 (Option.some Jvm.ClassFile.FieldType.int)) (123) (2633) [.ref a0] h h' (.returned (some (.int r))) := by
  refine jStart rfl (jle hf) (Nat.le_of_ble_eq_true rfl) ?_
  intro p e s m below meth c D dA H0 mc ms ls cx hnm e1 e2 hS hl
  have hth := jTh.mk hS hth
  exact wX1_who_0 cx e1 e2 a0 hth  _ _ _ _ _ _ hf hS hl
def fX1_ask_157 (N : Nat) (a0 : Nat) (x3 : Int32) : jM Int32 := jR x3
def fX1_ask_151 (N : Nat) (k26 : Int32 → Int32 → Int32 → Int32 → Int32 → jM Int32) (a0 : Nat) (x1 : Int32) (x2 : Int32) (x3 : Int32) (x4 : Int32) (x5 : Int32) : jM Int32 := k26 x1 x2 x3 x4 (x5 + 1)
def fX1_ask_145 (N : Nat) (k36 : Int32 → Int32 → Int32 → Int32 → Int32 → Int32 → jM Int32) (a0 : Nat) (x1 : Int32) (x2 : Int32) (x3 : Int32) (x4 : Int32) (x5 : Int32) (x6 : Int32) : jM Int32 := k36 x1 x2 x3 x4 x5 (x6 + 1)
def fX1_ask_108 (N : Nat) (k36 : Int32 → Int32 → Int32 → Int32 → Int32 → Int32 → jM Int32) (a0 : Nat) (x1 : Int32) (x2 : Int32) (x3 : Int32) (x4 : Int32) (x5 : Int32) (x6 : Int32) (x7 : Int32) : jM Int32 := jB (fX1_bits N x2) fun y1 => if (jmax x7 (y1 - x7)) < x4 then (fX1_ask_145 N k36 a0 x1 x2 ((10 * x5) + x6) (jmax x7 (y1 - x7)) x5 x6) else (fX1_ask_145 N k36 a0 x1 x2 x3 x4 x5 x6)
def fX1_ask_102 (N : Nat) (k49 : Int32 → Int32 → Int32 → Int32 → Int32 → Int32 → Int32 → Int32 → jM Int32) (a0 : Nat) (x1 : Int32) (x2 : Int32) (x3 : Int32) (x4 : Int32) (x5 : Int32) (x6 : Int32) (x7 : Int32) (x8 : Int32) : jM Int32 := k49 x1 x2 x3 x4 x5 x6 x7 (x8 + 1)
def fX1_ask_49 (N : Nat) (k36 : Int32 → Int32 → Int32 → Int32 → Int32 → Int32 → jM Int32) (a0 : Nat) : Nat → Int32 → Int32 → Int32 → Int32 → Int32 → Int32 → Int32 → Int32 → jM Int32
  | 0, _, _, _, _, _, _, _, _ => jE
  | n + 1, x1, x2, x3, x4, x5, x6, x7, x8 => jB (fX1_texts a0) fun y1 => if y1 ≤ x8 then (fX1_ask_108 N k36 a0 x1 x2 x3 x4 x5 x6 x7) else (jB (fX1_has x2 x8) fun y2 => if y2 = 0 then (fX1_ask_102 N (fX1_ask_49 N k36 a0 n) a0 x1 x2 x3 x4 x5 x6 x7 x8) else (jB (fX1_now a0) fun y3 => jB (jgR [0] 1 (some a0)) fun y4 => jB (jrc 2 y4) fun b6 => jB (fX3_text b6 x8) fun y5 => jB (jgR [0] 1 (some a0)) fun y7 => jB (jgR [2] 3 y7) fun y8 => jB (jaI 0 y8 x1) fun y9 => jB (jrc 3 y3) fun b11 => jB (fX4_shows N b11 y5 x5 x6 y9) fun y10 => if y10 = 0 then (fX1_ask_102 N (fX1_ask_49 N k36 a0 n) a0 x1 x2 x3 x4 x5 x6 x7 x8) else (fX1_ask_102 N (fX1_ask_49 N k36 a0 n) a0 x1 x2 x3 x4 x5 x6 (x7 + 1) x8)))
def fX1_ask_36 (N : Nat) (k26 : Int32 → Int32 → Int32 → Int32 → Int32 → jM Int32) (a0 : Nat) : Nat → Int32 → Int32 → Int32 → Int32 → Int32 → Int32 → jM Int32
  | 0, _, _, _, _, _, _ => jE
  | n + 1, x1, x2, x3, x4, x5, x6 => if 9 < x6 then (fX1_ask_151 N k26 a0 x1 x2 x3 x4 x5) else (fX1_ask_49 N (fX1_ask_36 N k26 a0 n) a0 N x1 x2 x3 x4 x5 x6 0 0)
def fX1_ask_26 (N : Nat) (a0 : Nat) : Nat → Int32 → Int32 → Int32 → Int32 → Int32 → jM Int32
  | 0, _, _, _, _, _ => jE
  | n + 1, x1, x2, x3, x4, x5 => if 9 < x5 then (fX1_ask_157 N a0 x3) else (fX1_ask_36 N (fX1_ask_26 N a0 n) a0 N x1 x2 x3 x4 x5 0)
def fX1_ask (N : Nat) (a0 : Nat) (x1 : Int32) : jM Int32 := jB (fX1_isSkin a0 x1) fun y1 => if y1 = 0 then (jR (-1)) else (jB (fX1_who N a0) fun y2 => jB (fX1_bits N y2) fun y3 => fX1_ask_26 N a0 N x1 y2 (-1) y3 1)
theorem wX1_ask_157 {N : Nat} {r : Int32} (cx : jCx p s m args meth c cX1_ask "WornSkin" 9 (Option.some Jvm.ClassFile.FieldType.int) D dA H0 hs.2.2.2.2) (e1 : h'.2.2.1 = hs.2.2.1 + mc) (e2 : h'.2.2.2.1 = hs.2.2.2.1 + ms) (a0 : Nat) (hth : jTh hs a0 0) : ∀ (x3 : Int32), ∀ (h : jH) (H : Heap) (locs : List Loc) (cells slots : Nat) (ls : Array Slot), (fX1_ask_157 N a0 x3).1 h = some (r, h') → jS D dA H0 hs h H locs cells slots → lv_has ls 9 [(0, .ref a0), (3, .int x3)] → W p l e { frames := 124, cells := mc, slots := ms, locals := 2655 } s m args below meth c H locs cells slots (jQ D dA H0 below s (.returned (some (.int r))) h' mc ms) (F0 m 157 ls []) := by
  have hx := cx.1
  have hb := cx.2.1
  have hown := cx.2.2.2.1
  have hts := cx.2.2.2.2.1
  have hm : h'.2.2.1 ≤ hs.2.2.1 + mc ∧ h'.2.2.2.1 ≤ hs.2.2.2.1 + ms := ⟨Nat.le_of_eq e1, Nat.le_of_eq e2⟩
  intro x3 h H locs cells slots ls hf hS hl
  unfold fX1_ask_157 at hf
  refine lv_iload_n (pc := 157) hx hb dX1_ask_157 rfl (lv_at hl 1 rfl) ?_
  exact j_iret (pc := 158) cx hS hf e1 e2 dX1_ask_158
theorem wX1_ask_151 {N : Nat} {k26 : Int32 → Int32 → Int32 → Int32 → Int32 → jM Int32} {r : Int32} (cx : jCx p s m args meth c cX1_ask "WornSkin" 9 (Option.some Jvm.ClassFile.FieldType.int) D dA H0 hs.2.2.2.2) (e1 : h'.2.2.1 = hs.2.2.1 + mc) (e2 : h'.2.2.2.1 = hs.2.2.2.1 + ms) (a0 : Nat) (hth : jTh hs a0 0) (hk26 : ∀ (x1 : Int32) (x2 : Int32) (x3 : Int32) (x4 : Int32) (x5 : Int32), ∀ (h : jH) (H : Heap) (locs : List Loc) (cells slots : Nat) (ls : Array Slot), (k26 x1 x2 x3 x4 x5).1 h = some (r, h') → jS D dA H0 hs h H locs cells slots → lv_has ls 9 [(0, .ref a0), (1, .int x1), (2, .int x2), (3, .int x3), (4, .int x4), (5, .int x5)] → W p l e { frames := 124, cells := mc, slots := ms, locals := 2655 } s m args below meth c H locs cells slots (jQ D dA H0 below s (.returned (some (.int r))) h' mc ms) (F0 m 26 ls [])) : ∀ (x1 : Int32) (x2 : Int32) (x3 : Int32) (x4 : Int32) (x5 : Int32), ∀ (h : jH) (H : Heap) (locs : List Loc) (cells slots : Nat) (ls : Array Slot), (fX1_ask_151 N k26 a0 x1 x2 x3 x4 x5).1 h = some (r, h') → jS D dA H0 hs h H locs cells slots → lv_has ls 9 [(0, .ref a0), (1, .int x1), (2, .int x2), (3, .int x3), (4, .int x4), (5, .int x5)] → W p l e { frames := 124, cells := mc, slots := ms, locals := 2655 } s m args below meth c H locs cells slots (jQ D dA H0 below s (.returned (some (.int r))) h' mc ms) (F0 m 151 ls []) := by
  have hx := cx.1
  have hb := cx.2.1
  have hown := cx.2.2.2.1
  have hts := cx.2.2.2.2.1
  have hm : h'.2.2.1 ≤ hs.2.2.1 + mc ∧ h'.2.2.2.1 ≤ hs.2.2.2.1 + ms := ⟨Nat.le_of_eq e1, Nat.le_of_eq e2⟩
  intro x1 x2 x3 x4 x5 h H locs cells slots ls hf hS hl
  unfold fX1_ask_151 at hf
  refine lv_iinc (pc := 151) (v := (x5 + 1)) (lv' := [(5, .int (x5 + 1)), (0, .ref a0), (1, .int x1), (2, .int x2), (3, .int x3), (4, .int x4)]) hx hb dX1_ask_151 hl (k := 5) rfl rfl (Nat.le_of_ble_eq_true rfl) rfl (fun ls hl => ?_)
  refine lv_goto (pc := 154) (tgt := 26) hx hb dX1_ask_154 (by decide) ?_
  exact hk26 _ _ _ _ _ _ _ _ _ _ _ hf hS (lv_sub hl [1, 2, 3, 4, 5, 0] rfl)
theorem wX1_ask_145 {N : Nat} {k36 : Int32 → Int32 → Int32 → Int32 → Int32 → Int32 → jM Int32} {r : Int32} (cx : jCx p s m args meth c cX1_ask "WornSkin" 9 (Option.some Jvm.ClassFile.FieldType.int) D dA H0 hs.2.2.2.2) (e1 : h'.2.2.1 = hs.2.2.1 + mc) (e2 : h'.2.2.2.1 = hs.2.2.2.1 + ms) (a0 : Nat) (hth : jTh hs a0 0) (hk36 : ∀ (x1 : Int32) (x2 : Int32) (x3 : Int32) (x4 : Int32) (x5 : Int32) (x6 : Int32), ∀ (h : jH) (H : Heap) (locs : List Loc) (cells slots : Nat) (ls : Array Slot), (k36 x1 x2 x3 x4 x5 x6).1 h = some (r, h') → jS D dA H0 hs h H locs cells slots → lv_has ls 9 [(0, .ref a0), (1, .int x1), (2, .int x2), (3, .int x3), (4, .int x4), (5, .int x5), (6, .int x6)] → W p l e { frames := 124, cells := mc, slots := ms, locals := 2655 } s m args below meth c H locs cells slots (jQ D dA H0 below s (.returned (some (.int r))) h' mc ms) (F0 m 36 ls [])) : ∀ (x1 : Int32) (x2 : Int32) (x3 : Int32) (x4 : Int32) (x5 : Int32) (x6 : Int32), ∀ (h : jH) (H : Heap) (locs : List Loc) (cells slots : Nat) (ls : Array Slot), (fX1_ask_145 N k36 a0 x1 x2 x3 x4 x5 x6).1 h = some (r, h') → jS D dA H0 hs h H locs cells slots → lv_has ls 9 [(0, .ref a0), (1, .int x1), (2, .int x2), (3, .int x3), (4, .int x4), (5, .int x5), (6, .int x6)] → W p l e { frames := 124, cells := mc, slots := ms, locals := 2655 } s m args below meth c H locs cells slots (jQ D dA H0 below s (.returned (some (.int r))) h' mc ms) (F0 m 145 ls []) := by
  have hx := cx.1
  have hb := cx.2.1
  have hown := cx.2.2.2.1
  have hts := cx.2.2.2.2.1
  have hm : h'.2.2.1 ≤ hs.2.2.1 + mc ∧ h'.2.2.2.1 ≤ hs.2.2.2.1 + ms := ⟨Nat.le_of_eq e1, Nat.le_of_eq e2⟩
  intro x1 x2 x3 x4 x5 x6 h H locs cells slots ls hf hS hl
  unfold fX1_ask_145 at hf
  refine lv_iinc (pc := 145) (v := (x6 + 1)) (lv' := [(6, .int (x6 + 1)), (0, .ref a0), (1, .int x1), (2, .int x2), (3, .int x3), (4, .int x4), (5, .int x5)]) hx hb dX1_ask_145 hl (k := 6) rfl rfl (Nat.le_of_ble_eq_true rfl) rfl (fun ls hl => ?_)
  refine lv_goto (pc := 148) (tgt := 36) hx hb dX1_ask_148 (by decide) ?_
  exact hk36 _ _ _ _ _ _ _ _ _ _ _ _ hf hS (lv_sub hl [1, 2, 3, 4, 5, 6, 0] rfl)
theorem wX1_ask_108 {N : Nat} {k36 : Int32 → Int32 → Int32 → Int32 → Int32 → Int32 → jM Int32} {r : Int32} (cx : jCx p s m args meth c cX1_ask "WornSkin" 9 (Option.some Jvm.ClassFile.FieldType.int) D dA H0 hs.2.2.2.2) (e1 : h'.2.2.1 = hs.2.2.1 + mc) (e2 : h'.2.2.2.1 = hs.2.2.2.1 + ms) (a0 : Nat) (hth : jTh hs a0 0) (hk36 : ∀ (x1 : Int32) (x2 : Int32) (x3 : Int32) (x4 : Int32) (x5 : Int32) (x6 : Int32), ∀ (h : jH) (H : Heap) (locs : List Loc) (cells slots : Nat) (ls : Array Slot), (k36 x1 x2 x3 x4 x5 x6).1 h = some (r, h') → jS D dA H0 hs h H locs cells slots → lv_has ls 9 [(0, .ref a0), (1, .int x1), (2, .int x2), (3, .int x3), (4, .int x4), (5, .int x5), (6, .int x6)] → W p l e { frames := 124, cells := mc, slots := ms, locals := 2655 } s m args below meth c H locs cells slots (jQ D dA H0 below s (.returned (some (.int r))) h' mc ms) (F0 m 36 ls [])) : ∀ (x1 : Int32) (x2 : Int32) (x3 : Int32) (x4 : Int32) (x5 : Int32) (x6 : Int32) (x7 : Int32), ∀ (h : jH) (H : Heap) (locs : List Loc) (cells slots : Nat) (ls : Array Slot), (fX1_ask_108 N k36 a0 x1 x2 x3 x4 x5 x6 x7).1 h = some (r, h') → jS D dA H0 hs h H locs cells slots → lv_has ls 9 [(0, .ref a0), (1, .int x1), (2, .int x2), (3, .int x3), (4, .int x4), (5, .int x5), (6, .int x6), (7, .int x7)] → W p l e { frames := 124, cells := mc, slots := ms, locals := 2655 } s m args below meth c H locs cells slots (jQ D dA H0 below s (.returned (some (.int r))) h' mc ms) (F0 m 108 ls []) := by
  have hx := cx.1
  have hb := cx.2.1
  have hown := cx.2.2.2.1
  have hts := cx.2.2.2.2.1
  have hm : h'.2.2.1 ≤ hs.2.2.1 + mc ∧ h'.2.2.2.1 ≤ hs.2.2.2.1 + ms := ⟨Nat.le_of_eq e1, Nat.le_of_eq e2⟩
  intro x1 x2 x3 x4 x5 x6 x7 h H locs cells slots ls hf hS hl
  unfold fX1_ask_108 at hf
  refine lv_iload (pc := 108) hx hb dX1_ask_108 (lv_at hl 7 rfl) ?_
  refine lv_iload_n (pc := 110) hx hb dX1_ask_110 rfl (lv_at hl 2 rfl) ?_
  obtain ⟨y1, h1, e9, hf⟩ := jB_some hf
  refine j_callS (pc := 111) (st1 := [.int y1, .int x7]) (As := [.int x2]) (rest := [.int x7]) cx hS rfl hl.1 hm (metX1_bits l _ _ _ _ _ e9) (jle hf) (lw_S q1460 q1461 q112 q1462) pdX1_bits rfl rfl (Nat.le_of_ble_eq_true rfl) ⟨Nat.le_of_ble_eq_true rfl, Nat.le_of_ble_eq_true rfl⟩ dX1_ask_111 rfl (fun H locs cells slots hS => ?_)
  refine lv_iload (pc := 114) hx hb dX1_ask_114 (lv_at hl 7 rfl) ?_
  refine lv_isub (pc := 116) hx hb dX1_ask_116 ?_
  refine j_max (pc := 117) cx hS hl.1 (jle hf) hm q1581 q523 q126 q524 (Nat.le_of_ble_eq_true rfl) (Nat.le_of_ble_eq_true rfl) dX1_ask_117 ?_
  refine lv_istore (pc := 120) (i := 8) (lv' := [(8, .int (jmax x7 (y1 - x7))), (0, .ref a0), (1, .int x1), (2, .int x2), (3, .int x3), (4, .int x4), (5, .int x5), (6, .int x6), (7, .int x7)]) hx hb dX1_ask_120 hl (Nat.le_of_ble_eq_true rfl) rfl (fun ls hl => ?_)
  refine lv_iload (pc := 122) hx hb dX1_ask_122 (lv_at hl 0 rfl) ?_
  refine lv_iload (pc := 124) hx hb dX1_ask_124 (lv_at hl 5 rfl) ?_
  refine lv_icmp_lt (pc := 126) (tgt := 132) hx hb dX1_ask_126 (by decide) (fun hc => ?_) (fun hc => ?_)
  · have hf := jI_t hf hc
    refine lv_bipush (pc := 132) (v := 10) hx hb dX1_ask_132 rfl ?_
    refine lv_iload (pc := 134) hx hb dX1_ask_134 (lv_at hl 6 rfl) ?_
    refine lv_imul (pc := 136) hx hb dX1_ask_136 ?_
    refine lv_iload (pc := 137) hx hb dX1_ask_137 (lv_at hl 7 rfl) ?_
    refine lv_iadd (pc := 139) hx hb dX1_ask_139 ?_
    refine lv_istore_n (pc := 140) (i := 3) (lv' := [(3, .int ((10 * x5) + x6)), (8, .int (jmax x7 (y1 - x7))), (0, .ref a0), (1, .int x1), (2, .int x2), (4, .int x4), (5, .int x5), (6, .int x6), (7, .int x7)]) hx hb dX1_ask_140 rfl hl (Nat.le_of_ble_eq_true rfl) rfl (fun ls hl => ?_)
    refine lv_iload (pc := 141) hx hb dX1_ask_141 (lv_at hl 1 rfl) ?_
    refine lv_istore (pc := 143) (i := 4) (lv' := [(4, .int (jmax x7 (y1 - x7))), (3, .int ((10 * x5) + x6)), (8, .int (jmax x7 (y1 - x7))), (0, .ref a0), (1, .int x1), (2, .int x2), (5, .int x5), (6, .int x6), (7, .int x7)]) hx hb dX1_ask_143 hl (Nat.le_of_ble_eq_true rfl) rfl (fun ls hl => ?_)
    exact wX1_ask_145 cx e1 e2 a0 hth hk36 _ _ _ _ _ _ _ _ _ _ _ _ hf hS (lv_sub hl [3, 4, 5, 1, 0, 6, 7] rfl)
  · have hf := jI_f hf hc
    refine lv_goto (pc := 129) (tgt := 145) hx hb dX1_ask_129 (by decide) ?_
    exact wX1_ask_145 cx e1 e2 a0 hth hk36 _ _ _ _ _ _ _ _ _ _ _ _ hf hS (lv_sub hl [1, 2, 3, 4, 5, 6, 7] rfl)
theorem wX1_ask_102 {N : Nat} {k49 : Int32 → Int32 → Int32 → Int32 → Int32 → Int32 → Int32 → Int32 → jM Int32} {r : Int32} (cx : jCx p s m args meth c cX1_ask "WornSkin" 9 (Option.some Jvm.ClassFile.FieldType.int) D dA H0 hs.2.2.2.2) (e1 : h'.2.2.1 = hs.2.2.1 + mc) (e2 : h'.2.2.2.1 = hs.2.2.2.1 + ms) (a0 : Nat) (hth : jTh hs a0 0) (hk49 : ∀ (x1 : Int32) (x2 : Int32) (x3 : Int32) (x4 : Int32) (x5 : Int32) (x6 : Int32) (x7 : Int32) (x8 : Int32), ∀ (h : jH) (H : Heap) (locs : List Loc) (cells slots : Nat) (ls : Array Slot), (k49 x1 x2 x3 x4 x5 x6 x7 x8).1 h = some (r, h') → jS D dA H0 hs h H locs cells slots → lv_has ls 9 [(0, .ref a0), (1, .int x1), (2, .int x2), (3, .int x3), (4, .int x4), (5, .int x5), (6, .int x6), (7, .int x7), (8, .int x8)] → W p l e { frames := 124, cells := mc, slots := ms, locals := 2655 } s m args below meth c H locs cells slots (jQ D dA H0 below s (.returned (some (.int r))) h' mc ms) (F0 m 49 ls [])) : ∀ (x1 : Int32) (x2 : Int32) (x3 : Int32) (x4 : Int32) (x5 : Int32) (x6 : Int32) (x7 : Int32) (x8 : Int32), ∀ (h : jH) (H : Heap) (locs : List Loc) (cells slots : Nat) (ls : Array Slot), (fX1_ask_102 N k49 a0 x1 x2 x3 x4 x5 x6 x7 x8).1 h = some (r, h') → jS D dA H0 hs h H locs cells slots → lv_has ls 9 [(0, .ref a0), (1, .int x1), (2, .int x2), (3, .int x3), (4, .int x4), (5, .int x5), (6, .int x6), (7, .int x7), (8, .int x8)] → W p l e { frames := 124, cells := mc, slots := ms, locals := 2655 } s m args below meth c H locs cells slots (jQ D dA H0 below s (.returned (some (.int r))) h' mc ms) (F0 m 102 ls []) := by
  have hx := cx.1
  have hb := cx.2.1
  have hown := cx.2.2.2.1
  have hts := cx.2.2.2.2.1
  have hm : h'.2.2.1 ≤ hs.2.2.1 + mc ∧ h'.2.2.2.1 ≤ hs.2.2.2.1 + ms := ⟨Nat.le_of_eq e1, Nat.le_of_eq e2⟩
  intro x1 x2 x3 x4 x5 x6 x7 x8 h H locs cells slots ls hf hS hl
  unfold fX1_ask_102 at hf
  refine lv_iinc (pc := 102) (v := (x8 + 1)) (lv' := [(8, .int (x8 + 1)), (0, .ref a0), (1, .int x1), (2, .int x2), (3, .int x3), (4, .int x4), (5, .int x5), (6, .int x6), (7, .int x7)]) hx hb dX1_ask_102 hl (k := 8) rfl rfl (Nat.le_of_ble_eq_true rfl) rfl (fun ls hl => ?_)
  refine lv_goto (pc := 105) (tgt := 49) hx hb dX1_ask_105 (by decide) ?_
  exact hk49 _ _ _ _ _ _ _ _ _ _ _ _ _ _ hf hS (lv_sub hl [1, 2, 3, 4, 5, 6, 7, 8, 0] rfl)
theorem wX1_ask_49 {N : Nat} {k36 : Int32 → Int32 → Int32 → Int32 → Int32 → Int32 → jM Int32} {r : Int32} (cx : jCx p s m args meth c cX1_ask "WornSkin" 9 (Option.some Jvm.ClassFile.FieldType.int) D dA H0 hs.2.2.2.2) (e1 : h'.2.2.1 = hs.2.2.1 + mc) (e2 : h'.2.2.2.1 = hs.2.2.2.1 + ms) (a0 : Nat) (hth : jTh hs a0 0) (hk36 : ∀ (x1 : Int32) (x2 : Int32) (x3 : Int32) (x4 : Int32) (x5 : Int32) (x6 : Int32), ∀ (h : jH) (H : Heap) (locs : List Loc) (cells slots : Nat) (ls : Array Slot), (k36 x1 x2 x3 x4 x5 x6).1 h = some (r, h') → jS D dA H0 hs h H locs cells slots → lv_has ls 9 [(0, .ref a0), (1, .int x1), (2, .int x2), (3, .int x3), (4, .int x4), (5, .int x5), (6, .int x6)] → W p l e { frames := 124, cells := mc, slots := ms, locals := 2655 } s m args below meth c H locs cells slots (jQ D dA H0 below s (.returned (some (.int r))) h' mc ms) (F0 m 36 ls [])) : ∀ (n : Nat) (x1 : Int32) (x2 : Int32) (x3 : Int32) (x4 : Int32) (x5 : Int32) (x6 : Int32) (x7 : Int32) (x8 : Int32), ∀ (h : jH) (H : Heap) (locs : List Loc) (cells slots : Nat) (ls : Array Slot), (fX1_ask_49 N k36 a0 n x1 x2 x3 x4 x5 x6 x7 x8).1 h = some (r, h') → jS D dA H0 hs h H locs cells slots → lv_has ls 9 [(0, .ref a0), (1, .int x1), (2, .int x2), (3, .int x3), (4, .int x4), (5, .int x5), (6, .int x6), (7, .int x7), (8, .int x8)] → W p l e { frames := 124, cells := mc, slots := ms, locals := 2655 } s m args below meth c H locs cells slots (jQ D dA H0 below s (.returned (some (.int r))) h' mc ms) (F0 m 49 ls []) := by
  have hx := cx.1
  have hb := cx.2.1
  have hown := cx.2.2.2.1
  have hts := cx.2.2.2.2.1
  have hm : h'.2.2.1 ≤ hs.2.2.1 + mc ∧ h'.2.2.2.1 ≤ hs.2.2.2.1 + ms := ⟨Nat.le_of_eq e1, Nat.le_of_eq e2⟩
  intro n
  induction n with
  | zero =>
    intro x1 x2 x3 x4 x5 x6 x7 x8 h H locs cells slots ls hf hS hl
    exact jE_f hf
  | succ n ih =>
    intro x1 x2 x3 x4 x5 x6 x7 x8 h H locs cells slots ls hf hS hl
    unfold fX1_ask_49 at hf
    refine lv_iload (pc := 49) hx hb dX1_ask_49 (lv_at hl 8 rfl) ?_
    refine lv_aload_n (pc := 51) hx hb dX1_ask_51 rfl (lv_at hl 0 rfl) ?_
    obtain ⟨y1, h1, e9, hf⟩ := jB_some hf
    refine j_callV (pc := 52) (st1 := [.int y1, .int x8]) (As := []) (rest := [.int x8]) cx hS rfl hl.1 hm (metX1_texts l _ _ _ _ (hth.at hS) e9) (jle hf) (hth.at hS) rfl (lw_V q1286 q1288 qs37 q112 q1289) pdX1_texts rfl rfl (Nat.le_of_ble_eq_true rfl) ⟨Nat.le_of_ble_eq_true rfl, Nat.le_of_ble_eq_true rfl⟩ dX1_ask_52 rfl (fun H locs cells slots hS => ?_)
    refine lv_icmp_ge (pc := 55) (tgt := 108) hx hb dX1_ask_55 (by decide) (fun hc => ?_) (fun hc => ?_)
    · have hf := jI_t hf hc
      exact wX1_ask_108 cx e1 e2 a0 hth hk36 _ _ _ _ _ _ _ _ _ _ _ _ _ hf hS (lv_sub hl [0, 1, 2, 3, 4, 5, 6, 7] rfl)
    · have hf := jI_f hf hc
      refine lv_iload_n (pc := 58) hx hb dX1_ask_58 rfl (lv_at hl 2 rfl) ?_
      refine lv_iload (pc := 59) hx hb dX1_ask_59 (lv_at hl 8 rfl) ?_
      obtain ⟨y2, h1, e9, hf⟩ := jB_some hf
      refine j_callS (pc := 61) (st1 := [.int y2]) (As := [.int x2, .int x8]) (rest := []) cx hS rfl hl.1 hm (metX1_has l _ _ _ _ _ e9) (jle hf) (lw_S q1549 q864 q112 q865) pdX1_has rfl rfl (Nat.le_of_ble_eq_true rfl) ⟨Nat.le_of_ble_eq_true rfl, Nat.le_of_ble_eq_true rfl⟩ dX1_ask_61 rfl (fun H locs cells slots hS => ?_)
      refine lv_if_eq (pc := 64) (tgt := 102) hx hb dX1_ask_64 (by decide) (fun hc => ?_) (fun hc => ?_)
      · have hf := jI_t hf hc
        exact wX1_ask_102 cx e1 e2 a0 hth ih _ _ _ _ _ _ _ _ _ _ _ _ _ _ hf hS hl
      · have hf := jI_f hf hc
        refine lv_aload_n (pc := 67) hx hb dX1_ask_67 rfl (lv_at hl 0 rfl) ?_
        obtain ⟨y3, h1, e9, hf⟩ := jB_some hf
        refine j_callV (pc := 68) (st1 := [va_rf y3]) (As := []) (rest := []) cx hS rfl hl.1 hm (metX1_now l _ _ _ _ (hth.at hS) e9) (jle hf) (hth.at hS) rfl (lw_V q1092 q1094 qs31 q112 q1095) pdX1_now rfl rfl (Nat.le_of_ble_eq_true rfl) ⟨Nat.le_of_ble_eq_true rfl, Nat.le_of_ble_eq_true rfl⟩ dX1_ask_68 rfl (fun H locs cells slots hS => ?_)
        refine lv_aload_n (pc := 71) hx hb dX1_ask_71 rfl (lv_at hl 0 rfl) ?_
        refine j_gR (pc := 72) cx hS hf fd_WornSkin_shelf q430 dX1_ask_72 (fun y4 hf => ?_)
        refine lv_iload (pc := 75) hx hb dX1_ask_75 (lv_at hl 8 rfl) ?_
        obtain ⟨b6, eb, hrc, hf⟩ := jrc_s hf
        refine j_nn (pc := 77) eb [.int x8] [va_rf y3] rfl ?_
        obtain ⟨y5, h1, e9, hf⟩ := jB_some hf
        refine j_callV (pc := 77) (st1 := [va_rf y5, va_rf y3]) (As := [.int x8]) (rest := [va_rf y3]) cx hS rfl hl.1 hm (metX3_text l _ _ _ _ _ hrc e9) (jle hf) hrc rfl (lw_V q1290 q1194 q1195 q114 q1196) pdX3_text rfl rfl (by simp only [List.map_cons, List.map_nil, List.sum_cons, List.sum_nil, jrfc]; exact Nat.le_of_ble_eq_true rfl) ⟨Nat.le_of_ble_eq_true rfl, Nat.le_of_ble_eq_true rfl⟩ dX1_ask_77 rfl (fun H locs cells slots hS => ?_)
        refine lv_iload (pc := 80) hx hb dX1_ask_80 (lv_at hl 5 rfl) ?_
        refine lv_iload (pc := 82) hx hb dX1_ask_82 (lv_at hl 6 rfl) ?_
        refine lv_aload_n (pc := 84) hx hb dX1_ask_84 rfl (lv_at hl 0 rfl) ?_
        refine j_gR (pc := 85) cx hS hf fd_WornSkin_shelf q430 dX1_ask_85 (fun y7 hf => ?_)
        refine j_gR (pc := 88) cx hS hf fd_WornSkin_Shelf_thick q263 dX1_ask_88 (fun y8 hf => ?_)
        refine lv_iload_n (pc := 91) hx hb dX1_ask_91 rfl (lv_at hl 1 rfl) ?_
        refine j_aI (pc := 92) cx hS hf rfl dX1_ask_92 (fun y9 hf => ?_)
        obtain ⟨b11, eb, hrc, hf⟩ := jrc_s hf
        refine j_nn (pc := 93) eb [.int y9, .int x6, .int x5, va_rf y5] [] rfl ?_
        obtain ⟨y10, h1, e9, hf⟩ := jB_some hf
        refine j_callV (pc := 93) (st1 := [.int y10]) (As := [va_rf y5, .int x5, .int x6, .int y9]) (rest := []) cx hS rfl hl.1 hm (metX4_shows l _ _ _ _ _ _ _ _ _ hrc e9) (jle hf) hrc rfl (lw_V q1575 q1199 q1200 q115 q1201) pdX4_shows rfl rfl (Nat.le_of_ble_eq_true rfl) ⟨Nat.le_of_ble_eq_true rfl, Nat.le_of_ble_eq_true rfl⟩ dX1_ask_93 rfl (fun H locs cells slots hS => ?_)
        refine lv_if_eq (pc := 96) (tgt := 102) hx hb dX1_ask_96 (by decide) (fun hc => ?_) (fun hc => ?_)
        · have hf := jI_t hf hc
          exact wX1_ask_102 cx e1 e2 a0 hth ih _ _ _ _ _ _ _ _ _ _ _ _ _ _ hf hS hl
        · have hf := jI_f hf hc
          refine lv_iinc (pc := 99) (v := (x7 + 1)) (lv' := [(7, .int (x7 + 1)), (0, .ref a0), (1, .int x1), (2, .int x2), (3, .int x3), (4, .int x4), (5, .int x5), (6, .int x6), (8, .int x8)]) hx hb dX1_ask_99 hl (k := 7) rfl rfl (Nat.le_of_ble_eq_true rfl) rfl (fun ls hl => ?_)
          exact wX1_ask_102 cx e1 e2 a0 hth ih _ _ _ _ _ _ _ _ _ _ _ _ _ _ hf hS (lv_sub hl [1, 2, 3, 4, 5, 6, 7, 0, 8] rfl)
theorem wX1_ask_36 {N : Nat} {k26 : Int32 → Int32 → Int32 → Int32 → Int32 → jM Int32} {r : Int32} (cx : jCx p s m args meth c cX1_ask "WornSkin" 9 (Option.some Jvm.ClassFile.FieldType.int) D dA H0 hs.2.2.2.2) (e1 : h'.2.2.1 = hs.2.2.1 + mc) (e2 : h'.2.2.2.1 = hs.2.2.2.1 + ms) (a0 : Nat) (hth : jTh hs a0 0) (hk26 : ∀ (x1 : Int32) (x2 : Int32) (x3 : Int32) (x4 : Int32) (x5 : Int32), ∀ (h : jH) (H : Heap) (locs : List Loc) (cells slots : Nat) (ls : Array Slot), (k26 x1 x2 x3 x4 x5).1 h = some (r, h') → jS D dA H0 hs h H locs cells slots → lv_has ls 9 [(0, .ref a0), (1, .int x1), (2, .int x2), (3, .int x3), (4, .int x4), (5, .int x5)] → W p l e { frames := 124, cells := mc, slots := ms, locals := 2655 } s m args below meth c H locs cells slots (jQ D dA H0 below s (.returned (some (.int r))) h' mc ms) (F0 m 26 ls [])) : ∀ (n : Nat) (x1 : Int32) (x2 : Int32) (x3 : Int32) (x4 : Int32) (x5 : Int32) (x6 : Int32), ∀ (h : jH) (H : Heap) (locs : List Loc) (cells slots : Nat) (ls : Array Slot), (fX1_ask_36 N k26 a0 n x1 x2 x3 x4 x5 x6).1 h = some (r, h') → jS D dA H0 hs h H locs cells slots → lv_has ls 9 [(0, .ref a0), (1, .int x1), (2, .int x2), (3, .int x3), (4, .int x4), (5, .int x5), (6, .int x6)] → W p l e { frames := 124, cells := mc, slots := ms, locals := 2655 } s m args below meth c H locs cells slots (jQ D dA H0 below s (.returned (some (.int r))) h' mc ms) (F0 m 36 ls []) := by
  have hx := cx.1
  have hb := cx.2.1
  have hown := cx.2.2.2.1
  have hts := cx.2.2.2.2.1
  have hm : h'.2.2.1 ≤ hs.2.2.1 + mc ∧ h'.2.2.2.1 ≤ hs.2.2.2.1 + ms := ⟨Nat.le_of_eq e1, Nat.le_of_eq e2⟩
  intro n
  induction n with
  | zero =>
    intro x1 x2 x3 x4 x5 x6 h H locs cells slots ls hf hS hl
    exact jE_f hf
  | succ n ih =>
    intro x1 x2 x3 x4 x5 x6 h H locs cells slots ls hf hS hl
    unfold fX1_ask_36 at hf
    refine lv_iload (pc := 36) hx hb dX1_ask_36 (lv_at hl 6 rfl) ?_
    refine lv_bipush (pc := 38) (v := 9) hx hb dX1_ask_38 rfl ?_
    refine lv_icmp_gt (pc := 40) (tgt := 151) hx hb dX1_ask_40 (by decide) (fun hc => ?_) (fun hc => ?_)
    · have hf := jI_t hf hc
      exact wX1_ask_151 cx e1 e2 a0 hth hk26 _ _ _ _ _ _ _ _ _ _ _ hf hS (lv_sub hl [0, 1, 2, 3, 4, 5] rfl)
    · have hf := jI_f hf hc
      refine lv_iconst (pc := 43) (v := 0) hx hb dX1_ask_43 rfl ?_
      refine lv_istore (pc := 44) (i := 7) (lv' := [(7, .int 0), (0, .ref a0), (1, .int x1), (2, .int x2), (3, .int x3), (4, .int x4), (5, .int x5), (6, .int x6)]) hx hb dX1_ask_44 hl (Nat.le_of_ble_eq_true rfl) rfl (fun ls hl => ?_)
      refine lv_iconst (pc := 46) (v := 0) hx hb dX1_ask_46 rfl ?_
      refine lv_istore (pc := 47) (i := 8) (lv' := [(8, .int 0), (7, .int 0), (0, .ref a0), (1, .int x1), (2, .int x2), (3, .int x3), (4, .int x4), (5, .int x5), (6, .int x6)]) hx hb dX1_ask_47 hl (Nat.le_of_ble_eq_true rfl) rfl (fun ls hl => ?_)
      exact wX1_ask_49 cx e1 e2 a0 hth ih N _ _ _ _ _ _ _ _ _ _ _ _ _ _ hf hS (lv_sub hl [2, 3, 4, 5, 6, 7, 8, 1, 0] rfl)
theorem wX1_ask_26 {N : Nat} {r : Int32} (cx : jCx p s m args meth c cX1_ask "WornSkin" 9 (Option.some Jvm.ClassFile.FieldType.int) D dA H0 hs.2.2.2.2) (e1 : h'.2.2.1 = hs.2.2.1 + mc) (e2 : h'.2.2.2.1 = hs.2.2.2.1 + ms) (a0 : Nat) (hth : jTh hs a0 0) : ∀ (n : Nat) (x1 : Int32) (x2 : Int32) (x3 : Int32) (x4 : Int32) (x5 : Int32), ∀ (h : jH) (H : Heap) (locs : List Loc) (cells slots : Nat) (ls : Array Slot), (fX1_ask_26 N a0 n x1 x2 x3 x4 x5).1 h = some (r, h') → jS D dA H0 hs h H locs cells slots → lv_has ls 9 [(0, .ref a0), (1, .int x1), (2, .int x2), (3, .int x3), (4, .int x4), (5, .int x5)] → W p l e { frames := 124, cells := mc, slots := ms, locals := 2655 } s m args below meth c H locs cells slots (jQ D dA H0 below s (.returned (some (.int r))) h' mc ms) (F0 m 26 ls []) := by
  have hx := cx.1
  have hb := cx.2.1
  have hown := cx.2.2.2.1
  have hts := cx.2.2.2.2.1
  have hm : h'.2.2.1 ≤ hs.2.2.1 + mc ∧ h'.2.2.2.1 ≤ hs.2.2.2.1 + ms := ⟨Nat.le_of_eq e1, Nat.le_of_eq e2⟩
  intro n
  induction n with
  | zero =>
    intro x1 x2 x3 x4 x5 h H locs cells slots ls hf hS hl
    exact jE_f hf
  | succ n ih =>
    intro x1 x2 x3 x4 x5 h H locs cells slots ls hf hS hl
    unfold fX1_ask_26 at hf
    refine lv_iload (pc := 26) hx hb dX1_ask_26 (lv_at hl 5 rfl) ?_
    refine lv_bipush (pc := 28) (v := 9) hx hb dX1_ask_28 rfl ?_
    refine lv_icmp_gt (pc := 30) (tgt := 157) hx hb dX1_ask_30 (by decide) (fun hc => ?_) (fun hc => ?_)
    · have hf := jI_t hf hc
      exact wX1_ask_157 cx e1 e2 a0 hth _ _ _ _ _ _ _ hf hS (lv_sub hl [0, 3] rfl)
    · have hf := jI_f hf hc
      refine lv_iconst (pc := 33) (v := 0) hx hb dX1_ask_33 rfl ?_
      refine lv_istore (pc := 34) (i := 6) (lv' := [(6, .int 0), (0, .ref a0), (1, .int x1), (2, .int x2), (3, .int x3), (4, .int x4), (5, .int x5)]) hx hb dX1_ask_34 hl (Nat.le_of_ble_eq_true rfl) rfl (fun ls hl => ?_)
      exact wX1_ask_36 cx e1 e2 a0 hth ih N _ _ _ _ _ _ _ _ _ _ _ _ hf hS (lv_sub hl [1, 2, 3, 4, 5, 6, 0] rfl)
theorem wX1_ask_0 {N : Nat} {r : Int32} (cx : jCx p s m args meth c cX1_ask "WornSkin" 9 (Option.some Jvm.ClassFile.FieldType.int) D dA H0 hs.2.2.2.2) (e1 : h'.2.2.1 = hs.2.2.1 + mc) (e2 : h'.2.2.2.1 = hs.2.2.2.1 + ms) (a0 : Nat) (hth : jTh hs a0 0) : ∀ (x1 : Int32), ∀ (h : jH) (H : Heap) (locs : List Loc) (cells slots : Nat) (ls : Array Slot), (fX1_ask N a0 x1).1 h = some (r, h') → jS D dA H0 hs h H locs cells slots → lv_has ls 9 [(0, .ref a0), (1, .int x1)] → W p l e { frames := 124, cells := mc, slots := ms, locals := 2655 } s m args below meth c H locs cells slots (jQ D dA H0 below s (.returned (some (.int r))) h' mc ms) (F0 m 0 ls []) := by
  have hx := cx.1
  have hb := cx.2.1
  have hown := cx.2.2.2.1
  have hts := cx.2.2.2.2.1
  have hm : h'.2.2.1 ≤ hs.2.2.1 + mc ∧ h'.2.2.2.1 ≤ hs.2.2.2.1 + ms := ⟨Nat.le_of_eq e1, Nat.le_of_eq e2⟩
  intro x1 h H locs cells slots ls hf hS hl
  unfold fX1_ask at hf
  refine lv_aload_n (pc := 0) hx hb dX1_ask_0 rfl (lv_at hl 0 rfl) ?_
  refine lv_iload_n (pc := 1) hx hb dX1_ask_1 rfl (lv_at hl 1 rfl) ?_
  obtain ⟨y1, h1, e9, hf⟩ := jB_some hf
  refine j_callV (pc := 2) (st1 := [.int y1]) (As := [.int x1]) (rest := []) cx hS rfl hl.1 hm (metX1_isSkin l _ _ _ _ _ (hth.at hS) e9) (jle hf) (hth.at hS) rfl (lw_V q1149 q1151 qs33 q112 q1152) pdX1_isSkin rfl rfl (Nat.le_of_ble_eq_true rfl) ⟨Nat.le_of_ble_eq_true rfl, Nat.le_of_ble_eq_true rfl⟩ dX1_ask_2 rfl (fun H locs cells slots hS => ?_)
  refine lv_if_ne (pc := 5) (tgt := 10) hx hb dX1_ask_5 (by decide) (fun hc => ?_) (fun hc => ?_)
  · have hf := jI_f hf hc
    refine lv_aload_n (pc := 10) hx hb dX1_ask_10 rfl (lv_at hl 0 rfl) ?_
    obtain ⟨y2, h1, e9, hf⟩ := jB_some hf
    refine j_callV (pc := 11) (st1 := [.int y2]) (As := []) (rest := []) cx hS rfl hl.1 hm (metX1_who l _ _ _ _ _ (hth.at hS) e9) (jle hf) (hth.at hS) rfl (lw_V q1580 q1567 q1568 q112 q1569) pdX1_who rfl rfl (Nat.le_of_ble_eq_true rfl) ⟨Nat.le_of_ble_eq_true rfl, Nat.le_of_ble_eq_true rfl⟩ dX1_ask_11 rfl (fun H locs cells slots hS => ?_)
    refine lv_istore_n (pc := 14) (i := 2) (lv' := [(2, .int y2), (0, .ref a0), (1, .int x1)]) hx hb dX1_ask_14 rfl hl (Nat.le_of_ble_eq_true rfl) rfl (fun ls hl => ?_)
    refine lv_iconst (pc := 15) (v := (-1)) hx hb dX1_ask_15 rfl ?_
    refine lv_istore_n (pc := 16) (i := 3) (lv' := [(3, .int (-1)), (2, .int y2), (0, .ref a0), (1, .int x1)]) hx hb dX1_ask_16 rfl hl (Nat.le_of_ble_eq_true rfl) rfl (fun ls hl => ?_)
    refine lv_iload_n (pc := 17) hx hb dX1_ask_17 rfl (lv_at hl 1 rfl) ?_
    obtain ⟨y3, h1, e9, hf⟩ := jB_some hf
    refine j_callS (pc := 18) (st1 := [.int y3]) (As := [.int y2]) (rest := []) cx hS rfl hl.1 hm (metX1_bits l _ _ _ _ _ e9) (jle hf) (lw_S q1460 q1461 q112 q1462) pdX1_bits rfl rfl (Nat.le_of_ble_eq_true rfl) ⟨Nat.le_of_ble_eq_true rfl, Nat.le_of_ble_eq_true rfl⟩ dX1_ask_18 rfl (fun H locs cells slots hS => ?_)
    refine lv_istore (pc := 21) (i := 4) (lv' := [(4, .int y3), (3, .int (-1)), (2, .int y2), (0, .ref a0), (1, .int x1)]) hx hb dX1_ask_21 hl (Nat.le_of_ble_eq_true rfl) rfl (fun ls hl => ?_)
    refine lv_iconst (pc := 23) (v := 1) hx hb dX1_ask_23 rfl ?_
    refine lv_istore (pc := 24) (i := 5) (lv' := [(5, .int 1), (4, .int y3), (3, .int (-1)), (2, .int y2), (0, .ref a0), (1, .int x1)]) hx hb dX1_ask_24 hl (Nat.le_of_ble_eq_true rfl) rfl (fun ls hl => ?_)
    exact wX1_ask_26 cx e1 e2 a0 hth N _ _ _ _ _ _ _ _ _ _ _ hf hS (lv_sub hl [4, 5, 3, 2, 1, 0] rfl)
  · have hf := jI_t hf hc
    refine lv_iconst (pc := 8) (v := (-1)) hx hb dX1_ask_8 rfl ?_
    exact j_iret (pc := 9) cx hS hf e1 e2 dX1_ask_9
theorem metX1_ask (l : Launch) (N : Nat) (a0 : Nat) (x1 : Int32) (h h' : jH) (r : Int32) (hth : jcd h a0 = some 0) (hf : (fX1_ask N a0 x1).1 h = some (r, h')) : jMet l yX1_ask (ws_ yX1_ask cX1_ask 9 (Option.some Jvm.ClassFile.FieldType.int)) (124) (2655) [.ref a0, .int x1] h h' (.returned (some (.int r))) := by
  refine jStart rfl (jle hf) (Nat.le_of_ble_eq_true rfl) ?_
  intro p e s m below meth c D dA H0 mc ms ls cx hnm e1 e2 hS hl
  have hth := jTh.mk hS hth
  exact wX1_ask_0 cx e1 e2 a0 hth _ _ _ _ _ _ _ hf hS hl
def fX1_chance_112 (N : Nat) (a0 : Nat) (x6 : Int64) (x8 : Int64) : jM Int32 := jB (jnzL x6) fun _ => jR ((((x6 - x8) * 1000000) / x6).toInt32)
def fX1_chance_101 (N : Nat) (k62 : Int32 → Int32 → Int32 → Int32 → Int64 → Int64 → Int32 → jM Int32) (a0 : Nat) (x2 : Int32) (x3 : Int32) (x4 : Int32) (x5 : Int32) (x6 : Int64) (x10 : Int32) (v0 : Int64) (v1 : Int32) (v2 : Int32) : jM Int32 := k62 x2 x3 x4 x5 x6 (v0 * ((v1 + v2).toInt64)) (x10 + 1)
def fX1_chance_88 (N : Nat) (k62 : Int32 → Int32 → Int32 → Int32 → Int64 → Int64 → Int32 → jM Int32) (a0 : Nat) (x2 : Int32) (x3 : Int32) (x4 : Int32) (x5 : Int32) (x6 : Int64) (x10 : Int32) (v0 : Int64) (v1 : Int32) : jM Int32 := if x5 = 0 then (fX1_chance_101 N k62 a0 x2 x3 x4 x5 x6 x10 v0 v1 (10 - x3)) else (fX1_chance_101 N k62 a0 x2 x3 x4 x5 x6 x10 v0 v1 0)
def fX1_chance_62 (N : Nat) (a0 : Nat) : Nat → Int32 → Int32 → Int32 → Int32 → Int64 → Int64 → Int32 → jM Int32
  | 0, _, _, _, _, _, _, _ => jE
  | n + 1, x2, x3, x4, x5, x6, x8, x10 => if x2 ≤ x10 then (fX1_chance_112 N a0 x6 x8) else (if x4 = 0 then (fX1_chance_88 N (fX1_chance_62 N a0 n) a0 x2 x3 x4 x5 (x6 * 10) x10 x8 x3) else (fX1_chance_88 N (fX1_chance_62 N a0 n) a0 x2 x3 x4 x5 (x6 * 10) x10 x8 0))
def fX1_chance_28 (N : Nat) (a0 : Nat) : jM Int32 := jR (-1)
def fX1_chance (N : Nat) (a0 : Nat) (x1 : Int32) (x2 : Int32) (x3 : Int32) : jM Int32 := jB (fX1_isText a0 x1) fun y1 => if y1 = 0 then (fX1_chance_28 N a0) else (jB (fX1_within x2 1 6) fun y2 => if y2 = 0 then (fX1_chance_28 N a0) else (jB (fX1_within x3 0 10) fun y3 => if y3 = 0 then (fX1_chance_28 N a0) else (jB (jgR [0] 1 (some a0)) fun y4 => jB (jrc 2 y4) fun b6 => jB (fX3_isWhole N b6 x1 9) fun y5 => jB (jgR [0] 1 (some a0)) fun y7 => jB (jrc 2 y7) fun b9 => jB (fX3_isWhole N b9 x1 0) fun y8 => fX1_chance_62 N a0 N x2 x3 y5 y8 1 1 0)))
theorem wX1_chance_112 {N : Nat} {r : Int32} (cx : jCx p s m args meth c cX1_chance "WornSkin" 11 (Option.some Jvm.ClassFile.FieldType.int) D dA H0 hs.2.2.2.2) (e1 : h'.2.2.1 = hs.2.2.1 + mc) (e2 : h'.2.2.2.1 = hs.2.2.2.1 + ms) (a0 : Nat) (hth : jTh hs a0 0) : ∀ (x6 : Int64) (x8 : Int64), ∀ (h : jH) (H : Heap) (locs : List Loc) (cells slots : Nat) (ls : Array Slot), (fX1_chance_112 N a0 x6 x8).1 h = some (r, h') → jS D dA H0 hs h H locs cells slots → lv_has ls 11 [(0, .ref a0), (6, .long x6), (8, .long x8)] → W p l e { frames := 124, cells := mc, slots := ms, locals := 2660 } s m args below meth c H locs cells slots (jQ D dA H0 below s (.returned (some (.int r))) h' mc ms) (F0 m 112 ls []) := by
  have hx := cx.1
  have hb := cx.2.1
  have hown := cx.2.2.2.1
  have hts := cx.2.2.2.2.1
  have hm : h'.2.2.1 ≤ hs.2.2.1 + mc ∧ h'.2.2.2.1 ≤ hs.2.2.2.1 + ms := ⟨Nat.le_of_eq e1, Nat.le_of_eq e2⟩
  intro x6 x8 h H locs cells slots ls hf hS hl
  unfold fX1_chance_112 at hf
  refine lv_lload (pc := 112) hx hb dX1_chance_112 (lv_at hl 1 rfl) ?_
  refine lv_lload (pc := 114) hx hb dX1_chance_114 (lv_at hl 2 rfl) ?_
  refine lv_lsub (pc := 116) hx hb dX1_chance_116 ?_
  refine lv_ldc2 (pc := 117) (v := 1000000) hx hb hown (hts _ q1587) dX1_chance_117 ?_
  refine lv_lmul (pc := 120) hx hb dX1_chance_120 ?_
  refine lv_lload (pc := 121) hx hb dX1_chance_121 (lv_at hl 1 rfl) ?_
  obtain ⟨hne, hf⟩ := jnzL_s hf
  refine lv_ldiv (pc := 123) hx hb dX1_chance_123 hne ?_
  refine lv_l2i (pc := 124) (v := (((x6 - x8) * 1000000) / x6).toInt32) hx hb dX1_chance_124 rfl ?_
  exact j_iret (pc := 125) cx hS hf e1 e2 dX1_chance_125
theorem wX1_chance_101 {N : Nat} {k62 : Int32 → Int32 → Int32 → Int32 → Int64 → Int64 → Int32 → jM Int32} {r : Int32} (cx : jCx p s m args meth c cX1_chance "WornSkin" 11 (Option.some Jvm.ClassFile.FieldType.int) D dA H0 hs.2.2.2.2) (e1 : h'.2.2.1 = hs.2.2.1 + mc) (e2 : h'.2.2.2.1 = hs.2.2.2.1 + ms) (a0 : Nat) (hth : jTh hs a0 0) (hk62 : ∀ (x2 : Int32) (x3 : Int32) (x4 : Int32) (x5 : Int32) (x6 : Int64) (x8 : Int64) (x10 : Int32), ∀ (h : jH) (H : Heap) (locs : List Loc) (cells slots : Nat) (ls : Array Slot), (k62 x2 x3 x4 x5 x6 x8 x10).1 h = some (r, h') → jS D dA H0 hs h H locs cells slots → lv_has ls 11 [(0, .ref a0), (2, .int x2), (3, .int x3), (4, .int x4), (5, .int x5), (6, .long x6), (8, .long x8), (10, .int x10)] → W p l e { frames := 124, cells := mc, slots := ms, locals := 2660 } s m args below meth c H locs cells slots (jQ D dA H0 below s (.returned (some (.int r))) h' mc ms) (F0 m 62 ls [])) : ∀ (x2 : Int32) (x3 : Int32) (x4 : Int32) (x5 : Int32) (x6 : Int64) (x10 : Int32) (v0 : Int64) (v1 : Int32) (v2 : Int32), ∀ (h : jH) (H : Heap) (locs : List Loc) (cells slots : Nat) (ls : Array Slot), (fX1_chance_101 N k62 a0 x2 x3 x4 x5 x6 x10 v0 v1 v2).1 h = some (r, h') → jS D dA H0 hs h H locs cells slots → lv_has ls 11 [(0, .ref a0), (2, .int x2), (3, .int x3), (4, .int x4), (5, .int x5), (6, .long x6), (10, .int x10)] → W p l e { frames := 124, cells := mc, slots := ms, locals := 2660 } s m args below meth c H locs cells slots (jQ D dA H0 below s (.returned (some (.int r))) h' mc ms) (F0 m 101 ls [.int v2, .int v1, .long v0]) := by
  have hx := cx.1
  have hb := cx.2.1
  have hown := cx.2.2.2.1
  have hts := cx.2.2.2.2.1
  have hm : h'.2.2.1 ≤ hs.2.2.1 + mc ∧ h'.2.2.2.1 ≤ hs.2.2.2.1 + ms := ⟨Nat.le_of_eq e1, Nat.le_of_eq e2⟩
  intro x2 x3 x4 x5 x6 x10 v0 v1 v2 h H locs cells slots ls hf hS hl
  unfold fX1_chance_101 at hf
  refine lv_iadd (pc := 101) hx hb dX1_chance_101 ?_
  refine lv_i2l (pc := 102) (v := (v1 + v2).toInt64) hx hb dX1_chance_102 rfl ?_
  refine lv_lmul (pc := 103) hx hb dX1_chance_103 ?_
  refine lv_lstore (pc := 104) (i := 8) (lv' := [(8, .long (v0 * ((v1 + v2).toInt64))), (0, .ref a0), (2, .int x2), (3, .int x3), (4, .int x4), (5, .int x5), (6, .long x6), (10, .int x10)]) hx hb dX1_chance_104 hl (Nat.le_of_ble_eq_true rfl) rfl (fun ls hl => ?_)
  refine lv_iinc (pc := 106) (v := (x10 + 1)) (lv' := [(10, .int (x10 + 1)), (8, .long (v0 * ((v1 + v2).toInt64))), (0, .ref a0), (2, .int x2), (3, .int x3), (4, .int x4), (5, .int x5), (6, .long x6)]) hx hb dX1_chance_106 hl (k := 7) rfl rfl (Nat.le_of_ble_eq_true rfl) rfl (fun ls hl => ?_)
  refine lv_goto (pc := 109) (tgt := 62) hx hb dX1_chance_109 (by decide) ?_
  exact hk62 _ _ _ _ _ _ _ _ _ _ _ _ _ hf hS (lv_sub hl [2, 3, 4, 5, 6, 7, 1, 0] rfl)
theorem wX1_chance_88 {N : Nat} {k62 : Int32 → Int32 → Int32 → Int32 → Int64 → Int64 → Int32 → jM Int32} {r : Int32} (cx : jCx p s m args meth c cX1_chance "WornSkin" 11 (Option.some Jvm.ClassFile.FieldType.int) D dA H0 hs.2.2.2.2) (e1 : h'.2.2.1 = hs.2.2.1 + mc) (e2 : h'.2.2.2.1 = hs.2.2.2.1 + ms) (a0 : Nat) (hth : jTh hs a0 0) (hk62 : ∀ (x2 : Int32) (x3 : Int32) (x4 : Int32) (x5 : Int32) (x6 : Int64) (x8 : Int64) (x10 : Int32), ∀ (h : jH) (H : Heap) (locs : List Loc) (cells slots : Nat) (ls : Array Slot), (k62 x2 x3 x4 x5 x6 x8 x10).1 h = some (r, h') → jS D dA H0 hs h H locs cells slots → lv_has ls 11 [(0, .ref a0), (2, .int x2), (3, .int x3), (4, .int x4), (5, .int x5), (6, .long x6), (8, .long x8), (10, .int x10)] → W p l e { frames := 124, cells := mc, slots := ms, locals := 2660 } s m args below meth c H locs cells slots (jQ D dA H0 below s (.returned (some (.int r))) h' mc ms) (F0 m 62 ls [])) : ∀ (x2 : Int32) (x3 : Int32) (x4 : Int32) (x5 : Int32) (x6 : Int64) (x10 : Int32) (v0 : Int64) (v1 : Int32), ∀ (h : jH) (H : Heap) (locs : List Loc) (cells slots : Nat) (ls : Array Slot), (fX1_chance_88 N k62 a0 x2 x3 x4 x5 x6 x10 v0 v1).1 h = some (r, h') → jS D dA H0 hs h H locs cells slots → lv_has ls 11 [(0, .ref a0), (2, .int x2), (3, .int x3), (4, .int x4), (5, .int x5), (6, .long x6), (10, .int x10)] → W p l e { frames := 124, cells := mc, slots := ms, locals := 2660 } s m args below meth c H locs cells slots (jQ D dA H0 below s (.returned (some (.int r))) h' mc ms) (F0 m 88 ls [.int v1, .long v0]) := by
  have hx := cx.1
  have hb := cx.2.1
  have hown := cx.2.2.2.1
  have hts := cx.2.2.2.2.1
  have hm : h'.2.2.1 ≤ hs.2.2.1 + mc ∧ h'.2.2.2.1 ≤ hs.2.2.2.1 + ms := ⟨Nat.le_of_eq e1, Nat.le_of_eq e2⟩
  intro x2 x3 x4 x5 x6 x10 v0 v1 h H locs cells slots ls hf hS hl
  unfold fX1_chance_88 at hf
  refine lv_iload (pc := 88) hx hb dX1_chance_88 (lv_at hl 4 rfl) ?_
  refine lv_if_eq (pc := 90) (tgt := 97) hx hb dX1_chance_90 (by decide) (fun hc => ?_) (fun hc => ?_)
  · have hf := jI_t hf hc
    refine lv_bipush (pc := 97) (v := 10) hx hb dX1_chance_97 rfl ?_
    refine lv_iload_n (pc := 99) hx hb dX1_chance_99 rfl (lv_at hl 2 rfl) ?_
    refine lv_isub (pc := 100) hx hb dX1_chance_100 ?_
    exact wX1_chance_101 cx e1 e2 a0 hth hk62 _ _ _ _ _ _ _ _ _ _ _ _ _ _ _ hf hS hl
  · have hf := jI_f hf hc
    refine lv_iconst (pc := 93) (v := 0) hx hb dX1_chance_93 rfl ?_
    refine lv_goto (pc := 94) (tgt := 101) hx hb dX1_chance_94 (by decide) ?_
    exact wX1_chance_101 cx e1 e2 a0 hth hk62 _ _ _ _ _ _ _ _ _ _ _ _ _ _ _ hf hS hl
theorem wX1_chance_62 {N : Nat} {r : Int32} (cx : jCx p s m args meth c cX1_chance "WornSkin" 11 (Option.some Jvm.ClassFile.FieldType.int) D dA H0 hs.2.2.2.2) (e1 : h'.2.2.1 = hs.2.2.1 + mc) (e2 : h'.2.2.2.1 = hs.2.2.2.1 + ms) (a0 : Nat) (hth : jTh hs a0 0) : ∀ (n : Nat) (x2 : Int32) (x3 : Int32) (x4 : Int32) (x5 : Int32) (x6 : Int64) (x8 : Int64) (x10 : Int32), ∀ (h : jH) (H : Heap) (locs : List Loc) (cells slots : Nat) (ls : Array Slot), (fX1_chance_62 N a0 n x2 x3 x4 x5 x6 x8 x10).1 h = some (r, h') → jS D dA H0 hs h H locs cells slots → lv_has ls 11 [(0, .ref a0), (2, .int x2), (3, .int x3), (4, .int x4), (5, .int x5), (6, .long x6), (8, .long x8), (10, .int x10)] → W p l e { frames := 124, cells := mc, slots := ms, locals := 2660 } s m args below meth c H locs cells slots (jQ D dA H0 below s (.returned (some (.int r))) h' mc ms) (F0 m 62 ls []) := by
  have hx := cx.1
  have hb := cx.2.1
  have hown := cx.2.2.2.1
  have hts := cx.2.2.2.2.1
  have hm : h'.2.2.1 ≤ hs.2.2.1 + mc ∧ h'.2.2.2.1 ≤ hs.2.2.2.1 + ms := ⟨Nat.le_of_eq e1, Nat.le_of_eq e2⟩
  intro n
  induction n with
  | zero =>
    intro x2 x3 x4 x5 x6 x8 x10 h H locs cells slots ls hf hS hl
    exact jE_f hf
  | succ n ih =>
    intro x2 x3 x4 x5 x6 x8 x10 h H locs cells slots ls hf hS hl
    unfold fX1_chance_62 at hf
    refine lv_iload (pc := 62) hx hb dX1_chance_62 (lv_at hl 7 rfl) ?_
    refine lv_iload_n (pc := 64) hx hb dX1_chance_64 rfl (lv_at hl 1 rfl) ?_
    refine lv_icmp_ge (pc := 65) (tgt := 112) hx hb dX1_chance_65 (by decide) (fun hc => ?_) (fun hc => ?_)
    · have hf := jI_t hf hc
      exact wX1_chance_112 cx e1 e2 a0 hth _ _ _ _ _ _ _ _ hf hS (lv_sub hl [0, 5, 6] rfl)
    · have hf := jI_f hf hc
      refine lv_lload (pc := 68) hx hb dX1_chance_68 (lv_at hl 5 rfl) ?_
      refine lv_ldc2 (pc := 70) (v := 10) hx hb hown (hts _ q1586) dX1_chance_70 ?_
      refine lv_lmul (pc := 73) hx hb dX1_chance_73 ?_
      refine lv_lstore (pc := 74) (i := 6) (lv' := [(6, .long (x6 * 10)), (0, .ref a0), (2, .int x2), (3, .int x3), (4, .int x4), (5, .int x5), (8, .long x8), (10, .int x10)]) hx hb dX1_chance_74 hl (Nat.le_of_ble_eq_true rfl) rfl (fun ls hl => ?_)
      refine lv_lload (pc := 76) hx hb dX1_chance_76 (lv_at hl 6 rfl) ?_
      refine lv_iload (pc := 78) hx hb dX1_chance_78 (lv_at hl 4 rfl) ?_
      refine lv_if_eq (pc := 80) (tgt := 87) hx hb dX1_chance_80 (by decide) (fun hc => ?_) (fun hc => ?_)
      · have hf := jI_t hf hc
        refine lv_iload_n (pc := 87) hx hb dX1_chance_87 rfl (lv_at hl 3 rfl) ?_
        exact wX1_chance_88 cx e1 e2 a0 hth ih _ _ _ _ _ _ _ _ _ _ _ _ _ _ hf hS (lv_sub hl [1, 2, 3, 4, 5, 0, 7] rfl)
      · have hf := jI_f hf hc
        refine lv_iconst (pc := 83) (v := 0) hx hb dX1_chance_83 rfl ?_
        refine lv_goto (pc := 84) (tgt := 88) hx hb dX1_chance_84 (by decide) ?_
        exact wX1_chance_88 cx e1 e2 a0 hth ih _ _ _ _ _ _ _ _ _ _ _ _ _ _ hf hS (lv_sub hl [1, 2, 3, 4, 5, 0, 7] rfl)
theorem wX1_chance_28 {N : Nat} {r : Int32} (cx : jCx p s m args meth c cX1_chance "WornSkin" 11 (Option.some Jvm.ClassFile.FieldType.int) D dA H0 hs.2.2.2.2) (e1 : h'.2.2.1 = hs.2.2.1 + mc) (e2 : h'.2.2.2.1 = hs.2.2.2.1 + ms) (a0 : Nat) (hth : jTh hs a0 0) : ∀ (h : jH) (H : Heap) (locs : List Loc) (cells slots : Nat) (ls : Array Slot), (fX1_chance_28 N a0).1 h = some (r, h') → jS D dA H0 hs h H locs cells slots → lv_has ls 11 [(0, .ref a0)] → W p l e { frames := 124, cells := mc, slots := ms, locals := 2660 } s m args below meth c H locs cells slots (jQ D dA H0 below s (.returned (some (.int r))) h' mc ms) (F0 m 28 ls []) := by
  have hx := cx.1
  have hb := cx.2.1
  have hown := cx.2.2.2.1
  have hts := cx.2.2.2.2.1
  have hm : h'.2.2.1 ≤ hs.2.2.1 + mc ∧ h'.2.2.2.1 ≤ hs.2.2.2.1 + ms := ⟨Nat.le_of_eq e1, Nat.le_of_eq e2⟩
  intro h H locs cells slots ls hf hS hl
  unfold fX1_chance_28 at hf
  refine lv_iconst (pc := 28) (v := (-1)) hx hb dX1_chance_28 rfl ?_
  exact j_iret (pc := 29) cx hS hf e1 e2 dX1_chance_29
theorem wX1_chance_0 {N : Nat} {r : Int32} (cx : jCx p s m args meth c cX1_chance "WornSkin" 11 (Option.some Jvm.ClassFile.FieldType.int) D dA H0 hs.2.2.2.2) (e1 : h'.2.2.1 = hs.2.2.1 + mc) (e2 : h'.2.2.2.1 = hs.2.2.2.1 + ms) (a0 : Nat) (hth : jTh hs a0 0) : ∀ (x1 : Int32) (x2 : Int32) (x3 : Int32), ∀ (h : jH) (H : Heap) (locs : List Loc) (cells slots : Nat) (ls : Array Slot), (fX1_chance N a0 x1 x2 x3).1 h = some (r, h') → jS D dA H0 hs h H locs cells slots → lv_has ls 11 [(0, .ref a0), (1, .int x1), (2, .int x2), (3, .int x3)] → W p l e { frames := 124, cells := mc, slots := ms, locals := 2660 } s m args below meth c H locs cells slots (jQ D dA H0 below s (.returned (some (.int r))) h' mc ms) (F0 m 0 ls []) := by
  have hx := cx.1
  have hb := cx.2.1
  have hown := cx.2.2.2.1
  have hts := cx.2.2.2.2.1
  have hm : h'.2.2.1 ≤ hs.2.2.1 + mc ∧ h'.2.2.2.1 ≤ hs.2.2.2.1 + ms := ⟨Nat.le_of_eq e1, Nat.le_of_eq e2⟩
  intro x1 x2 x3 h H locs cells slots ls hf hS hl
  unfold fX1_chance at hf
  refine lv_aload_n (pc := 0) hx hb dX1_chance_0 rfl (lv_at hl 0 rfl) ?_
  refine lv_iload_n (pc := 1) hx hb dX1_chance_1 rfl (lv_at hl 1 rfl) ?_
  obtain ⟨y1, h1, e9, hf⟩ := jB_some hf
  refine j_callV (pc := 2) (st1 := [.int y1]) (As := [.int x1]) (rest := []) cx hS rfl hl.1 hm (metX1_isText l _ _ _ _ _ (hth.at hS) e9) (jle hf) (hth.at hS) rfl (lw_V q1282 q1284 qs36 q112 q1285) pdX1_isText rfl rfl (Nat.le_of_ble_eq_true rfl) ⟨Nat.le_of_ble_eq_true rfl, Nat.le_of_ble_eq_true rfl⟩ dX1_chance_2 rfl (fun H locs cells slots hS => ?_)
  refine lv_if_eq (pc := 5) (tgt := 28) hx hb dX1_chance_5 (by decide) (fun hc => ?_) (fun hc => ?_)
  · have hf := jI_t hf hc
    exact wX1_chance_28 cx e1 e2 a0 hth _ _ _ _ _ _ hf hS (lv_sub hl [0] rfl)
  · have hf := jI_f hf hc
    refine lv_iload_n (pc := 8) hx hb dX1_chance_8 rfl (lv_at hl 2 rfl) ?_
    refine lv_iconst (pc := 9) (v := 1) hx hb dX1_chance_9 rfl ?_
    refine lv_bipush (pc := 10) (v := 6) hx hb dX1_chance_10 rfl ?_
    obtain ⟨y2, h1, e9, hf⟩ := jB_some hf
    refine j_callS (pc := 12) (st1 := [.int y2]) (As := [.int x2, .int 1, .int 6]) (rest := []) cx hS rfl hl.1 hm (metX1_within l _ _ _ _ _ _ e9) (jle hf) (lw_S q1158 q468 q112 q469) pdX1_within rfl rfl (Nat.le_of_ble_eq_true rfl) ⟨Nat.le_of_ble_eq_true rfl, Nat.le_of_ble_eq_true rfl⟩ dX1_chance_12 rfl (fun H locs cells slots hS => ?_)
    refine lv_if_eq (pc := 15) (tgt := 28) hx hb dX1_chance_15 (by decide) (fun hc => ?_) (fun hc => ?_)
    · have hf := jI_t hf hc
      exact wX1_chance_28 cx e1 e2 a0 hth _ _ _ _ _ _ hf hS (lv_sub hl [0] rfl)
    · have hf := jI_f hf hc
      refine lv_iload_n (pc := 18) hx hb dX1_chance_18 rfl (lv_at hl 3 rfl) ?_
      refine lv_iconst (pc := 19) (v := 0) hx hb dX1_chance_19 rfl ?_
      refine lv_bipush (pc := 20) (v := 10) hx hb dX1_chance_20 rfl ?_
      obtain ⟨y3, h1, e9, hf⟩ := jB_some hf
      refine j_callS (pc := 22) (st1 := [.int y3]) (As := [.int x3, .int 0, .int 10]) (rest := []) cx hS rfl hl.1 hm (metX1_within l _ _ _ _ _ _ e9) (jle hf) (lw_S q1158 q468 q112 q469) pdX1_within rfl rfl (Nat.le_of_ble_eq_true rfl) ⟨Nat.le_of_ble_eq_true rfl, Nat.le_of_ble_eq_true rfl⟩ dX1_chance_22 rfl (fun H locs cells slots hS => ?_)
      refine lv_if_ne (pc := 25) (tgt := 30) hx hb dX1_chance_25 (by decide) (fun hc => ?_) (fun hc => ?_)
      · have hf := jI_f hf hc
        refine lv_aload_n (pc := 30) hx hb dX1_chance_30 rfl (lv_at hl 0 rfl) ?_
        refine j_gR (pc := 31) cx hS hf fd_WornSkin_shelf q430 dX1_chance_31 (fun y4 hf => ?_)
        refine lv_iload_n (pc := 34) hx hb dX1_chance_34 rfl (lv_at hl 1 rfl) ?_
        refine lv_bipush (pc := 35) (v := 9) hx hb dX1_chance_35 rfl ?_
        obtain ⟨b6, eb, hrc, hf⟩ := jrc_s hf
        refine j_nn (pc := 37) eb [.int 9, .int x1] [] rfl ?_
        obtain ⟨y5, h1, e9, hf⟩ := jB_some hf
        refine j_callV (pc := 37) (st1 := [.int y5]) (As := [.int x1, .int 9]) (rest := []) cx hS rfl hl.1 hm (metX3_isWhole l _ _ _ _ _ _ _ hrc e9) (jle hf) hrc rfl (lw_V q1305 q1306 q1307 q114 q1308) pdX3_isWhole rfl rfl (Nat.le_of_ble_eq_true rfl) ⟨Nat.le_of_ble_eq_true rfl, Nat.le_of_ble_eq_true rfl⟩ dX1_chance_37 rfl (fun H locs cells slots hS => ?_)
        refine lv_istore (pc := 40) (i := 4) (lv' := [(4, .int y5), (0, .ref a0), (1, .int x1), (2, .int x2), (3, .int x3)]) hx hb dX1_chance_40 hl (Nat.le_of_ble_eq_true rfl) rfl (fun ls hl => ?_)
        refine lv_aload_n (pc := 42) hx hb dX1_chance_42 rfl (lv_at hl 1 rfl) ?_
        refine j_gR (pc := 43) cx hS hf fd_WornSkin_shelf q430 dX1_chance_43 (fun y7 hf => ?_)
        refine lv_iload_n (pc := 46) hx hb dX1_chance_46 rfl (lv_at hl 2 rfl) ?_
        refine lv_iconst (pc := 47) (v := 0) hx hb dX1_chance_47 rfl ?_
        obtain ⟨b9, eb, hrc, hf⟩ := jrc_s hf
        refine j_nn (pc := 48) eb [.int 0, .int x1] [] rfl ?_
        obtain ⟨y8, h1, e9, hf⟩ := jB_some hf
        refine j_callV (pc := 48) (st1 := [.int y8]) (As := [.int x1, .int 0]) (rest := []) cx hS rfl hl.1 hm (metX3_isWhole l _ _ _ _ _ _ _ hrc e9) (jle hf) hrc rfl (lw_V q1305 q1306 q1307 q114 q1308) pdX3_isWhole rfl rfl (Nat.le_of_ble_eq_true rfl) ⟨Nat.le_of_ble_eq_true rfl, Nat.le_of_ble_eq_true rfl⟩ dX1_chance_48 rfl (fun H locs cells slots hS => ?_)
        refine lv_istore (pc := 51) (i := 5) (lv' := [(5, .int y8), (4, .int y5), (0, .ref a0), (1, .int x1), (2, .int x2), (3, .int x3)]) hx hb dX1_chance_51 hl (Nat.le_of_ble_eq_true rfl) rfl (fun ls hl => ?_)
        refine lv_lconst (pc := 53) (v := 1) hx hb dX1_chance_53 rfl ?_
        refine lv_lstore (pc := 54) (i := 6) (lv' := [(6, .long 1), (5, .int y8), (4, .int y5), (0, .ref a0), (1, .int x1), (2, .int x2), (3, .int x3)]) hx hb dX1_chance_54 hl (Nat.le_of_ble_eq_true rfl) rfl (fun ls hl => ?_)
        refine lv_lconst (pc := 56) (v := 1) hx hb dX1_chance_56 rfl ?_
        refine lv_lstore (pc := 57) (i := 8) (lv' := [(8, .long 1), (6, .long 1), (5, .int y8), (4, .int y5), (0, .ref a0), (1, .int x1), (2, .int x2), (3, .int x3)]) hx hb dX1_chance_57 hl (Nat.le_of_ble_eq_true rfl) rfl (fun ls hl => ?_)
        refine lv_iconst (pc := 59) (v := 0) hx hb dX1_chance_59 rfl ?_
        refine lv_istore (pc := 60) (i := 10) (lv' := [(10, .int 0), (8, .long 1), (6, .long 1), (5, .int y8), (4, .int y5), (0, .ref a0), (1, .int x1), (2, .int x2), (3, .int x3)]) hx hb dX1_chance_60 hl (Nat.le_of_ble_eq_true rfl) rfl (fun ls hl => ?_)
        exact wX1_chance_62 cx e1 e2 a0 hth N _ _ _ _ _ _ _ _ _ _ _ _ _ hf hS (lv_sub hl [5, 7, 8, 4, 3, 2, 1, 0] rfl)
      · have hf := jI_t hf hc
        exact wX1_chance_28 cx e1 e2 a0 hth _ _ _ _ _ _ hf hS (lv_sub hl [0] rfl)
theorem metX1_chance (l : Launch) (N : Nat) (a0 : Nat) (x1 : Int32) (x2 : Int32) (x3 : Int32) (h h' : jH) (r : Int32) (hth : jcd h a0 = some 0) (hf : (fX1_chance N a0 x1 x2 x3).1 h = some (r, h')) : jMet l yX1_chance (ws_ yX1_chance cX1_chance 11 (Option.some Jvm.ClassFile.FieldType.int)) (124) (2660) [.ref a0, .int x1, .int x2, .int x3] h h' (.returned (some (.int r))) := by
  refine jStart rfl (jle hf) (Nat.le_of_ble_eq_true rfl) ?_
  intro p e s m below meth c D dA H0 mc ms ls cx hnm e1 e2 hS hl
  have hth := jTh.mk hS hth
  exact wX1_chance_0 cx e1 e2 a0 hth _ _ _ _ _ _ _ _ _ hf hS hl
def fX1_draw (a0 : Nat) (x1 : Int32) : jM Int32 := jB (jgL [0] 7 (some a0)) fun y1 => jB (jnzL 2147483648) fun _ => jB (jpL [0] 7 (some a0) (((y1 * 1103515245) + 12345) - ((y1 * 1103515245) + 12345) / 2147483648 * 2147483648)) fun _ => jB (jgL [0] 7 (some a0)) fun y2 => jB (jnzL 65536) fun _ => jB (jnzL (x1.toInt64)) fun _ => jR (((y2 / 65536) - (y2 / 65536) / (x1.toInt64) * (x1.toInt64)).toInt32)
theorem wX1_draw_0 {r : Int32} (cx : jCx p s m args meth c cX1_draw "WornSkin" 2 (Option.some Jvm.ClassFile.FieldType.int) D dA H0 hs.2.2.2.2) (e1 : h'.2.2.1 = hs.2.2.1 + mc) (e2 : h'.2.2.2.1 = hs.2.2.2.1 + ms) (a0 : Nat) (hth : jTh hs a0 0) : ∀ (x1 : Int32), ∀ (h : jH) (H : Heap) (locs : List Loc) (cells slots : Nat) (ls : Array Slot), (fX1_draw a0 x1).1 h = some (r, h') → jS D dA H0 hs h H locs cells slots → lv_has ls 2 [(0, .ref a0), (1, .int x1)] → W p l e { frames := 0, cells := mc, slots := ms, locals := 0 } s m args below meth c H locs cells slots (jQ D dA H0 below s (.returned (some (.int r))) h' mc ms) (F0 m 0 ls []) := by
  have hx := cx.1
  have hb := cx.2.1
  have hown := cx.2.2.2.1
  have hts := cx.2.2.2.2.1
  have hm : h'.2.2.1 ≤ hs.2.2.1 + mc ∧ h'.2.2.2.1 ≤ hs.2.2.2.1 + ms := ⟨Nat.le_of_eq e1, Nat.le_of_eq e2⟩
  intro x1 h H locs cells slots ls hf hS hl
  unfold fX1_draw at hf
  refine lv_aload_n (pc := 0) hx hb dX1_draw_0 rfl (lv_at hl 0 rfl) ?_
  refine lv_aload_n (pc := 1) hx hb dX1_draw_1 rfl (lv_at hl 0 rfl) ?_
  refine j_gL (pc := 2) cx hS hf fd_WornSkin_g q437 dX1_draw_2 (fun y1 hf => ?_)
  refine lv_ldc2 (pc := 5) (v := 1103515245) hx hb hown (hts _ q1600) dX1_draw_5 ?_
  refine lv_lmul (pc := 8) hx hb dX1_draw_8 ?_
  refine lv_ldc2 (pc := 9) (v := 12345) hx hb hown (hts _ q1601) dX1_draw_9 ?_
  refine lv_ladd (pc := 12) hx hb dX1_draw_12 ?_
  refine lv_ldc2 (pc := 13) (v := 2147483648) hx hb hown (hts _ q1602) dX1_draw_13 ?_
  obtain ⟨hne, hf⟩ := jnzL_s hf
  refine lv_lrem (pc := 16) hx hb dX1_draw_16 hne ?_
  refine j_pL (pc := 17) cx hS hf fp_WornSkin_g (Or.inl rfl) q437 dX1_draw_17 (fun h H locs hf hS => ?_)
  refine lv_aload_n (pc := 20) hx hb dX1_draw_20 rfl (lv_at hl 0 rfl) ?_
  refine j_gL (pc := 21) cx hS hf fd_WornSkin_g q437 dX1_draw_21 (fun y2 hf => ?_)
  refine lv_ldc2 (pc := 24) (v := 65536) hx hb hown (hts _ q1603) dX1_draw_24 ?_
  obtain ⟨hne, hf⟩ := jnzL_s hf
  refine lv_ldiv (pc := 27) hx hb dX1_draw_27 hne ?_
  refine lv_iload_n (pc := 28) hx hb dX1_draw_28 rfl (lv_at hl 1 rfl) ?_
  refine lv_i2l (pc := 29) (v := x1.toInt64) hx hb dX1_draw_29 rfl ?_
  obtain ⟨hne, hf⟩ := jnzL_s hf
  refine lv_lrem (pc := 30) hx hb dX1_draw_30 hne ?_
  refine lv_l2i (pc := 31) (v := ((y2 / 65536) - (y2 / 65536) / (x1.toInt64) * (x1.toInt64)).toInt32) hx hb dX1_draw_31 rfl ?_
  exact j_iret (pc := 32) cx hS hf e1 e2 dX1_draw_32
theorem metX1_draw (l : Launch) (a0 : Nat) (x1 : Int32) (h h' : jH) (r : Int32) (hth : jcd h a0 = some 0) (hf : (fX1_draw a0 x1).1 h = some (r, h')) : jMet l yX1_draw (ws_ yX1_draw cX1_draw 2 (Option.some Jvm.ClassFile.FieldType.int)) (0) (0) [.ref a0, .int x1] h h' (.returned (some (.int r))) := by
  refine jStart rfl (jle hf) (Nat.le_of_ble_eq_true rfl) ?_
  intro p e s m below meth c D dA H0 mc ms ls cx hnm e1 e2 hS hl
  have hth := jTh.mk hS hth
  exact wX1_draw_0 cx e1 e2 a0 hth _ _ _ _ _ _ _ hf hS hl
def fX1_drawsText_104 (N : Nat) (a0 : Nat) : jM Int32 := jRn .boolean 0
def fX1_drawsText_101 (N : Nat) (a0 : Nat) (v0 : Option Nat) (v1 : Int32) (v2 : Int32) : jM Int32 := jB (jrc 2 v0) fun b2 => jB (fX3_scrapes N b2 v1 v2) fun _ => fX1_drawsText_104 N a0
def fX1_drawsText_79 (N : Nat) (a0 : Nat) (x2 : Int32) (x4 : Int32) (v0 : Option Nat) (v1 : Int32) (v2 : Int32) : jM Int32 := jB (jrc 2 v0) fun b2 => jB (fX3_mayScrape b2 v1 v2) fun y1 => if y1 = 0 then (fX1_drawsText_104 N a0) else (jB (jgR [0] 2 (some a0)) fun y3 => if x4 = 1 then (fX1_drawsText_101 N a0 y3 x2 1) else (fX1_drawsText_101 N a0 y3 x2 0))
def fX1_drawsText (N : Nat) (a0 : Nat) : jM Int32 := jB (fX1_texts a0) fun y1 => jB (fX1_draw a0 y1) fun y2 => jB (fX1_skins a0) fun y3 => jB (fX1_draw a0 y3) fun y4 => jB (fX1_draw a0 6) fun y5 => jB (jgR [0] 2 (some a0)) fun y6 => jB (jrc 2 y6) fun b8 => jB (fX3_mayWrite N b8 y2 y4 y5) fun y7 => if y7 = 0 then (jB (fX1_draw a0 3) fun y9 => if 2 ≤ y9 then (fX1_drawsText_104 N a0) else (jB (jgR [0] 2 (some a0)) fun y10 => if y9 = 1 then (fX1_drawsText_79 N a0 y4 y9 y10 y4 1) else (fX1_drawsText_79 N a0 y4 y9 y10 y4 0))) else (jB (jgR [0] 2 (some a0)) fun y11 => jB (jrc 2 y11) fun b13 => jB (fX3_writes N b13 y2 y4 y5) fun _ => jRn .boolean 1)
theorem wX1_drawsText_104 {N : Nat} {r : Int32} (cx : jCx p s m args meth c cX1_drawsText "WornSkin" 5 (Option.some Jvm.ClassFile.FieldType.boolean) D dA H0 hs.2.2.2.2) (e1 : h'.2.2.1 = hs.2.2.1 + mc) (e2 : h'.2.2.2.1 = hs.2.2.2.1 + ms) (a0 : Nat) (hth : jTh hs a0 0) : ∀ (h : jH) (H : Heap) (locs : List Loc) (cells slots : Nat) (ls : Array Slot), (fX1_drawsText_104 N a0).1 h = some (r, h') → jS D dA H0 hs h H locs cells slots → lv_has ls 5 [(0, .ref a0)] → W p l e { frames := 6, cells := mc, slots := ms, locals := 132 } s m args below meth c H locs cells slots (jQ D dA H0 below s (.returned (some (.int r))) h' mc ms) (F0 m 104 ls []) := by
  have hx := cx.1
  have hb := cx.2.1
  have hown := cx.2.2.2.1
  have hts := cx.2.2.2.2.1
  have hm : h'.2.2.1 ≤ hs.2.2.1 + mc ∧ h'.2.2.2.1 ≤ hs.2.2.2.1 + ms := ⟨Nat.le_of_eq e1, Nat.le_of_eq e2⟩
  intro h H locs cells slots ls hf hS hl
  unfold fX1_drawsText_104 at hf
  refine lv_iconst (pc := 104) (v := 0) hx hb dX1_drawsText_104 rfl ?_
  exact j_zret (pc := 105) cx (Or.inl rfl) hS hf e1 e2 dX1_drawsText_105
theorem wX1_drawsText_101 {N : Nat} {r : Int32} (cx : jCx p s m args meth c cX1_drawsText "WornSkin" 5 (Option.some Jvm.ClassFile.FieldType.boolean) D dA H0 hs.2.2.2.2) (e1 : h'.2.2.1 = hs.2.2.1 + mc) (e2 : h'.2.2.2.1 = hs.2.2.2.1 + ms) (a0 : Nat) (hth : jTh hs a0 0) : ∀ (v0 : Option Nat) (v1 : Int32) (v2 : Int32), ∀ (h : jH) (H : Heap) (locs : List Loc) (cells slots : Nat) (ls : Array Slot), (fX1_drawsText_101 N a0 v0 v1 v2).1 h = some (r, h') → jS D dA H0 hs h H locs cells slots → lv_has ls 5 [(0, .ref a0)] → W p l e { frames := 6, cells := mc, slots := ms, locals := 132 } s m args below meth c H locs cells slots (jQ D dA H0 below s (.returned (some (.int r))) h' mc ms) (F0 m 101 ls [.int v2, .int v1, va_rf v0]) := by
  have hx := cx.1
  have hb := cx.2.1
  have hown := cx.2.2.2.1
  have hts := cx.2.2.2.2.1
  have hm : h'.2.2.1 ≤ hs.2.2.1 + mc ∧ h'.2.2.2.1 ≤ hs.2.2.2.1 + ms := ⟨Nat.le_of_eq e1, Nat.le_of_eq e2⟩
  intro v0 v1 v2 h H locs cells slots ls hf hS hl
  unfold fX1_drawsText_101 at hf
  obtain ⟨b2, eb, hrc, hf⟩ := jrc_s hf
  refine j_nn (pc := 101) eb [.int v2, .int v1] [] rfl ?_
  obtain ⟨_, h1, e9, hf⟩ := jB_some hf
  refine j_callV (pc := 101) (st1 := []) (As := [.int v1, .int v2]) (rest := []) cx hS rfl hl.1 hm (metX3_scrapes l _ _ _ _ _ _ _ hrc e9) (jle hf) hrc rfl (lw_V q1394 q1395 q1396 q114 q1397) pdX3_scrapes rfl rfl (Nat.le_of_ble_eq_true rfl) ⟨Nat.le_of_ble_eq_true rfl, Nat.le_of_ble_eq_true rfl⟩ dX1_drawsText_101 rfl (fun H locs cells slots hS => ?_)
  exact wX1_drawsText_104 cx e1 e2 a0 hth _ _ _ _ _ _ hf hS hl
theorem wX1_drawsText_79 {N : Nat} {r : Int32} (cx : jCx p s m args meth c cX1_drawsText "WornSkin" 5 (Option.some Jvm.ClassFile.FieldType.boolean) D dA H0 hs.2.2.2.2) (e1 : h'.2.2.1 = hs.2.2.1 + mc) (e2 : h'.2.2.2.1 = hs.2.2.2.1 + ms) (a0 : Nat) (hth : jTh hs a0 0) : ∀ (x2 : Int32) (x4 : Int32) (v0 : Option Nat) (v1 : Int32) (v2 : Int32), ∀ (h : jH) (H : Heap) (locs : List Loc) (cells slots : Nat) (ls : Array Slot), (fX1_drawsText_79 N a0 x2 x4 v0 v1 v2).1 h = some (r, h') → jS D dA H0 hs h H locs cells slots → lv_has ls 5 [(0, .ref a0), (2, .int x2), (4, .int x4)] → W p l e { frames := 6, cells := mc, slots := ms, locals := 132 } s m args below meth c H locs cells slots (jQ D dA H0 below s (.returned (some (.int r))) h' mc ms) (F0 m 79 ls [.int v2, .int v1, va_rf v0]) := by
  have hx := cx.1
  have hb := cx.2.1
  have hown := cx.2.2.2.1
  have hts := cx.2.2.2.2.1
  have hm : h'.2.2.1 ≤ hs.2.2.1 + mc ∧ h'.2.2.2.1 ≤ hs.2.2.2.1 + ms := ⟨Nat.le_of_eq e1, Nat.le_of_eq e2⟩
  intro x2 x4 v0 v1 v2 h H locs cells slots ls hf hS hl
  unfold fX1_drawsText_79 at hf
  obtain ⟨b2, eb, hrc, hf⟩ := jrc_s hf
  refine j_nn (pc := 79) eb [.int v2, .int v1] [] rfl ?_
  obtain ⟨y1, h1, e9, hf⟩ := jB_some hf
  refine j_callV (pc := 79) (st1 := [.int y1]) (As := [.int v1, .int v2]) (rest := []) cx hS rfl hl.1 hm (metX3_mayScrape l _ _ _ _ _ _ hrc e9) (jle hf) hrc rfl (lw_V q1385 q1386 q1387 q114 q1388) pdX3_mayScrape rfl rfl (Nat.le_of_ble_eq_true rfl) ⟨Nat.le_of_ble_eq_true rfl, Nat.le_of_ble_eq_true rfl⟩ dX1_drawsText_79 rfl (fun H locs cells slots hS => ?_)
  refine lv_if_eq (pc := 82) (tgt := 104) hx hb dX1_drawsText_82 (by decide) (fun hc => ?_) (fun hc => ?_)
  · have hf := jI_t hf hc
    exact wX1_drawsText_104 cx e1 e2 a0 hth _ _ _ _ _ _ hf hS (lv_sub hl [0] rfl)
  · have hf := jI_f hf hc
    refine lv_aload_n (pc := 85) hx hb dX1_drawsText_85 rfl (lv_at hl 0 rfl) ?_
    refine j_gR (pc := 86) cx hS hf fd_WornSkin_trial q432 dX1_drawsText_86 (fun y3 hf => ?_)
    refine lv_iload_n (pc := 89) hx hb dX1_drawsText_89 rfl (lv_at hl 1 rfl) ?_
    refine lv_iload (pc := 90) hx hb dX1_drawsText_90 (lv_at hl 2 rfl) ?_
    refine lv_iconst (pc := 92) (v := 1) hx hb dX1_drawsText_92 rfl ?_
    refine lv_icmp_ne (pc := 93) (tgt := 100) hx hb dX1_drawsText_93 (by decide) (fun hc => ?_) (fun hc => ?_)
    · have hf := jI_f hf hc
      refine lv_iconst (pc := 100) (v := 0) hx hb dX1_drawsText_100 rfl ?_
      exact wX1_drawsText_101 cx e1 e2 a0 hth _ _ _ _ _ _ _ _ _ hf hS (lv_sub hl [0] rfl)
    · have hf := jI_t hf hc
      refine lv_iconst (pc := 96) (v := 1) hx hb dX1_drawsText_96 rfl ?_
      refine lv_goto (pc := 97) (tgt := 101) hx hb dX1_drawsText_97 (by decide) ?_
      exact wX1_drawsText_101 cx e1 e2 a0 hth _ _ _ _ _ _ _ _ _ hf hS (lv_sub hl [0] rfl)
theorem wX1_drawsText_0 {N : Nat} {r : Int32} (cx : jCx p s m args meth c cX1_drawsText "WornSkin" 5 (Option.some Jvm.ClassFile.FieldType.boolean) D dA H0 hs.2.2.2.2) (e1 : h'.2.2.1 = hs.2.2.1 + mc) (e2 : h'.2.2.2.1 = hs.2.2.2.1 + ms) (a0 : Nat) (hth : jTh hs a0 0) : ∀ (h : jH) (H : Heap) (locs : List Loc) (cells slots : Nat) (ls : Array Slot), (fX1_drawsText N a0).1 h = some (r, h') → jS D dA H0 hs h H locs cells slots → lv_has ls 5 [(0, .ref a0)] → W p l e { frames := 6, cells := mc, slots := ms, locals := 132 } s m args below meth c H locs cells slots (jQ D dA H0 below s (.returned (some (.int r))) h' mc ms) (F0 m 0 ls []) := by
  have hx := cx.1
  have hb := cx.2.1
  have hown := cx.2.2.2.1
  have hts := cx.2.2.2.2.1
  have hm : h'.2.2.1 ≤ hs.2.2.1 + mc ∧ h'.2.2.2.1 ≤ hs.2.2.2.1 + ms := ⟨Nat.le_of_eq e1, Nat.le_of_eq e2⟩
  intro h H locs cells slots ls hf hS hl
  unfold fX1_drawsText at hf
  refine lv_aload_n (pc := 0) hx hb dX1_drawsText_0 rfl (lv_at hl 0 rfl) ?_
  refine lv_aload_n (pc := 1) hx hb dX1_drawsText_1 rfl (lv_at hl 0 rfl) ?_
  obtain ⟨y1, h1, e9, hf⟩ := jB_some hf
  refine j_callV (pc := 2) (st1 := [.int y1, .ref a0]) (As := []) (rest := [.ref a0]) cx hS rfl hl.1 hm (metX1_texts l _ _ _ _ (hth.at hS) e9) (jle hf) (hth.at hS) rfl (lw_V q1286 q1288 qs37 q112 q1289) pdX1_texts rfl rfl (Nat.le_of_ble_eq_true rfl) ⟨Nat.le_of_ble_eq_true rfl, Nat.le_of_ble_eq_true rfl⟩ dX1_drawsText_2 rfl (fun H locs cells slots hS => ?_)
  obtain ⟨y2, h1, e9, hf⟩ := jB_some hf
  refine j_callV (pc := 5) (st1 := [.int y2]) (As := [.int y1]) (rest := []) cx hS rfl hl.1 hm (metX1_draw l _ _ _ _ _ (hth.at hS) e9) (jle hf) (hth.at hS) rfl (lw_V q1596 q1598 qs50 q112 q1599) pdX1_draw rfl rfl (Nat.le_of_ble_eq_true rfl) ⟨Nat.le_of_ble_eq_true rfl, Nat.le_of_ble_eq_true rfl⟩ dX1_drawsText_5 rfl (fun H locs cells slots hS => ?_)
  refine lv_istore_n (pc := 8) (i := 1) (lv' := [(1, .int y2), (0, .ref a0)]) hx hb dX1_drawsText_8 rfl hl (Nat.le_of_ble_eq_true rfl) rfl (fun ls hl => ?_)
  refine lv_aload_n (pc := 9) hx hb dX1_drawsText_9 rfl (lv_at hl 1 rfl) ?_
  refine lv_aload_n (pc := 10) hx hb dX1_drawsText_10 rfl (lv_at hl 1 rfl) ?_
  obtain ⟨y3, h1, e9, hf⟩ := jB_some hf
  refine j_callV (pc := 11) (st1 := [.int y3, .ref a0]) (As := []) (rest := [.ref a0]) cx hS rfl hl.1 hm (metX1_skins l _ _ _ _ (hth.at hS) e9) (jle hf) (hth.at hS) rfl (lw_V q1153 q1155 qs34 q112 q1156) pdX1_skins rfl rfl (Nat.le_of_ble_eq_true rfl) ⟨Nat.le_of_ble_eq_true rfl, Nat.le_of_ble_eq_true rfl⟩ dX1_drawsText_11 rfl (fun H locs cells slots hS => ?_)
  obtain ⟨y4, h1, e9, hf⟩ := jB_some hf
  refine j_callV (pc := 14) (st1 := [.int y4]) (As := [.int y3]) (rest := []) cx hS rfl hl.1 hm (metX1_draw l _ _ _ _ _ (hth.at hS) e9) (jle hf) (hth.at hS) rfl (lw_V q1596 q1598 qs50 q112 q1599) pdX1_draw rfl rfl (Nat.le_of_ble_eq_true rfl) ⟨Nat.le_of_ble_eq_true rfl, Nat.le_of_ble_eq_true rfl⟩ dX1_drawsText_14 rfl (fun H locs cells slots hS => ?_)
  refine lv_istore_n (pc := 17) (i := 2) (lv' := [(2, .int y4), (1, .int y2), (0, .ref a0)]) hx hb dX1_drawsText_17 rfl hl (Nat.le_of_ble_eq_true rfl) rfl (fun ls hl => ?_)
  refine lv_aload_n (pc := 18) hx hb dX1_drawsText_18 rfl (lv_at hl 2 rfl) ?_
  refine lv_bipush (pc := 19) (v := 6) hx hb dX1_drawsText_19 rfl ?_
  obtain ⟨y5, h1, e9, hf⟩ := jB_some hf
  refine j_callV (pc := 21) (st1 := [.int y5]) (As := [.int 6]) (rest := []) cx hS rfl hl.1 hm (metX1_draw l _ _ _ _ _ (hth.at hS) e9) (jle hf) (hth.at hS) rfl (lw_V q1596 q1598 qs50 q112 q1599) pdX1_draw rfl rfl (Nat.le_of_ble_eq_true rfl) ⟨Nat.le_of_ble_eq_true rfl, Nat.le_of_ble_eq_true rfl⟩ dX1_drawsText_21 rfl (fun H locs cells slots hS => ?_)
  refine lv_istore_n (pc := 24) (i := 3) (lv' := [(3, .int y5), (2, .int y4), (1, .int y2), (0, .ref a0)]) hx hb dX1_drawsText_24 rfl hl (Nat.le_of_ble_eq_true rfl) rfl (fun ls hl => ?_)
  refine lv_aload_n (pc := 25) hx hb dX1_drawsText_25 rfl (lv_at hl 3 rfl) ?_
  refine j_gR (pc := 26) cx hS hf fd_WornSkin_trial q432 dX1_drawsText_26 (fun y6 hf => ?_)
  refine lv_iload_n (pc := 29) hx hb dX1_drawsText_29 rfl (lv_at hl 2 rfl) ?_
  refine lv_iload_n (pc := 30) hx hb dX1_drawsText_30 rfl (lv_at hl 1 rfl) ?_
  refine lv_iload_n (pc := 31) hx hb dX1_drawsText_31 rfl (lv_at hl 0 rfl) ?_
  obtain ⟨b8, eb, hrc, hf⟩ := jrc_s hf
  refine j_nn (pc := 32) eb [.int y5, .int y4, .int y2] [] rfl ?_
  obtain ⟨y7, h1, e9, hf⟩ := jB_some hf
  refine j_callV (pc := 32) (st1 := [.int y7]) (As := [.int y2, .int y4, .int y5]) (rest := []) cx hS rfl hl.1 hm (metX3_mayWrite l _ _ _ _ _ _ _ _ hrc e9) (jle hf) hrc rfl (lw_V q1336 q1337 q1338 q114 q1339) pdX3_mayWrite rfl rfl (Nat.le_of_ble_eq_true rfl) ⟨Nat.le_of_ble_eq_true rfl, Nat.le_of_ble_eq_true rfl⟩ dX1_drawsText_32 rfl (fun H locs cells slots hS => ?_)
  refine lv_if_eq (pc := 35) (tgt := 50) hx hb dX1_drawsText_35 (by decide) (fun hc => ?_) (fun hc => ?_)
  · have hf := jI_t hf hc
    refine lv_aload_n (pc := 50) hx hb dX1_drawsText_50 rfl (lv_at hl 3 rfl) ?_
    refine lv_iconst (pc := 51) (v := 3) hx hb dX1_drawsText_51 rfl ?_
    obtain ⟨y9, h1, e9, hf⟩ := jB_some hf
    refine j_callV (pc := 52) (st1 := [.int y9]) (As := [.int 3]) (rest := []) cx hS rfl hl.1 hm (metX1_draw l _ _ _ _ _ (hth.at hS) e9) (jle hf) (hth.at hS) rfl (lw_V q1596 q1598 qs50 q112 q1599) pdX1_draw rfl rfl (Nat.le_of_ble_eq_true rfl) ⟨Nat.le_of_ble_eq_true rfl, Nat.le_of_ble_eq_true rfl⟩ dX1_drawsText_52 rfl (fun H locs cells slots hS => ?_)
    refine lv_istore (pc := 55) (i := 4) (lv' := [(4, .int y9), (3, .int y5), (2, .int y4), (1, .int y2), (0, .ref a0)]) hx hb dX1_drawsText_55 hl (Nat.le_of_ble_eq_true rfl) rfl (fun ls hl => ?_)
    refine lv_iload (pc := 57) hx hb dX1_drawsText_57 (lv_at hl 0 rfl) ?_
    refine lv_iconst (pc := 59) (v := 2) hx hb dX1_drawsText_59 rfl ?_
    refine lv_icmp_ge (pc := 60) (tgt := 104) hx hb dX1_drawsText_60 (by decide) (fun hc => ?_) (fun hc => ?_)
    · have hf := jI_t hf hc
      exact wX1_drawsText_104 cx e1 e2 a0 hth _ _ _ _ _ _ hf hS (lv_sub hl [4] rfl)
    · have hf := jI_f hf hc
      refine lv_aload_n (pc := 63) hx hb dX1_drawsText_63 rfl (lv_at hl 4 rfl) ?_
      refine j_gR (pc := 64) cx hS hf fd_WornSkin_trial q432 dX1_drawsText_64 (fun y10 hf => ?_)
      refine lv_iload_n (pc := 67) hx hb dX1_drawsText_67 rfl (lv_at hl 2 rfl) ?_
      refine lv_iload (pc := 68) hx hb dX1_drawsText_68 (lv_at hl 0 rfl) ?_
      refine lv_iconst (pc := 70) (v := 1) hx hb dX1_drawsText_70 rfl ?_
      refine lv_icmp_ne (pc := 71) (tgt := 78) hx hb dX1_drawsText_71 (by decide) (fun hc => ?_) (fun hc => ?_)
      · have hf := jI_f hf hc
        refine lv_iconst (pc := 78) (v := 0) hx hb dX1_drawsText_78 rfl ?_
        exact wX1_drawsText_79 cx e1 e2 a0 hth _ _ _ _ _ _ _ _ _ _ _ hf hS (lv_sub hl [4, 2, 0] rfl)
      · have hf := jI_t hf hc
        refine lv_iconst (pc := 74) (v := 1) hx hb dX1_drawsText_74 rfl ?_
        refine lv_goto (pc := 75) (tgt := 79) hx hb dX1_drawsText_75 (by decide) ?_
        exact wX1_drawsText_79 cx e1 e2 a0 hth _ _ _ _ _ _ _ _ _ _ _ hf hS (lv_sub hl [4, 2, 0] rfl)
  · have hf := jI_f hf hc
    refine lv_aload_n (pc := 38) hx hb dX1_drawsText_38 rfl (lv_at hl 3 rfl) ?_
    refine j_gR (pc := 39) cx hS hf fd_WornSkin_trial q432 dX1_drawsText_39 (fun y11 hf => ?_)
    refine lv_iload_n (pc := 42) hx hb dX1_drawsText_42 rfl (lv_at hl 2 rfl) ?_
    refine lv_iload_n (pc := 43) hx hb dX1_drawsText_43 rfl (lv_at hl 1 rfl) ?_
    refine lv_iload_n (pc := 44) hx hb dX1_drawsText_44 rfl (lv_at hl 0 rfl) ?_
    obtain ⟨b13, eb, hrc, hf⟩ := jrc_s hf
    refine j_nn (pc := 45) eb [.int y5, .int y4, .int y2] [] rfl ?_
    obtain ⟨_, h1, e9, hf⟩ := jB_some hf
    refine j_callV (pc := 45) (st1 := []) (As := [.int y2, .int y4, .int y5]) (rest := []) cx hS rfl hl.1 hm (metX3_writes l _ _ _ _ _ _ _ _ hrc e9) (jle hf) hrc rfl (lw_V q1373 q1374 q1375 q114 q1376) pdX3_writes rfl rfl (Nat.le_of_ble_eq_true rfl) ⟨Nat.le_of_ble_eq_true rfl, Nat.le_of_ble_eq_true rfl⟩ dX1_drawsText_45 rfl (fun H locs cells slots hS => ?_)
    refine lv_iconst (pc := 48) (v := 1) hx hb dX1_drawsText_48 rfl ?_
    exact j_zret (pc := 49) cx (Or.inl rfl) hS hf e1 e2 dX1_drawsText_49
theorem metX1_drawsText (l : Launch) (N : Nat) (a0 : Nat) (h h' : jH) (r : Int32) (hth : jcd h a0 = some 0) (hf : (fX1_drawsText N a0).1 h = some (r, h')) : jMet l yX1_drawsText (ws_ yX1_drawsText cX1_drawsText 5 (Option.some Jvm.ClassFile.FieldType.boolean)) (6) (132) [.ref a0] h h' (.returned (some (.int r))) := by
  refine jStart rfl (jle hf) (Nat.le_of_ble_eq_true rfl) ?_
  intro p e s m below meth c D dA H0 mc ms ls cx hnm e1 e2 hS hl
  have hth := jTh.mk hS hth
  exact wX1_drawsText_0 cx e1 e2 a0 hth  _ _ _ _ _ _ hf hS hl
def fX1_years_143 (N : Nat) (a0 : Nat) (v0 : Int32) : jM Int32 := jR v0
def fX1_years_105 (N : Nat) (a0 : Nat) (x3 : Int32) (x4 : Int32) : jM Int32 := if x3 = 0 then (fX1_years_143 N a0 x4) else (if x3 = 1 then (jB (jgR [0] 2 (some a0)) fun y4 => jB (jgR [0] 2 (some a0)) fun y5 => jB (jrc 2 y5) fun b7 => jB (fX3_damp b7) fun y6 => jB (jrc 2 y4) fun b9 => jB (fX3_whole N b9 y6) fun y8 => fX1_years_143 N a0 y8) else (jB (jgR [0] 2 (some a0)) fun y1 => jB (jrc 2 y1) fun b3 => jB (fX3_thickness N b3) fun y2 => fX1_years_143 N a0 y2))
def fX1_years_86 (N : Nat) (k56 : Int32 → Int32 → Int32 → Int32 → jM Int32) (a0 : Nat) (x2 : Int32) (x3 : Int32) (x4 : Int32) (x5 : Int32) : jM Int32 := jB (jgR [0] 2 (some a0)) fun y1 => jB (jgI [2] 1 y1) fun y2 => jB (jpI [2] 1 y1 (y2 + 1)) fun _ => k56 x2 x3 x4 (x5 + 1)
def fX1_years_56 (N : Nat) (a0 : Nat) : Nat → Int32 → Int32 → Int32 → Int32 → jM Int32
  | 0, _, _, _, _ => jE
  | n + 1, x2, x3, x4, x5 => if x2 ≤ x5 then (fX1_years_105 N a0 x3 x4) else (jB (fX1_texts a0) fun y1 => if y1 ≤ 0 then (fX1_years_86 N (fX1_years_56 N a0 n) a0 x2 x3 x4 x5) else (jB (fX1_skins a0) fun y2 => if y2 ≤ 0 then (fX1_years_86 N (fX1_years_56 N a0 n) a0 x2 x3 x4 x5) else (jB (fX1_drawsText N a0) fun y3 => if y3 = 0 then (fX1_years_86 N (fX1_years_56 N a0 n) a0 x2 x3 x4 x5) else (fX1_years_86 N (fX1_years_56 N a0 n) a0 x2 x3 (x4 + 1) x5))))
def fX1_years_30 (N : Nat) (a0 : Nat) : jM Int32 := jR (-1)
def fX1_years (N : Nat) (a0 : Nat) (x1 : Int32) (x2 : Int32) (x3 : Int32) : jM Int32 := jB (fX1_within x1 0 9999) fun y1 => if y1 = 0 then (fX1_years_30 N a0) else (jB (fX1_within x2 1 99) fun y2 => if y2 = 0 then (fX1_years_30 N a0) else (jB (fX1_within x3 0 2) fun y3 => if y3 = 0 then (fX1_years_30 N a0) else (jB (jgR [0] 2 (some a0)) fun y4 => jB (jgR [0] 1 (some a0)) fun y5 => jB (jrc 2 y4) fun b7 => jB (fX3_copies b7 y5) fun y6 => jB (jpL [0] 7 (some a0) (x1.toInt64)) fun _ => fX1_years_56 N a0 N x2 x3 0 0)))
theorem wX1_years_143 {N : Nat} {r : Int32} (cx : jCx p s m args meth c cX1_years "WornSkin" 6 (Option.some Jvm.ClassFile.FieldType.int) D dA H0 hs.2.2.2.2) (e1 : h'.2.2.1 = hs.2.2.1 + mc) (e2 : h'.2.2.2.1 = hs.2.2.2.1 + ms) (a0 : Nat) (hth : jTh hs a0 0) : ∀ (v0 : Int32), ∀ (h : jH) (H : Heap) (locs : List Loc) (cells slots : Nat) (ls : Array Slot), (fX1_years_143 N a0 v0).1 h = some (r, h') → jS D dA H0 hs h H locs cells slots → lv_has ls 6 [(0, .ref a0)] → W p l e { frames := 125, cells := mc, slots := ms, locals := 2683 } s m args below meth c H locs cells slots (jQ D dA H0 below s (.returned (some (.int r))) h' mc ms) (F0 m 143 ls [.int v0]) := by
  have hx := cx.1
  have hb := cx.2.1
  have hown := cx.2.2.2.1
  have hts := cx.2.2.2.2.1
  have hm : h'.2.2.1 ≤ hs.2.2.1 + mc ∧ h'.2.2.2.1 ≤ hs.2.2.2.1 + ms := ⟨Nat.le_of_eq e1, Nat.le_of_eq e2⟩
  intro v0 h H locs cells slots ls hf hS hl
  unfold fX1_years_143 at hf
  exact j_iret (pc := 143) cx hS hf e1 e2 dX1_years_143
theorem wX1_years_105 {N : Nat} {r : Int32} (cx : jCx p s m args meth c cX1_years "WornSkin" 6 (Option.some Jvm.ClassFile.FieldType.int) D dA H0 hs.2.2.2.2) (e1 : h'.2.2.1 = hs.2.2.1 + mc) (e2 : h'.2.2.2.1 = hs.2.2.2.1 + ms) (a0 : Nat) (hth : jTh hs a0 0) : ∀ (x3 : Int32) (x4 : Int32), ∀ (h : jH) (H : Heap) (locs : List Loc) (cells slots : Nat) (ls : Array Slot), (fX1_years_105 N a0 x3 x4).1 h = some (r, h') → jS D dA H0 hs h H locs cells slots → lv_has ls 6 [(0, .ref a0), (3, .int x3), (4, .int x4)] → W p l e { frames := 125, cells := mc, slots := ms, locals := 2683 } s m args below meth c H locs cells slots (jQ D dA H0 below s (.returned (some (.int r))) h' mc ms) (F0 m 105 ls []) := by
  have hx := cx.1
  have hb := cx.2.1
  have hown := cx.2.2.2.1
  have hts := cx.2.2.2.2.1
  have hm : h'.2.2.1 ≤ hs.2.2.1 + mc ∧ h'.2.2.2.1 ≤ hs.2.2.2.1 + ms := ⟨Nat.le_of_eq e1, Nat.le_of_eq e2⟩
  intro x3 x4 h H locs cells slots ls hf hS hl
  unfold fX1_years_105 at hf
  refine lv_iload_n (pc := 105) hx hb dX1_years_105 rfl (lv_at hl 1 rfl) ?_
  refine lv_if_ne (pc := 106) (tgt := 114) hx hb dX1_years_106 (by decide) (fun hc => ?_) (fun hc => ?_)
  · have hf := jI_f hf hc
    refine lv_iload_n (pc := 114) hx hb dX1_years_114 rfl (lv_at hl 1 rfl) ?_
    refine lv_iconst (pc := 115) (v := 1) hx hb dX1_years_115 rfl ?_
    refine lv_icmp_ne (pc := 116) (tgt := 136) hx hb dX1_years_116 (by decide) (fun hc => ?_) (fun hc => ?_)
    · have hf := jI_f hf hc
      refine lv_aload_n (pc := 136) hx hb dX1_years_136 rfl (lv_at hl 0 rfl) ?_
      refine j_gR (pc := 137) cx hS hf fd_WornSkin_trial q432 dX1_years_137 (fun y1 hf => ?_)
      obtain ⟨b3, eb, hrc, hf⟩ := jrc_s hf
      refine j_nn (pc := 140) eb [] [] rfl ?_
      obtain ⟨y2, h1, e9, hf⟩ := jB_some hf
      refine j_callV (pc := 140) (st1 := [.int y2]) (As := []) (rest := []) cx hS rfl hl.1 hm (metX3_thickness l _ _ _ _ _ hrc e9) (jle hf) hrc rfl (lw_V q1604 q1605 q1606 q114 q1607) pdX3_thickness rfl rfl (Nat.le_of_ble_eq_true rfl) ⟨Nat.le_of_ble_eq_true rfl, Nat.le_of_ble_eq_true rfl⟩ dX1_years_140 rfl (fun H locs cells slots hS => ?_)
      exact wX1_years_143 cx e1 e2 a0 hth _ _ _ _ _ _ _ hf hS (lv_sub hl [0] rfl)
    · have hf := jI_t hf hc
      refine lv_aload_n (pc := 119) hx hb dX1_years_119 rfl (lv_at hl 0 rfl) ?_
      refine j_gR (pc := 120) cx hS hf fd_WornSkin_trial q432 dX1_years_120 (fun y4 hf => ?_)
      refine lv_aload_n (pc := 123) hx hb dX1_years_123 rfl (lv_at hl 0 rfl) ?_
      refine j_gR (pc := 124) cx hS hf fd_WornSkin_trial q432 dX1_years_124 (fun y5 hf => ?_)
      obtain ⟨b7, eb, hrc, hf⟩ := jrc_s hf
      refine j_nn (pc := 127) eb [] [va_rf y4] rfl ?_
      obtain ⟨y6, h1, e9, hf⟩ := jB_some hf
      refine j_callV (pc := 127) (st1 := [.int y6, va_rf y4]) (As := []) (rest := [va_rf y4]) cx hS rfl hl.1 hm (metX3_damp l _ _ _ _ hrc e9) (jle hf) hrc rfl (lw_V q1168 q1169 q1170 q114 q1171) pdX3_damp rfl rfl (by simp only [List.map_cons, List.map_nil, List.sum_cons, List.sum_nil, jrfc]; exact Nat.le_of_ble_eq_true rfl) ⟨Nat.le_of_ble_eq_true rfl, Nat.le_of_ble_eq_true rfl⟩ dX1_years_127 rfl (fun H locs cells slots hS => ?_)
      obtain ⟨b9, eb, hrc, hf⟩ := jrc_s hf
      refine j_nn (pc := 130) eb [.int y6] [] rfl ?_
      obtain ⟨y8, h1, e9, hf⟩ := jB_some hf
      refine j_callV (pc := 130) (st1 := [.int y8]) (As := [.int y6]) (rest := []) cx hS rfl hl.1 hm (metX3_whole l _ _ _ _ _ _ hrc e9) (jle hf) hrc rfl (lw_V q1451 q1452 q1453 q114 q1454) pdX3_whole rfl rfl (Nat.le_of_ble_eq_true rfl) ⟨Nat.le_of_ble_eq_true rfl, Nat.le_of_ble_eq_true rfl⟩ dX1_years_130 rfl (fun H locs cells slots hS => ?_)
      refine lv_goto (pc := 133) (tgt := 143) hx hb dX1_years_133 (by decide) ?_
      exact wX1_years_143 cx e1 e2 a0 hth _ _ _ _ _ _ _ hf hS (lv_sub hl [0] rfl)
  · have hf := jI_t hf hc
    refine lv_iload (pc := 109) hx hb dX1_years_109 (lv_at hl 2 rfl) ?_
    refine lv_goto (pc := 111) (tgt := 143) hx hb dX1_years_111 (by decide) ?_
    exact wX1_years_143 cx e1 e2 a0 hth _ _ _ _ _ _ _ hf hS (lv_sub hl [0] rfl)
theorem wX1_years_86 {N : Nat} {k56 : Int32 → Int32 → Int32 → Int32 → jM Int32} {r : Int32} (cx : jCx p s m args meth c cX1_years "WornSkin" 6 (Option.some Jvm.ClassFile.FieldType.int) D dA H0 hs.2.2.2.2) (e1 : h'.2.2.1 = hs.2.2.1 + mc) (e2 : h'.2.2.2.1 = hs.2.2.2.1 + ms) (a0 : Nat) (hth : jTh hs a0 0) (hk56 : ∀ (x2 : Int32) (x3 : Int32) (x4 : Int32) (x5 : Int32), ∀ (h : jH) (H : Heap) (locs : List Loc) (cells slots : Nat) (ls : Array Slot), (k56 x2 x3 x4 x5).1 h = some (r, h') → jS D dA H0 hs h H locs cells slots → lv_has ls 6 [(0, .ref a0), (2, .int x2), (3, .int x3), (4, .int x4), (5, .int x5)] → W p l e { frames := 125, cells := mc, slots := ms, locals := 2683 } s m args below meth c H locs cells slots (jQ D dA H0 below s (.returned (some (.int r))) h' mc ms) (F0 m 56 ls [])) : ∀ (x2 : Int32) (x3 : Int32) (x4 : Int32) (x5 : Int32), ∀ (h : jH) (H : Heap) (locs : List Loc) (cells slots : Nat) (ls : Array Slot), (fX1_years_86 N k56 a0 x2 x3 x4 x5).1 h = some (r, h') → jS D dA H0 hs h H locs cells slots → lv_has ls 6 [(0, .ref a0), (2, .int x2), (3, .int x3), (4, .int x4), (5, .int x5)] → W p l e { frames := 125, cells := mc, slots := ms, locals := 2683 } s m args below meth c H locs cells slots (jQ D dA H0 below s (.returned (some (.int r))) h' mc ms) (F0 m 86 ls []) := by
  have hx := cx.1
  have hb := cx.2.1
  have hown := cx.2.2.2.1
  have hts := cx.2.2.2.2.1
  have hm : h'.2.2.1 ≤ hs.2.2.1 + mc ∧ h'.2.2.2.1 ≤ hs.2.2.2.1 + ms := ⟨Nat.le_of_eq e1, Nat.le_of_eq e2⟩
  intro x2 x3 x4 x5 h H locs cells slots ls hf hS hl
  unfold fX1_years_86 at hf
  refine lv_aload_n (pc := 86) hx hb dX1_years_86 rfl (lv_at hl 0 rfl) ?_
  refine j_gR (pc := 87) cx hS hf fd_WornSkin_trial q432 dX1_years_87 (fun y1 hf => ?_)
  refine lv_dup (pc := 90) hx hb dX1_years_90 (jrfc _) ?_
  refine j_gI (pc := 91) cx hS hf fd_WornSkin_Shelf_week q259 dX1_years_91 (fun y2 hf => ?_)
  refine lv_iconst (pc := 94) (v := 1) hx hb dX1_years_94 rfl ?_
  refine lv_iadd (pc := 95) hx hb dX1_years_95 ?_
  refine j_pI (pc := 96) cx hS hf fp_WornSkin_Shelf_week (Or.inl rfl) q259 dX1_years_96 (fun h H locs hf hS => ?_)
  refine lv_iinc (pc := 99) (v := (x5 + 1)) (lv' := [(5, .int (x5 + 1)), (0, .ref a0), (2, .int x2), (3, .int x3), (4, .int x4)]) hx hb dX1_years_99 hl (k := 4) rfl rfl (Nat.le_of_ble_eq_true rfl) rfl (fun ls hl => ?_)
  refine lv_goto (pc := 102) (tgt := 56) hx hb dX1_years_102 (by decide) ?_
  exact hk56 _ _ _ _ _ _ _ _ _ _ hf hS (lv_sub hl [1, 2, 3, 4, 0] rfl)
theorem wX1_years_56 {N : Nat} {r : Int32} (cx : jCx p s m args meth c cX1_years "WornSkin" 6 (Option.some Jvm.ClassFile.FieldType.int) D dA H0 hs.2.2.2.2) (e1 : h'.2.2.1 = hs.2.2.1 + mc) (e2 : h'.2.2.2.1 = hs.2.2.2.1 + ms) (a0 : Nat) (hth : jTh hs a0 0) : ∀ (n : Nat) (x2 : Int32) (x3 : Int32) (x4 : Int32) (x5 : Int32), ∀ (h : jH) (H : Heap) (locs : List Loc) (cells slots : Nat) (ls : Array Slot), (fX1_years_56 N a0 n x2 x3 x4 x5).1 h = some (r, h') → jS D dA H0 hs h H locs cells slots → lv_has ls 6 [(0, .ref a0), (2, .int x2), (3, .int x3), (4, .int x4), (5, .int x5)] → W p l e { frames := 125, cells := mc, slots := ms, locals := 2683 } s m args below meth c H locs cells slots (jQ D dA H0 below s (.returned (some (.int r))) h' mc ms) (F0 m 56 ls []) := by
  have hx := cx.1
  have hb := cx.2.1
  have hown := cx.2.2.2.1
  have hts := cx.2.2.2.2.1
  have hm : h'.2.2.1 ≤ hs.2.2.1 + mc ∧ h'.2.2.2.1 ≤ hs.2.2.2.1 + ms := ⟨Nat.le_of_eq e1, Nat.le_of_eq e2⟩
  intro n
  induction n with
  | zero =>
    intro x2 x3 x4 x5 h H locs cells slots ls hf hS hl
    exact jE_f hf
  | succ n ih =>
    intro x2 x3 x4 x5 h H locs cells slots ls hf hS hl
    unfold fX1_years_56 at hf
    refine lv_iload (pc := 56) hx hb dX1_years_56 (lv_at hl 4 rfl) ?_
    refine lv_iload_n (pc := 58) hx hb dX1_years_58 rfl (lv_at hl 1 rfl) ?_
    refine lv_icmp_ge (pc := 59) (tgt := 105) hx hb dX1_years_59 (by decide) (fun hc => ?_) (fun hc => ?_)
    · have hf := jI_t hf hc
      exact wX1_years_105 cx e1 e2 a0 hth _ _ _ _ _ _ _ _ hf hS (lv_sub hl [0, 2, 3] rfl)
    · have hf := jI_f hf hc
      refine lv_aload_n (pc := 62) hx hb dX1_years_62 rfl (lv_at hl 0 rfl) ?_
      obtain ⟨y1, h1, e9, hf⟩ := jB_some hf
      refine j_callV (pc := 63) (st1 := [.int y1]) (As := []) (rest := []) cx hS rfl hl.1 hm (metX1_texts l _ _ _ _ (hth.at hS) e9) (jle hf) (hth.at hS) rfl (lw_V q1286 q1288 qs37 q112 q1289) pdX1_texts rfl rfl (Nat.le_of_ble_eq_true rfl) ⟨Nat.le_of_ble_eq_true rfl, Nat.le_of_ble_eq_true rfl⟩ dX1_years_63 rfl (fun H locs cells slots hS => ?_)
      refine lv_if_le (pc := 66) (tgt := 86) hx hb dX1_years_66 (by decide) (fun hc => ?_) (fun hc => ?_)
      · have hf := jI_t hf hc
        exact wX1_years_86 cx e1 e2 a0 hth ih _ _ _ _ _ _ _ _ _ _ hf hS hl
      · have hf := jI_f hf hc
        refine lv_aload_n (pc := 69) hx hb dX1_years_69 rfl (lv_at hl 0 rfl) ?_
        obtain ⟨y2, h1, e9, hf⟩ := jB_some hf
        refine j_callV (pc := 70) (st1 := [.int y2]) (As := []) (rest := []) cx hS rfl hl.1 hm (metX1_skins l _ _ _ _ (hth.at hS) e9) (jle hf) (hth.at hS) rfl (lw_V q1153 q1155 qs34 q112 q1156) pdX1_skins rfl rfl (Nat.le_of_ble_eq_true rfl) ⟨Nat.le_of_ble_eq_true rfl, Nat.le_of_ble_eq_true rfl⟩ dX1_years_70 rfl (fun H locs cells slots hS => ?_)
        refine lv_if_le (pc := 73) (tgt := 86) hx hb dX1_years_73 (by decide) (fun hc => ?_) (fun hc => ?_)
        · have hf := jI_t hf hc
          exact wX1_years_86 cx e1 e2 a0 hth ih _ _ _ _ _ _ _ _ _ _ hf hS hl
        · have hf := jI_f hf hc
          refine lv_aload_n (pc := 76) hx hb dX1_years_76 rfl (lv_at hl 0 rfl) ?_
          obtain ⟨y3, h1, e9, hf⟩ := jB_some hf
          refine j_callV (pc := 77) (st1 := [.int y3]) (As := []) (rest := []) cx hS rfl hl.1 hm (metX1_drawsText l _ _ _ _ _ (hth.at hS) e9) (jle hf) (hth.at hS) rfl (lw_V q1592 q1594 qs49 q112 q1595) pdX1_drawsText rfl rfl (Nat.le_of_ble_eq_true rfl) ⟨Nat.le_of_ble_eq_true rfl, Nat.le_of_ble_eq_true rfl⟩ dX1_years_77 rfl (fun H locs cells slots hS => ?_)
          refine lv_if_eq (pc := 80) (tgt := 86) hx hb dX1_years_80 (by decide) (fun hc => ?_) (fun hc => ?_)
          · have hf := jI_t hf hc
            exact wX1_years_86 cx e1 e2 a0 hth ih _ _ _ _ _ _ _ _ _ _ hf hS hl
          · have hf := jI_f hf hc
            refine lv_iinc (pc := 83) (v := (x4 + 1)) (lv' := [(4, .int (x4 + 1)), (0, .ref a0), (2, .int x2), (3, .int x3), (5, .int x5)]) hx hb dX1_years_83 hl (k := 3) rfl rfl (Nat.le_of_ble_eq_true rfl) rfl (fun ls hl => ?_)
            exact wX1_years_86 cx e1 e2 a0 hth ih _ _ _ _ _ _ _ _ _ _ hf hS (lv_sub hl [1, 2, 3, 0, 4] rfl)
theorem wX1_years_30 {N : Nat} {r : Int32} (cx : jCx p s m args meth c cX1_years "WornSkin" 6 (Option.some Jvm.ClassFile.FieldType.int) D dA H0 hs.2.2.2.2) (e1 : h'.2.2.1 = hs.2.2.1 + mc) (e2 : h'.2.2.2.1 = hs.2.2.2.1 + ms) (a0 : Nat) (hth : jTh hs a0 0) : ∀ (h : jH) (H : Heap) (locs : List Loc) (cells slots : Nat) (ls : Array Slot), (fX1_years_30 N a0).1 h = some (r, h') → jS D dA H0 hs h H locs cells slots → lv_has ls 6 [(0, .ref a0)] → W p l e { frames := 125, cells := mc, slots := ms, locals := 2683 } s m args below meth c H locs cells slots (jQ D dA H0 below s (.returned (some (.int r))) h' mc ms) (F0 m 30 ls []) := by
  have hx := cx.1
  have hb := cx.2.1
  have hown := cx.2.2.2.1
  have hts := cx.2.2.2.2.1
  have hm : h'.2.2.1 ≤ hs.2.2.1 + mc ∧ h'.2.2.2.1 ≤ hs.2.2.2.1 + ms := ⟨Nat.le_of_eq e1, Nat.le_of_eq e2⟩
  intro h H locs cells slots ls hf hS hl
  unfold fX1_years_30 at hf
  refine lv_iconst (pc := 30) (v := (-1)) hx hb dX1_years_30 rfl ?_
  exact j_iret (pc := 31) cx hS hf e1 e2 dX1_years_31
theorem wX1_years_0 {N : Nat} {r : Int32} (cx : jCx p s m args meth c cX1_years "WornSkin" 6 (Option.some Jvm.ClassFile.FieldType.int) D dA H0 hs.2.2.2.2) (e1 : h'.2.2.1 = hs.2.2.1 + mc) (e2 : h'.2.2.2.1 = hs.2.2.2.1 + ms) (a0 : Nat) (hth : jTh hs a0 0) : ∀ (x1 : Int32) (x2 : Int32) (x3 : Int32), ∀ (h : jH) (H : Heap) (locs : List Loc) (cells slots : Nat) (ls : Array Slot), (fX1_years N a0 x1 x2 x3).1 h = some (r, h') → jS D dA H0 hs h H locs cells slots → lv_has ls 6 [(0, .ref a0), (1, .int x1), (2, .int x2), (3, .int x3)] → W p l e { frames := 125, cells := mc, slots := ms, locals := 2683 } s m args below meth c H locs cells slots (jQ D dA H0 below s (.returned (some (.int r))) h' mc ms) (F0 m 0 ls []) := by
  have hx := cx.1
  have hb := cx.2.1
  have hown := cx.2.2.2.1
  have hts := cx.2.2.2.2.1
  have hm : h'.2.2.1 ≤ hs.2.2.1 + mc ∧ h'.2.2.2.1 ≤ hs.2.2.2.1 + ms := ⟨Nat.le_of_eq e1, Nat.le_of_eq e2⟩
  intro x1 x2 x3 h H locs cells slots ls hf hS hl
  unfold fX1_years at hf
  refine lv_iload_n (pc := 0) hx hb dX1_years_0 rfl (lv_at hl 1 rfl) ?_
  refine lv_iconst (pc := 1) (v := 0) hx hb dX1_years_1 rfl ?_
  refine lv_sipush (pc := 2) (v := 9999) hx hb dX1_years_2 rfl ?_
  obtain ⟨y1, h1, e9, hf⟩ := jB_some hf
  refine j_callS (pc := 5) (st1 := [.int y1]) (As := [.int x1, .int 0, .int 9999]) (rest := []) cx hS rfl hl.1 hm (metX1_within l _ _ _ _ _ _ e9) (jle hf) (lw_S q1158 q468 q112 q469) pdX1_within rfl rfl (Nat.le_of_ble_eq_true rfl) ⟨Nat.le_of_ble_eq_true rfl, Nat.le_of_ble_eq_true rfl⟩ dX1_years_5 rfl (fun H locs cells slots hS => ?_)
  refine lv_if_eq (pc := 8) (tgt := 30) hx hb dX1_years_8 (by decide) (fun hc => ?_) (fun hc => ?_)
  · have hf := jI_t hf hc
    exact wX1_years_30 cx e1 e2 a0 hth _ _ _ _ _ _ hf hS (lv_sub hl [0] rfl)
  · have hf := jI_f hf hc
    refine lv_iload_n (pc := 11) hx hb dX1_years_11 rfl (lv_at hl 2 rfl) ?_
    refine lv_iconst (pc := 12) (v := 1) hx hb dX1_years_12 rfl ?_
    refine lv_bipush (pc := 13) (v := 99) hx hb dX1_years_13 rfl ?_
    obtain ⟨y2, h1, e9, hf⟩ := jB_some hf
    refine j_callS (pc := 15) (st1 := [.int y2]) (As := [.int x2, .int 1, .int 99]) (rest := []) cx hS rfl hl.1 hm (metX1_within l _ _ _ _ _ _ e9) (jle hf) (lw_S q1158 q468 q112 q469) pdX1_within rfl rfl (Nat.le_of_ble_eq_true rfl) ⟨Nat.le_of_ble_eq_true rfl, Nat.le_of_ble_eq_true rfl⟩ dX1_years_15 rfl (fun H locs cells slots hS => ?_)
    refine lv_if_eq (pc := 18) (tgt := 30) hx hb dX1_years_18 (by decide) (fun hc => ?_) (fun hc => ?_)
    · have hf := jI_t hf hc
      exact wX1_years_30 cx e1 e2 a0 hth _ _ _ _ _ _ hf hS (lv_sub hl [0] rfl)
    · have hf := jI_f hf hc
      refine lv_iload_n (pc := 21) hx hb dX1_years_21 rfl (lv_at hl 3 rfl) ?_
      refine lv_iconst (pc := 22) (v := 0) hx hb dX1_years_22 rfl ?_
      refine lv_iconst (pc := 23) (v := 2) hx hb dX1_years_23 rfl ?_
      obtain ⟨y3, h1, e9, hf⟩ := jB_some hf
      refine j_callS (pc := 24) (st1 := [.int y3]) (As := [.int x3, .int 0, .int 2]) (rest := []) cx hS rfl hl.1 hm (metX1_within l _ _ _ _ _ _ e9) (jle hf) (lw_S q1158 q468 q112 q469) pdX1_within rfl rfl (Nat.le_of_ble_eq_true rfl) ⟨Nat.le_of_ble_eq_true rfl, Nat.le_of_ble_eq_true rfl⟩ dX1_years_24 rfl (fun H locs cells slots hS => ?_)
      refine lv_if_ne (pc := 27) (tgt := 32) hx hb dX1_years_27 (by decide) (fun hc => ?_) (fun hc => ?_)
      · have hf := jI_f hf hc
        refine lv_aload_n (pc := 32) hx hb dX1_years_32 rfl (lv_at hl 0 rfl) ?_
        refine j_gR (pc := 33) cx hS hf fd_WornSkin_trial q432 dX1_years_33 (fun y4 hf => ?_)
        refine lv_aload_n (pc := 36) hx hb dX1_years_36 rfl (lv_at hl 0 rfl) ?_
        refine j_gR (pc := 37) cx hS hf fd_WornSkin_shelf q430 dX1_years_37 (fun y5 hf => ?_)
        obtain ⟨b7, eb, hrc, hf⟩ := jrc_s hf
        refine j_nn (pc := 40) eb [va_rf y5] [] rfl ?_
        obtain ⟨y6, h1, e9, hf⟩ := jB_some hf
        refine j_callV (pc := 40) (st1 := [va_rf y6]) (As := [va_rf y5]) (rest := []) cx hS rfl hl.1 hm (metX3_copies l _ _ _ _ _ hrc e9) (jle hf) hrc rfl (lw_V q1505 q1368 q1369 q114 q1370) pdX3_copies rfl rfl (Nat.le_of_ble_eq_true rfl) ⟨Nat.le_of_ble_eq_true rfl, Nat.le_of_ble_eq_true rfl⟩ dX1_years_40 rfl (fun H locs cells slots hS => ?_)
        refine lv_pop (pc := 43) hx hb dX1_years_43 (jrfc _) ?_
        refine lv_aload_n (pc := 44) hx hb dX1_years_44 rfl (lv_at hl 0 rfl) ?_
        refine lv_iload_n (pc := 45) hx hb dX1_years_45 rfl (lv_at hl 1 rfl) ?_
        refine lv_i2l (pc := 46) (v := x1.toInt64) hx hb dX1_years_46 rfl ?_
        refine j_pL (pc := 47) cx hS hf fp_WornSkin_g (Or.inl rfl) q437 dX1_years_47 (fun h H locs hf hS => ?_)
        refine lv_iconst (pc := 50) (v := 0) hx hb dX1_years_50 rfl ?_
        refine lv_istore (pc := 51) (i := 4) (lv' := [(4, .int 0), (0, .ref a0), (1, .int x1), (2, .int x2), (3, .int x3)]) hx hb dX1_years_51 hl (Nat.le_of_ble_eq_true rfl) rfl (fun ls hl => ?_)
        refine lv_iconst (pc := 53) (v := 0) hx hb dX1_years_53 rfl ?_
        refine lv_istore (pc := 54) (i := 5) (lv' := [(5, .int 0), (4, .int 0), (0, .ref a0), (1, .int x1), (2, .int x2), (3, .int x3)]) hx hb dX1_years_54 hl (Nat.le_of_ble_eq_true rfl) rfl (fun ls hl => ?_)
        exact wX1_years_56 cx e1 e2 a0 hth N _ _ _ _ _ _ _ _ _ _ hf hS (lv_sub hl [2, 4, 5, 1, 0] rfl)
      · have hf := jI_t hf hc
        exact wX1_years_30 cx e1 e2 a0 hth _ _ _ _ _ _ hf hS (lv_sub hl [0] rfl)
theorem metX1_years (l : Launch) (N : Nat) (a0 : Nat) (x1 : Int32) (x2 : Int32) (x3 : Int32) (h h' : jH) (r : Int32) (hth : jcd h a0 = some 0) (hf : (fX1_years N a0 x1 x2 x3).1 h = some (r, h')) : jMet l yX1_years (ws_ yX1_years cX1_years 6 (Option.some Jvm.ClassFile.FieldType.int)) (125) (2683) [.ref a0, .int x1, .int x2, .int x3] h h' (.returned (some (.int r))) := by
  refine jStart rfl (jle hf) (Nat.le_of_ble_eq_true rfl) ?_
  intro p e s m below meth c D dA H0 mc ms ls cx hnm e1 e2 hS hl
  have hth := jTh.mk hS hth
  exact wX1_years_0 cx e1 e2 a0 hth _ _ _ _ _ _ _ _ _ hf hS hl
def fX1_copied_38 (N : Nat) (x1 : Option Nat) : jM (Option Nat) := jR x1
def fX1_copied_11 (N : Nat) : Nat → Option Nat → Option Nat → Int32 → jM (Option Nat)
  | 0, _, _, _ => jE
  | n + 1, x0, x1, x2 => jB (jrc 4 x0) fun b2 => jB (fJ2_size b2) fun y1 => if y1 ≤ x2 then (fX1_copied_38 N x1) else (jB (jrc 4 x0) fun b4 => jB (fJ2_get b4 x2) fun y3 => jB (jck [1000] y3) fun _ => jB (jrc 4 x1) fun b6 => jB (fJ2_add b6 y3) fun y5 => fX1_copied_11 N n x0 x1 (x2 + 1))
def fX1_copied (N : Nat) (x0 : Option Nat) : jM (Option Nat) := jB (jnw 4 3 [.int 0, .null, .int 0]) fun q1 => jB (fJ2_init q1 2) fun _ => fX1_copied_11 N N x0 (some q1) 0
theorem wX1_copied_38 {N : Nat} {r : Option Nat} (cx : jCx p s m args meth c cX1_copied "WornSkin" 3 (Option.some (Jvm.ClassFile.FieldType.object "java/util/ArrayList")) D dA H0 hs.2.2.2.2) (e1 : h'.2.2.1 = hs.2.2.1 + mc) (e2 : h'.2.2.2.1 = hs.2.2.2.1 + ms) : ∀ (x1 : Option Nat), ∀ (h : jH) (H : Heap) (locs : List Loc) (cells slots : Nat) (ls : Array Slot), (fX1_copied_38 N x1).1 h = some (r, h') → jS D dA H0 hs h H locs cells slots → lv_has ls 3 [(1, va_rf x1)] → W p l e { frames := 7, cells := mc, slots := ms, locals := 161 } s m args below meth c H locs cells slots (jQ D dA H0 below s (.returned (some (va_rf r))) h' mc ms) (F0 m 38 ls []) := by
  have hx := cx.1
  have hb := cx.2.1
  have hown := cx.2.2.2.1
  have hts := cx.2.2.2.2.1
  have hm : h'.2.2.1 ≤ hs.2.2.1 + mc ∧ h'.2.2.2.1 ≤ hs.2.2.2.1 + ms := ⟨Nat.le_of_eq e1, Nat.le_of_eq e2⟩
  intro x1 h H locs cells slots ls hf hS hl
  unfold fX1_copied_38 at hf
  refine j_aload_n (pc := 38) (r := x1) hx hb dX1_copied_38 rfl (lv_at hl 0 rfl) ?_
  exact j_aret (pc := 39) cx hS hf (Or.inl ⟨_, rfl⟩) e1 e2 dX1_copied_39
theorem wX1_copied_11 {N : Nat} {r : Option Nat} (cx : jCx p s m args meth c cX1_copied "WornSkin" 3 (Option.some (Jvm.ClassFile.FieldType.object "java/util/ArrayList")) D dA H0 hs.2.2.2.2) (e1 : h'.2.2.1 = hs.2.2.1 + mc) (e2 : h'.2.2.2.1 = hs.2.2.2.1 + ms) : ∀ (n : Nat) (x0 : Option Nat) (x1 : Option Nat) (x2 : Int32), ∀ (h : jH) (H : Heap) (locs : List Loc) (cells slots : Nat) (ls : Array Slot), (fX1_copied_11 N n x0 x1 x2).1 h = some (r, h') → jS D dA H0 hs h H locs cells slots → lv_has ls 3 [(0, va_rf x0), (1, va_rf x1), (2, .int x2)] → W p l e { frames := 7, cells := mc, slots := ms, locals := 161 } s m args below meth c H locs cells slots (jQ D dA H0 below s (.returned (some (va_rf r))) h' mc ms) (F0 m 11 ls []) := by
  have hx := cx.1
  have hb := cx.2.1
  have hown := cx.2.2.2.1
  have hts := cx.2.2.2.2.1
  have hm : h'.2.2.1 ≤ hs.2.2.1 + mc ∧ h'.2.2.2.1 ≤ hs.2.2.2.1 + ms := ⟨Nat.le_of_eq e1, Nat.le_of_eq e2⟩
  intro n
  induction n with
  | zero =>
    intro x0 x1 x2 h H locs cells slots ls hf hS hl
    exact jE_f hf
  | succ n ih =>
    intro x0 x1 x2 h H locs cells slots ls hf hS hl
    unfold fX1_copied_11 at hf
    refine lv_iload_n (pc := 11) hx hb dX1_copied_11 rfl (lv_at hl 2 rfl) ?_
    refine j_aload_n (pc := 12) (r := x0) hx hb dX1_copied_12 rfl (lv_at hl 0 rfl) ?_
    obtain ⟨b2, eb, hrc, hf⟩ := jrc_s hf
    refine j_nn (pc := 13) eb [] [.int x2] rfl ?_
    obtain ⟨y1, h1, e9, hf⟩ := jB_some hf
    refine j_callV (pc := 13) (st1 := [.int y1, .int x2]) (As := []) (rest := [.int x2]) cx hS rfl hl.1 hm (metJ2_size l _ _ _ _ hrc e9) (jle hf) hrc rfl (lw_V q1157 q376 q377 q118 q378) pdJ2_size rfl rfl (Nat.le_of_ble_eq_true rfl) ⟨Nat.le_of_ble_eq_true rfl, Nat.le_of_ble_eq_true rfl⟩ dX1_copied_13 rfl (fun H locs cells slots hS => ?_)
    refine lv_icmp_ge (pc := 16) (tgt := 38) hx hb dX1_copied_16 (by decide) (fun hc => ?_) (fun hc => ?_)
    · have hf := jI_t hf hc
      exact wX1_copied_38 cx e1 e2 _ _ _ _ _ _ _ hf hS (lv_sub hl [1] rfl)
    · have hf := jI_f hf hc
      refine j_aload_n (pc := 19) (r := x1) hx hb dX1_copied_19 rfl (lv_at hl 1 rfl) ?_
      refine j_aload_n (pc := 20) (r := x0) hx hb dX1_copied_20 rfl (lv_at hl 0 rfl) ?_
      refine lv_iload_n (pc := 21) hx hb dX1_copied_21 rfl (lv_at hl 2 rfl) ?_
      obtain ⟨b4, eb, hrc, hf⟩ := jrc_s hf
      refine j_nn (pc := 22) eb [.int x2] [va_rf x1] rfl ?_
      obtain ⟨y3, h1, e9, hf⟩ := jB_some hf
      refine j_callV (pc := 22) (st1 := [va_rf y3, va_rf x1]) (As := [.int x2]) (rest := [va_rf x1]) cx hS rfl hl.1 hm (metJ2_get l _ _ _ _ _ hrc e9) (jle hf) hrc rfl (lw_V q1429 q384 q385 q118 q386) pdJ2_get rfl rfl (by simp only [List.map_cons, List.map_nil, List.sum_cons, List.sum_nil, jrfc]; exact Nat.le_of_ble_eq_true rfl) ⟨Nat.le_of_ble_eq_true rfl, Nat.le_of_ble_eq_true rfl⟩ dX1_copied_22 rfl (fun H locs cells slots hS => ?_)
      refine j_cast (pc := 25) cx hS hf ok__I q1574 dX1_copied_25 (fun hf => ?_)
      obtain ⟨b6, eb, hrc, hf⟩ := jrc_s hf
      refine j_nn (pc := 28) eb [va_rf y3] [] rfl ?_
      obtain ⟨y5, h1, e9, hf⟩ := jB_some hf
      refine j_callV (pc := 28) (st1 := [.int y5]) (As := [va_rf y3]) (rest := []) cx hS rfl hl.1 hm (metJ2_add l _ _ _ _ _ hrc e9) (jle hf) hrc rfl (lw_V q1372 q727 q728 q118 q729) pdJ2_add rfl rfl (Nat.le_of_ble_eq_true rfl) ⟨Nat.le_of_ble_eq_true rfl, Nat.le_of_ble_eq_true rfl⟩ dX1_copied_28 rfl (fun H locs cells slots hS => ?_)
      refine lv_pop (pc := 31) hx hb dX1_copied_31 rfl ?_
      refine lv_iinc (pc := 32) (v := (x2 + 1)) (lv' := [(2, .int (x2 + 1)), (0, va_rf x0), (1, va_rf x1)]) hx hb dX1_copied_32 hl (k := 2) rfl rfl (Nat.le_of_ble_eq_true rfl) (by cases x1 <;> rfl) (fun ls hl => ?_)
      refine lv_goto (pc := 35) (tgt := 11) hx hb dX1_copied_35 (by decide) ?_
      exact ih _ _ _ _ _ _ _ _ _ hf hS (lv_sub hl [1, 2, 0] rfl)
theorem wX1_copied_0 {N : Nat} {r : Option Nat} (cx : jCx p s m args meth c cX1_copied "WornSkin" 3 (Option.some (Jvm.ClassFile.FieldType.object "java/util/ArrayList")) D dA H0 hs.2.2.2.2) (e1 : h'.2.2.1 = hs.2.2.1 + mc) (e2 : h'.2.2.2.1 = hs.2.2.2.1 + ms) : ∀ (x0 : Option Nat), ∀ (h : jH) (H : Heap) (locs : List Loc) (cells slots : Nat) (ls : Array Slot), (fX1_copied N x0).1 h = some (r, h') → jS D dA H0 hs h H locs cells slots → lv_has ls 3 [(0, va_rf x0)] → W p l e { frames := 7, cells := mc, slots := ms, locals := 161 } s m args below meth c H locs cells slots (jQ D dA H0 below s (.returned (some (va_rf r))) h' mc ms) (F0 m 0 ls []) := by
  have hx := cx.1
  have hb := cx.2.1
  have hown := cx.2.2.2.1
  have hts := cx.2.2.2.2.1
  have hm : h'.2.2.1 ≤ hs.2.2.1 + mc ∧ h'.2.2.2.1 ≤ hs.2.2.2.1 + ms := ⟨Nat.le_of_eq e1, Nat.le_of_eq e2⟩
  intro x0 h H locs cells slots ls hf hS hl
  unfold fX1_copied at hf
  refine j_new (pc := 0) cx hS hf cn_J2 q398 dX1_copied_0 hm (fun q1 h H cells slots hf hS => ?_)
  refine lv_dup (pc := 3) hx hb dX1_copied_3 rfl ?_
  refine lv_iconst (pc := 4) (v := 2) hx hb dX1_copied_4 rfl ?_
  obtain ⟨_, h1, e9, hf⟩ := jB_some hf
  refine j_callI (pc := 5) (st1 := [.ref q1]) (As := [.int 2]) (rest := [.ref q1]) cx hS rfl hl.1 hm (metJ2_init l _ _ _ _ _ e9) (jle hf) rfl q292 q291 q399 q118 pdJ2_init rfl rfl (Nat.le_of_ble_eq_true rfl) ⟨Nat.le_of_ble_eq_true rfl, Nat.le_of_ble_eq_true rfl⟩ dX1_copied_5 rfl (fun H locs cells slots hS => ?_)
  refine lv_astore_n (pc := 8) (i := 1) (lv' := [(1, .ref q1), (0, va_rf x0)]) hx hb dX1_copied_8 rfl hl (Nat.le_of_ble_eq_true rfl) (by cases x0 <;> rfl) (fun ls hl => ?_)
  refine lv_iconst (pc := 9) (v := 0) hx hb dX1_copied_9 rfl ?_
  refine lv_istore_n (pc := 10) (i := 2) (lv' := [(2, .int 0), (1, .ref q1), (0, va_rf x0)]) hx hb dX1_copied_10 rfl hl (Nat.le_of_ble_eq_true rfl) rfl (fun ls hl => ?_)
  exact wX1_copied_11 cx e1 e2 N _ _ _ _ _ _ _ _ _ hf hS (lv_sub hl [2, 1, 0] rfl)
theorem metX1_copied (l : Launch) (N : Nat) (x0 : Option Nat) (h h' : jH) (r : Option Nat) (hf : (fX1_copied N x0).1 h = some (r, h')) : jMet l yX1_copied (ws_ yX1_copied cX1_copied 3 (Option.some (Jvm.ClassFile.FieldType.object "java/util/ArrayList"))) (7) (161) [va_rf x0] h h' (.returned (some (va_rf r))) := by
  refine jStart rfl (jle hf) (by cases x0 <;> exact Nat.le_of_ble_eq_true rfl) ?_
  intro p e s m below meth c D dA H0 mc ms ls cx hnm e1 e2 hS hl
  have hl : lv_has ls 3 [(0, va_rf x0)] := by cases x0 <;> exact hl
  exact wX1_copied_0 cx e1 e2 _ _ _ _ _ _ _ hf hS hl
def fX1_mark_24 (N : Nat) (a0 : Nat) (x1 : Int32) (x2 : Int32) : jM Int32 := if x2 = 0 then (jB (jgR [0] 8 (some a0)) fun y16 => jB (jnw 32 3 [.null, .null, .null]) fun q17 => jB (jgR [0] 1 (some a0)) fun y18 => jB (jrc 2 y18) fun b20 => jB (fX3_copied b20) fun y19 => jB (jgR [0] 3 (some a0)) fun y21 => jB (jgR [0] 4 (some a0)) fun y22 => jB (fX1_copied N y22) fun y23 => jB (fX31_init q17 y19 y21 y23) fun _ => jB (jsR 6 [32] y16 x1 (some q17)) fun _ => jRn .boolean 1) else (jB (jgR [0] 8 (some a0)) fun y1 => jB (jaR 6 y1 x1) fun y2 => jB (jgR [32] 0 y2) fun y3 => jB (jrc 2 y3) fun b5 => jB (fX3_copied b5) fun y4 => jB (jpR [0] 1 (some a0) y4) fun _ => jB (jgR [0] 8 (some a0)) fun y6 => jB (jaR 6 y6 x1) fun y7 => jB (jgR [32] 1 y7) fun y8 => jB (jpR [0] 3 (some a0) y8) fun _ => jB (jgR [0] 8 (some a0)) fun y9 => jB (jaR 6 y9 x1) fun y10 => jB (jgR [32] 2 y10) fun y11 => jB (fX1_copied N y11) fun y12 => jB (jpR [0] 4 (some a0) y12) fun _ => jB (jgR [0] 5 (some a0)) fun y13 => jB (jrc 4 y13) fun b15 => jB (fJ2_clear N b15) fun _ => jRn .boolean 1)
def fX1_mark_22 (N : Nat) (a0 : Nat) : jM Int32 := jRn .boolean 0
def fX1_mark (N : Nat) (a0 : Nat) (x1 : Int32) (x2 : Int32) : jM Int32 := jB (fX1_within x1 0 3) fun y1 => if y1 = 0 then (fX1_mark_22 N a0) else (if x2 = 0 then (fX1_mark_24 N a0 x1 x2) else (jB (jgR [0] 8 (some a0)) fun y2 => jB (jaR 6 y2 x1) fun y3 => if y3 = none then (fX1_mark_22 N a0) else (fX1_mark_24 N a0 x1 x2)))
theorem wX1_mark_24 {N : Nat} {r : Int32} (cx : jCx p s m args meth c cX1_mark "WornSkin" 3 (Option.some Jvm.ClassFile.FieldType.boolean) D dA H0 hs.2.2.2.2) (e1 : h'.2.2.1 = hs.2.2.1 + mc) (e2 : h'.2.2.2.1 = hs.2.2.2.1 + ms) (a0 : Nat) (hth : jTh hs a0 0) : ∀ (x1 : Int32) (x2 : Int32), ∀ (h : jH) (H : Heap) (locs : List Loc) (cells slots : Nat) (ls : Array Slot), (fX1_mark_24 N a0 x1 x2).1 h = some (r, h') → jS D dA H0 hs h H locs cells slots → lv_has ls 3 [(0, .ref a0), (1, .int x1), (2, .int x2)] → W p l e { frames := 8, cells := mc, slots := ms, locals := 183 } s m args below meth c H locs cells slots (jQ D dA H0 below s (.returned (some (.int r))) h' mc ms) (F0 m 24 ls []) := by
  have hx := cx.1
  have hb := cx.2.1
  have hown := cx.2.2.2.1
  have hts := cx.2.2.2.2.1
  have hm : h'.2.2.1 ≤ hs.2.2.1 + mc ∧ h'.2.2.2.1 ≤ hs.2.2.2.1 + ms := ⟨Nat.le_of_eq e1, Nat.le_of_eq e2⟩
  intro x1 x2 h H locs cells slots ls hf hS hl
  unfold fX1_mark_24 at hf
  refine lv_iload_n (pc := 24) hx hb dX1_mark_24 rfl (lv_at hl 2 rfl) ?_
  refine lv_if_ne (pc := 25) (tgt := 61) hx hb dX1_mark_25 (by decide) (fun hc => ?_) (fun hc => ?_)
  · have hf := jI_f hf hc
    refine lv_aload_n (pc := 61) hx hb dX1_mark_61 rfl (lv_at hl 0 rfl) ?_
    refine lv_aload_n (pc := 62) hx hb dX1_mark_62 rfl (lv_at hl 0 rfl) ?_
    refine j_gR (pc := 63) cx hS hf fd_WornSkin_marks q438 dX1_mark_63 (fun y1 hf => ?_)
    refine lv_iload_n (pc := 66) hx hb dX1_mark_66 rfl (lv_at hl 1 rfl) ?_
    refine j_aR (pc := 67) cx hS hf rfl dX1_mark_67 (fun y2 hf => ?_)
    refine j_gRN (pc := 68) cx hS hf fd_WornSkin_Mark_shelf q1621 dX1_mark_68 (fun y3 hf => ?_)
    obtain ⟨b5, eb, hrc, hf⟩ := jrc_s hf
    refine j_nn (pc := 71) eb [] [.ref a0] rfl ?_
    obtain ⟨y4, h1, e9, hf⟩ := jB_some hf
    refine j_callV (pc := 71) (st1 := [va_rf y4, .ref a0]) (As := []) (rest := [.ref a0]) cx hS rfl hl.1 hm (metX3_copied l _ _ _ _ hrc e9) (jle hf) hrc rfl (lw_V q1361 q1362 q1363 q114 q1364) pdX3_copied rfl rfl (Nat.le_of_ble_eq_true rfl) ⟨Nat.le_of_ble_eq_true rfl, Nat.le_of_ble_eq_true rfl⟩ dX1_mark_71 rfl (fun H locs cells slots hS => ?_)
    refine j_pR (pc := 74) cx hS hf fp_WornSkin_shelf (Or.inl rfl) q430 dX1_mark_74 (fun h H locs hf hS => ?_)
    refine lv_aload_n (pc := 77) hx hb dX1_mark_77 rfl (lv_at hl 0 rfl) ?_
    refine lv_aload_n (pc := 78) hx hb dX1_mark_78 rfl (lv_at hl 0 rfl) ?_
    refine j_gR (pc := 79) cx hS hf fd_WornSkin_marks q438 dX1_mark_79 (fun y6 hf => ?_)
    refine lv_iload_n (pc := 82) hx hb dX1_mark_82 rfl (lv_at hl 1 rfl) ?_
    refine j_aR (pc := 83) cx hS hf rfl dX1_mark_83 (fun y7 hf => ?_)
    refine j_gRN (pc := 84) cx hS hf fd_WornSkin_Mark_lines q1623 dX1_mark_84 (fun y8 hf => ?_)
    refine j_pR (pc := 87) cx hS hf fp_WornSkin_lines (Or.inl rfl) q433 dX1_mark_87 (fun h H locs hf hS => ?_)
    refine lv_aload_n (pc := 90) hx hb dX1_mark_90 rfl (lv_at hl 0 rfl) ?_
    refine lv_aload_n (pc := 91) hx hb dX1_mark_91 rfl (lv_at hl 0 rfl) ?_
    refine j_gR (pc := 92) cx hS hf fd_WornSkin_marks q438 dX1_mark_92 (fun y9 hf => ?_)
    refine lv_iload_n (pc := 95) hx hb dX1_mark_95 rfl (lv_at hl 1 rfl) ?_
    refine j_aR (pc := 96) cx hS hf rfl dX1_mark_96 (fun y10 hf => ?_)
    refine j_gRN (pc := 97) cx hS hf fd_WornSkin_Mark_seen q1625 dX1_mark_97 (fun y11 hf => ?_)
    obtain ⟨y12, h1, e9, hf⟩ := jB_some hf
    refine j_callS (pc := 100) (st1 := [va_rf y12, .ref a0]) (As := [va_rf y11]) (rest := [.ref a0]) cx hS rfl hl.1 hm (metX1_copied l _ _ _ _ _ e9) (jle hf) (lw_S q1613 q1614 q112 q1615) pdX1_copied rfl rfl (Nat.le_of_ble_eq_true rfl) ⟨Nat.le_of_ble_eq_true rfl, Nat.le_of_ble_eq_true rfl⟩ dX1_mark_100 rfl (fun H locs cells slots hS => ?_)
    refine j_pR (pc := 103) cx hS hf fp_WornSkin_seen (Or.inl rfl) q434 dX1_mark_103 (fun h H locs hf hS => ?_)
    refine lv_aload_n (pc := 106) hx hb dX1_mark_106 rfl (lv_at hl 0 rfl) ?_
    refine j_gR (pc := 107) cx hS hf fd_WornSkin_behind q435 dX1_mark_107 (fun y13 hf => ?_)
    obtain ⟨b15, eb, hrc, hf⟩ := jrc_s hf
    refine j_nn (pc := 110) eb [] [] rfl ?_
    obtain ⟨_, h1, e9, hf⟩ := jB_some hf
    refine j_callV (pc := 110) (st1 := []) (As := []) (rest := []) cx hS rfl hl.1 hm (metJ2_clear l _ _ _ _ _ hrc e9) (jle hf) hrc rfl (lw_V q1084 q1085 q1086 q118 q1087) pdJ2_clear rfl rfl (Nat.le_of_ble_eq_true rfl) ⟨Nat.le_of_ble_eq_true rfl, Nat.le_of_ble_eq_true rfl⟩ dX1_mark_110 rfl (fun H locs cells slots hS => ?_)
    refine lv_iconst (pc := 113) (v := 1) hx hb dX1_mark_113 rfl ?_
    exact j_zret (pc := 114) cx (Or.inl rfl) hS hf e1 e2 dX1_mark_114
  · have hf := jI_t hf hc
    refine lv_aload_n (pc := 28) hx hb dX1_mark_28 rfl (lv_at hl 0 rfl) ?_
    refine j_gR (pc := 29) cx hS hf fd_WornSkin_marks q438 dX1_mark_29 (fun y16 hf => ?_)
    refine lv_iload_n (pc := 32) hx hb dX1_mark_32 rfl (lv_at hl 1 rfl) ?_
    refine j_new (pc := 33) cx hS hf cn_X31 q426 dX1_mark_33 hm (fun q17 h H cells slots hf hS => ?_)
    refine lv_dup (pc := 36) hx hb dX1_mark_36 rfl ?_
    refine lv_aload_n (pc := 37) hx hb dX1_mark_37 rfl (lv_at hl 0 rfl) ?_
    refine j_gR (pc := 38) cx hS hf fd_WornSkin_shelf q430 dX1_mark_38 (fun y18 hf => ?_)
    obtain ⟨b20, eb, hrc, hf⟩ := jrc_s hf
    refine j_nn (pc := 41) eb [] [.ref q17, .ref q17, .int x1, va_rf y16] rfl ?_
    obtain ⟨y19, h1, e9, hf⟩ := jB_some hf
    refine j_callV (pc := 41) (st1 := [va_rf y19, .ref q17, .ref q17, .int x1, va_rf y16]) (As := []) (rest := [.ref q17, .ref q17, .int x1, va_rf y16]) cx hS rfl hl.1 hm (metX3_copied l _ _ _ _ hrc e9) (jle hf) hrc rfl (lw_V q1361 q1362 q1363 q114 q1364) pdX3_copied rfl rfl (by simp only [List.map_cons, List.map_nil, List.sum_cons, List.sum_nil, jrfc]; exact Nat.le_of_ble_eq_true rfl) ⟨Nat.le_of_ble_eq_true rfl, Nat.le_of_ble_eq_true rfl⟩ dX1_mark_41 rfl (fun H locs cells slots hS => ?_)
    refine lv_aload_n (pc := 44) hx hb dX1_mark_44 rfl (lv_at hl 0 rfl) ?_
    refine j_gR (pc := 45) cx hS hf fd_WornSkin_lines q433 dX1_mark_45 (fun y21 hf => ?_)
    refine lv_aload_n (pc := 48) hx hb dX1_mark_48 rfl (lv_at hl 0 rfl) ?_
    refine j_gR (pc := 49) cx hS hf fd_WornSkin_seen q434 dX1_mark_49 (fun y22 hf => ?_)
    obtain ⟨y23, h1, e9, hf⟩ := jB_some hf
    refine j_callS (pc := 52) (st1 := [va_rf y23, va_rf y21, va_rf y19, .ref q17, .ref q17, .int x1, va_rf y16]) (As := [va_rf y22]) (rest := [va_rf y21, va_rf y19, .ref q17, .ref q17, .int x1, va_rf y16]) cx hS rfl hl.1 hm (metX1_copied l _ _ _ _ _ e9) (jle hf) (lw_S q1613 q1614 q112 q1615) pdX1_copied rfl rfl (by simp only [List.map_cons, List.map_nil, List.sum_cons, List.sum_nil, jrfc]; exact Nat.le_of_ble_eq_true rfl) ⟨Nat.le_of_ble_eq_true rfl, Nat.le_of_ble_eq_true rfl⟩ dX1_mark_52 rfl (fun H locs cells slots hS => ?_)
    obtain ⟨_, h1, e9, hf⟩ := jB_some hf
    refine j_callI (pc := 55) (st1 := [.ref q17, .int x1, va_rf y16]) (As := [va_rf y19, va_rf y21, va_rf y23]) (rest := [.ref q17, .int x1, va_rf y16]) cx hS rfl hl.1 hm (metX31_init l _ _ _ _ _ _ _ e9) (jle hf) rfl q1618 q1617 q1616 q164 pdX31_init rfl rfl (by simp only [List.map_cons, List.map_nil, List.sum_cons, List.sum_nil, jrfc]; exact Nat.le_of_ble_eq_true rfl) ⟨Nat.le_of_ble_eq_true rfl, Nat.le_of_ble_eq_true rfl⟩ dX1_mark_55 rfl (fun H locs cells slots hS => ?_)
    refine j_sR (pc := 58) cx hS hf rfl ok_WornSkin_Mark dX1_mark_58 (fun h H locs hf hS => ?_)
    refine lv_iconst (pc := 59) (v := 1) hx hb dX1_mark_59 rfl ?_
    exact j_zret (pc := 60) cx (Or.inl rfl) hS hf e1 e2 dX1_mark_60
theorem wX1_mark_22 {N : Nat} {r : Int32} (cx : jCx p s m args meth c cX1_mark "WornSkin" 3 (Option.some Jvm.ClassFile.FieldType.boolean) D dA H0 hs.2.2.2.2) (e1 : h'.2.2.1 = hs.2.2.1 + mc) (e2 : h'.2.2.2.1 = hs.2.2.2.1 + ms) (a0 : Nat) (hth : jTh hs a0 0) : ∀ (h : jH) (H : Heap) (locs : List Loc) (cells slots : Nat) (ls : Array Slot), (fX1_mark_22 N a0).1 h = some (r, h') → jS D dA H0 hs h H locs cells slots → lv_has ls 3 [(0, .ref a0)] → W p l e { frames := 8, cells := mc, slots := ms, locals := 183 } s m args below meth c H locs cells slots (jQ D dA H0 below s (.returned (some (.int r))) h' mc ms) (F0 m 22 ls []) := by
  have hx := cx.1
  have hb := cx.2.1
  have hown := cx.2.2.2.1
  have hts := cx.2.2.2.2.1
  have hm : h'.2.2.1 ≤ hs.2.2.1 + mc ∧ h'.2.2.2.1 ≤ hs.2.2.2.1 + ms := ⟨Nat.le_of_eq e1, Nat.le_of_eq e2⟩
  intro h H locs cells slots ls hf hS hl
  unfold fX1_mark_22 at hf
  refine lv_iconst (pc := 22) (v := 0) hx hb dX1_mark_22 rfl ?_
  exact j_zret (pc := 23) cx (Or.inl rfl) hS hf e1 e2 dX1_mark_23
theorem wX1_mark_0 {N : Nat} {r : Int32} (cx : jCx p s m args meth c cX1_mark "WornSkin" 3 (Option.some Jvm.ClassFile.FieldType.boolean) D dA H0 hs.2.2.2.2) (e1 : h'.2.2.1 = hs.2.2.1 + mc) (e2 : h'.2.2.2.1 = hs.2.2.2.1 + ms) (a0 : Nat) (hth : jTh hs a0 0) : ∀ (x1 : Int32) (x2 : Int32), ∀ (h : jH) (H : Heap) (locs : List Loc) (cells slots : Nat) (ls : Array Slot), (fX1_mark N a0 x1 x2).1 h = some (r, h') → jS D dA H0 hs h H locs cells slots → lv_has ls 3 [(0, .ref a0), (1, .int x1), (2, .int x2)] → W p l e { frames := 8, cells := mc, slots := ms, locals := 183 } s m args below meth c H locs cells slots (jQ D dA H0 below s (.returned (some (.int r))) h' mc ms) (F0 m 0 ls []) := by
  have hx := cx.1
  have hb := cx.2.1
  have hown := cx.2.2.2.1
  have hts := cx.2.2.2.2.1
  have hm : h'.2.2.1 ≤ hs.2.2.1 + mc ∧ h'.2.2.2.1 ≤ hs.2.2.2.1 + ms := ⟨Nat.le_of_eq e1, Nat.le_of_eq e2⟩
  intro x1 x2 h H locs cells slots ls hf hS hl
  unfold fX1_mark at hf
  refine lv_iload_n (pc := 0) hx hb dX1_mark_0 rfl (lv_at hl 1 rfl) ?_
  refine lv_iconst (pc := 1) (v := 0) hx hb dX1_mark_1 rfl ?_
  refine lv_iconst (pc := 2) (v := 3) hx hb dX1_mark_2 rfl ?_
  obtain ⟨y1, h1, e9, hf⟩ := jB_some hf
  refine j_callS (pc := 3) (st1 := [.int y1]) (As := [.int x1, .int 0, .int 3]) (rest := []) cx hS rfl hl.1 hm (metX1_within l _ _ _ _ _ _ e9) (jle hf) (lw_S q1158 q468 q112 q469) pdX1_within rfl rfl (Nat.le_of_ble_eq_true rfl) ⟨Nat.le_of_ble_eq_true rfl, Nat.le_of_ble_eq_true rfl⟩ dX1_mark_3 rfl (fun H locs cells slots hS => ?_)
  refine lv_if_eq (pc := 6) (tgt := 22) hx hb dX1_mark_6 (by decide) (fun hc => ?_) (fun hc => ?_)
  · have hf := jI_t hf hc
    exact wX1_mark_22 cx e1 e2 a0 hth _ _ _ _ _ _ hf hS (lv_sub hl [0] rfl)
  · have hf := jI_f hf hc
    refine lv_iload_n (pc := 9) hx hb dX1_mark_9 rfl (lv_at hl 2 rfl) ?_
    refine lv_if_eq (pc := 10) (tgt := 24) hx hb dX1_mark_10 (by decide) (fun hc => ?_) (fun hc => ?_)
    · have hf := jI_t hf hc
      exact wX1_mark_24 cx e1 e2 a0 hth _ _ _ _ _ _ _ _ hf hS hl
    · have hf := jI_f hf hc
      refine lv_aload_n (pc := 13) hx hb dX1_mark_13 rfl (lv_at hl 0 rfl) ?_
      refine j_gR (pc := 14) cx hS hf fd_WornSkin_marks q438 dX1_mark_14 (fun y2 hf => ?_)
      refine lv_iload_n (pc := 17) hx hb dX1_mark_17 rfl (lv_at hl 1 rfl) ?_
      refine j_aR (pc := 18) cx hS hf rfl dX1_mark_18 (fun y3 hf => ?_)
      refine j_ifnonnull (pc := 19) (tgt := 24) (r := y3) hx hb dX1_mark_19 (by decide) (fun hc => ?_) (fun hc => ?_)
      · have hf := jI_f hf hc
        exact wX1_mark_24 cx e1 e2 a0 hth _ _ _ _ _ _ _ _ hf hS hl
      · have hf := jI_t hf hc
        exact wX1_mark_22 cx e1 e2 a0 hth _ _ _ _ _ _ hf hS (lv_sub hl [0] rfl)
theorem metX1_mark (l : Launch) (N : Nat) (a0 : Nat) (x1 : Int32) (x2 : Int32) (h h' : jH) (r : Int32) (hth : jcd h a0 = some 0) (hf : (fX1_mark N a0 x1 x2).1 h = some (r, h')) : jMet l yX1_mark (ws_ yX1_mark cX1_mark 3 (Option.some Jvm.ClassFile.FieldType.boolean)) (8) (183) [.ref a0, .int x1, .int x2] h h' (.returned (some (.int r))) := by
  refine jStart rfl (jle hf) (Nat.le_of_ble_eq_true rfl) ?_
  intro p e s m below meth c D dA H0 mc ms ls cx hnm e1 e2 hS hl
  have hth := jTh.mk hS hth
  exact wX1_mark_0 cx e1 e2 a0 hth _ _ _ _ _ _ _ _ hf hS hl
def fX1_layersAll_28 (N : Nat) (a0 : Nat) (x1 : Int32) : jM Int32 := jR x1
def fX1_layersAll_4 (N : Nat) (a0 : Nat) : Nat → Int32 → Int32 → jM Int32
  | 0, _, _ => jE
  | n + 1, x1, x2 => if 18 ≤ x2 then (fX1_layersAll_28 N a0 x1) else (jB (jgR [0] 1 (some a0)) fun y1 => jB (jgR [2] 5 y1) fun y2 => jB (jaI 0 y2 x2) fun y3 => fX1_layersAll_4 N a0 n (x1 + y3) (x2 + 1))
def fX1_layersAll (N : Nat) (a0 : Nat) : jM Int32 := fX1_layersAll_4 N a0 N 0 0
theorem wX1_layersAll_28 {N : Nat} {r : Int32} (cx : jCx p s m args meth c cX1_layersAll "WornSkin" 3 (Option.some Jvm.ClassFile.FieldType.int) D dA H0 hs.2.2.2.2) (e1 : h'.2.2.1 = hs.2.2.1 + mc) (e2 : h'.2.2.2.1 = hs.2.2.2.1 + ms) (a0 : Nat) (hth : jTh hs a0 0) : ∀ (x1 : Int32), ∀ (h : jH) (H : Heap) (locs : List Loc) (cells slots : Nat) (ls : Array Slot), (fX1_layersAll_28 N a0 x1).1 h = some (r, h') → jS D dA H0 hs h H locs cells slots → lv_has ls 3 [(0, .ref a0), (1, .int x1)] → W p l e { frames := 0, cells := mc, slots := ms, locals := 0 } s m args below meth c H locs cells slots (jQ D dA H0 below s (.returned (some (.int r))) h' mc ms) (F0 m 28 ls []) := by
  have hx := cx.1
  have hb := cx.2.1
  have hown := cx.2.2.2.1
  have hts := cx.2.2.2.2.1
  have hm : h'.2.2.1 ≤ hs.2.2.1 + mc ∧ h'.2.2.2.1 ≤ hs.2.2.2.1 + ms := ⟨Nat.le_of_eq e1, Nat.le_of_eq e2⟩
  intro x1 h H locs cells slots ls hf hS hl
  unfold fX1_layersAll_28 at hf
  refine lv_iload_n (pc := 28) hx hb dX1_layersAll_28 rfl (lv_at hl 1 rfl) ?_
  exact j_iret (pc := 29) cx hS hf e1 e2 dX1_layersAll_29
theorem wX1_layersAll_4 {N : Nat} {r : Int32} (cx : jCx p s m args meth c cX1_layersAll "WornSkin" 3 (Option.some Jvm.ClassFile.FieldType.int) D dA H0 hs.2.2.2.2) (e1 : h'.2.2.1 = hs.2.2.1 + mc) (e2 : h'.2.2.2.1 = hs.2.2.2.1 + ms) (a0 : Nat) (hth : jTh hs a0 0) : ∀ (n : Nat) (x1 : Int32) (x2 : Int32), ∀ (h : jH) (H : Heap) (locs : List Loc) (cells slots : Nat) (ls : Array Slot), (fX1_layersAll_4 N a0 n x1 x2).1 h = some (r, h') → jS D dA H0 hs h H locs cells slots → lv_has ls 3 [(0, .ref a0), (1, .int x1), (2, .int x2)] → W p l e { frames := 0, cells := mc, slots := ms, locals := 0 } s m args below meth c H locs cells slots (jQ D dA H0 below s (.returned (some (.int r))) h' mc ms) (F0 m 4 ls []) := by
  have hx := cx.1
  have hb := cx.2.1
  have hown := cx.2.2.2.1
  have hts := cx.2.2.2.2.1
  have hm : h'.2.2.1 ≤ hs.2.2.1 + mc ∧ h'.2.2.2.1 ≤ hs.2.2.2.1 + ms := ⟨Nat.le_of_eq e1, Nat.le_of_eq e2⟩
  intro n
  induction n with
  | zero =>
    intro x1 x2 h H locs cells slots ls hf hS hl
    exact jE_f hf
  | succ n ih =>
    intro x1 x2 h H locs cells slots ls hf hS hl
    unfold fX1_layersAll_4 at hf
    refine lv_iload_n (pc := 4) hx hb dX1_layersAll_4 rfl (lv_at hl 2 rfl) ?_
    refine lv_bipush (pc := 5) (v := 18) hx hb dX1_layersAll_5 rfl ?_
    refine lv_icmp_ge (pc := 7) (tgt := 28) hx hb dX1_layersAll_7 (by decide) (fun hc => ?_) (fun hc => ?_)
    · have hf := jI_t hf hc
      exact wX1_layersAll_28 cx e1 e2 a0 hth _ _ _ _ _ _ _ hf hS (lv_sub hl [0, 1] rfl)
    · have hf := jI_f hf hc
      refine lv_iload_n (pc := 10) hx hb dX1_layersAll_10 rfl (lv_at hl 1 rfl) ?_
      refine lv_aload_n (pc := 11) hx hb dX1_layersAll_11 rfl (lv_at hl 0 rfl) ?_
      refine j_gR (pc := 12) cx hS hf fd_WornSkin_shelf q430 dX1_layersAll_12 (fun y1 hf => ?_)
      refine j_gR (pc := 15) cx hS hf fd_WornSkin_Shelf_many q268 dX1_layersAll_15 (fun y2 hf => ?_)
      refine lv_iload_n (pc := 18) hx hb dX1_layersAll_18 rfl (lv_at hl 2 rfl) ?_
      refine j_aI (pc := 19) cx hS hf rfl dX1_layersAll_19 (fun y3 hf => ?_)
      refine lv_iadd (pc := 20) hx hb dX1_layersAll_20 ?_
      refine lv_istore_n (pc := 21) (i := 1) (lv' := [(1, .int (x1 + y3)), (0, .ref a0), (2, .int x2)]) hx hb dX1_layersAll_21 rfl hl (Nat.le_of_ble_eq_true rfl) rfl (fun ls hl => ?_)
      refine lv_iinc (pc := 22) (v := (x2 + 1)) (lv' := [(2, .int (x2 + 1)), (1, .int (x1 + y3)), (0, .ref a0)]) hx hb dX1_layersAll_22 hl (k := 2) rfl rfl (Nat.le_of_ble_eq_true rfl) rfl (fun ls hl => ?_)
      refine lv_goto (pc := 25) (tgt := 4) hx hb dX1_layersAll_25 (by decide) ?_
      exact ih _ _ _ _ _ _ _ _ hf hS (lv_sub hl [2, 1, 0] rfl)
theorem wX1_layersAll_0 {N : Nat} {r : Int32} (cx : jCx p s m args meth c cX1_layersAll "WornSkin" 3 (Option.some Jvm.ClassFile.FieldType.int) D dA H0 hs.2.2.2.2) (e1 : h'.2.2.1 = hs.2.2.1 + mc) (e2 : h'.2.2.2.1 = hs.2.2.2.1 + ms) (a0 : Nat) (hth : jTh hs a0 0) : ∀ (h : jH) (H : Heap) (locs : List Loc) (cells slots : Nat) (ls : Array Slot), (fX1_layersAll N a0).1 h = some (r, h') → jS D dA H0 hs h H locs cells slots → lv_has ls 3 [(0, .ref a0)] → W p l e { frames := 0, cells := mc, slots := ms, locals := 0 } s m args below meth c H locs cells slots (jQ D dA H0 below s (.returned (some (.int r))) h' mc ms) (F0 m 0 ls []) := by
  have hx := cx.1
  have hb := cx.2.1
  have hown := cx.2.2.2.1
  have hts := cx.2.2.2.2.1
  have hm : h'.2.2.1 ≤ hs.2.2.1 + mc ∧ h'.2.2.2.1 ≤ hs.2.2.2.1 + ms := ⟨Nat.le_of_eq e1, Nat.le_of_eq e2⟩
  intro h H locs cells slots ls hf hS hl
  unfold fX1_layersAll at hf
  refine lv_iconst (pc := 0) (v := 0) hx hb dX1_layersAll_0 rfl ?_
  refine lv_istore_n (pc := 1) (i := 1) (lv' := [(1, .int 0), (0, .ref a0)]) hx hb dX1_layersAll_1 rfl hl (Nat.le_of_ble_eq_true rfl) rfl (fun ls hl => ?_)
  refine lv_iconst (pc := 2) (v := 0) hx hb dX1_layersAll_2 rfl ?_
  refine lv_istore_n (pc := 3) (i := 2) (lv' := [(2, .int 0), (1, .int 0), (0, .ref a0)]) hx hb dX1_layersAll_3 rfl hl (Nat.le_of_ble_eq_true rfl) rfl (fun ls hl => ?_)
  exact wX1_layersAll_4 cx e1 e2 a0 hth N _ _ _ _ _ _ _ _ hf hS (lv_sub hl [2, 1, 0] rfl)
theorem metX1_layersAll (l : Launch) (N : Nat) (a0 : Nat) (h h' : jH) (r : Int32) (hth : jcd h a0 = some 0) (hf : (fX1_layersAll N a0).1 h = some (r, h')) : jMet l yX1_layersAll (ws_ yX1_layersAll cX1_layersAll 3 (Option.some Jvm.ClassFile.FieldType.int)) (0) (0) [.ref a0] h h' (.returned (some (.int r))) := by
  refine jStart rfl (jle hf) (Nat.le_of_ble_eq_true rfl) ?_
  intro p e s m below meth c D dA H0 mc ms ls cx hnm e1 e2 hS hl
  have hth := jTh.mk hS hth
  exact wX1_layersAll_0 cx e1 e2 a0 hth  _ _ _ _ _ _ hf hS hl
def fX1_count (N : Nat) (a0 : Nat) (x1 : Int32) : jM Int32 := if x1 = 0 then (jB (fX1_skins a0) fun y1 => jR y1) else (if x1 = 1 then (jB (fX1_texts a0) fun y2 => jR y2) else (if x1 = 2 then (jB (jgR [0] 1 (some a0)) fun y3 => jB (jgI [2] 1 y3) fun y4 => jR y4) else (if x1 = 3 then (jB (jgR [0] 1 (some a0)) fun y5 => jB (jrc 2 y5) fun b7 => jB (fX3_damp b7) fun y6 => jR y6) else (if x1 = 4 then (jB (jgR [0] 1 (some a0)) fun y8 => jB (jrc 2 y8) fun b10 => jB (fX3_thickness N b10) fun y9 => jR y9) else (if x1 = 5 then (jB (jgR [0] 1 (some a0)) fun y11 => jB (jrc 2 y11) fun b13 => jB (fX3_gone N b13) fun y12 => jR y12) else (if x1 = 6 then (jB (fX1_layersAll N a0) fun y14 => jR y14) else (if x1 = 7 then (jB (jgR [0] 1 (some a0)) fun y15 => jB (jgR [0] 1 (some a0)) fun y16 => jB (jrc 2 y16) fun b18 => jB (fX3_damp b18) fun y17 => jB (jrc 2 y15) fun b20 => jB (fX3_whole N b20 y17) fun y19 => jR y19) else (if x1 = 8 then (jB (jgR [0] 3 (some a0)) fun y21 => jB (jrc 4 y21) fun b23 => jB (fJ2_size b23) fun y22 => jR y22) else (if x1 = 9 then (jB (jgR [0] 4 (some a0)) fun y24 => jB (jrc 4 y24) fun b26 => jB (fJ2_size b26) fun y25 => jR y25) else (if x1 = 10 then (jB (jgR [0] 5 (some a0)) fun y27 => jB (jrc 4 y27) fun b29 => jB (fJ2_size b29) fun y28 => jR y28) else (if x1 = 11 then (jB (jgR [0] 0 (some a0)) fun y30 => jB (jgI [1] 7 y30) fun y31 => jR y31) else (jR (-1)))))))))))))
theorem wX1_count_0 {N : Nat} {r : Int32} (cx : jCx p s m args meth c cX1_count "WornSkin" 2 (Option.some Jvm.ClassFile.FieldType.int) D dA H0 hs.2.2.2.2) (e1 : h'.2.2.1 = hs.2.2.1 + mc) (e2 : h'.2.2.2.1 = hs.2.2.2.1 + ms) (a0 : Nat) (hth : jTh hs a0 0) : ∀ (x1 : Int32), ∀ (h : jH) (H : Heap) (locs : List Loc) (cells slots : Nat) (ls : Array Slot), (fX1_count N a0 x1).1 h = some (r, h') → jS D dA H0 hs h H locs cells slots → lv_has ls 2 [(0, .ref a0), (1, .int x1)] → W p l e { frames := 125, cells := mc, slots := ms, locals := 2683 } s m args below meth c H locs cells slots (jQ D dA H0 below s (.returned (some (.int r))) h' mc ms) (F0 m 0 ls []) := by
  have hx := cx.1
  have hb := cx.2.1
  have hown := cx.2.2.2.1
  have hts := cx.2.2.2.2.1
  have hm : h'.2.2.1 ≤ hs.2.2.1 + mc ∧ h'.2.2.2.1 ≤ hs.2.2.2.1 + ms := ⟨Nat.le_of_eq e1, Nat.le_of_eq e2⟩
  intro x1 h H locs cells slots ls hf hS hl
  unfold fX1_count at hf
  refine lv_iload_n (pc := 0) hx hb dX1_count_0 rfl (lv_at hl 1 rfl) ?_
  by_cases hc0 : x1 = 0
  · have hf := jI_t hf hc0
    refine lv_tableIn (pc := 1) (off := 63) (tgt := 64) hx hb dX1_count_1 (by rw [hc0]; decide) (by rw [hc0]; decide) (by rw [hc0]; rfl) (by decide) ?_
    refine lv_aload_n (pc := 64) hx hb dX1_count_64 rfl (lv_at hl 0 rfl) ?_
    obtain ⟨y1, h1, e9, hf⟩ := jB_some hf
    refine j_callV (pc := 65) (st1 := [.int y1]) (As := []) (rest := []) cx hS rfl hl.1 hm (metX1_skins l _ _ _ _ (hth.at hS) e9) (jle hf) (hth.at hS) rfl (lw_V q1153 q1155 qs34 q112 q1156) pdX1_skins rfl rfl (Nat.le_of_ble_eq_true rfl) ⟨Nat.le_of_ble_eq_true rfl, Nat.le_of_ble_eq_true rfl⟩ dX1_count_65 rfl (fun H locs cells slots hS => ?_)
    exact j_iret (pc := 68) cx hS hf e1 e2 dX1_count_68
  have hf := jI_f hf hc0
  by_cases hc1 : x1 = 1
  · have hf := jI_t hf hc1
    refine lv_tableIn (pc := 1) (off := 68) (tgt := 69) hx hb dX1_count_1 (by rw [hc1]; decide) (by rw [hc1]; decide) (by rw [hc1]; rfl) (by decide) ?_
    refine lv_aload_n (pc := 69) hx hb dX1_count_69 rfl (lv_at hl 0 rfl) ?_
    obtain ⟨y2, h1, e9, hf⟩ := jB_some hf
    refine j_callV (pc := 70) (st1 := [.int y2]) (As := []) (rest := []) cx hS rfl hl.1 hm (metX1_texts l _ _ _ _ (hth.at hS) e9) (jle hf) (hth.at hS) rfl (lw_V q1286 q1288 qs37 q112 q1289) pdX1_texts rfl rfl (Nat.le_of_ble_eq_true rfl) ⟨Nat.le_of_ble_eq_true rfl, Nat.le_of_ble_eq_true rfl⟩ dX1_count_70 rfl (fun H locs cells slots hS => ?_)
    exact j_iret (pc := 73) cx hS hf e1 e2 dX1_count_73
  have hf := jI_f hf hc1
  by_cases hc2 : x1 = 2
  · have hf := jI_t hf hc2
    refine lv_tableIn (pc := 1) (off := 73) (tgt := 74) hx hb dX1_count_1 (by rw [hc2]; decide) (by rw [hc2]; decide) (by rw [hc2]; rfl) (by decide) ?_
    refine lv_aload_n (pc := 74) hx hb dX1_count_74 rfl (lv_at hl 0 rfl) ?_
    refine j_gR (pc := 75) cx hS hf fd_WornSkin_shelf q430 dX1_count_75 (fun y3 hf => ?_)
    refine j_gI (pc := 78) cx hS hf fd_WornSkin_Shelf_week q259 dX1_count_78 (fun y4 hf => ?_)
    exact j_iret (pc := 81) cx hS hf e1 e2 dX1_count_81
  have hf := jI_f hf hc2
  by_cases hc3 : x1 = 3
  · have hf := jI_t hf hc3
    refine lv_tableIn (pc := 1) (off := 81) (tgt := 82) hx hb dX1_count_1 (by rw [hc3]; decide) (by rw [hc3]; decide) (by rw [hc3]; rfl) (by decide) ?_
    refine lv_aload_n (pc := 82) hx hb dX1_count_82 rfl (lv_at hl 0 rfl) ?_
    refine j_gR (pc := 83) cx hS hf fd_WornSkin_shelf q430 dX1_count_83 (fun y5 hf => ?_)
    obtain ⟨b7, eb, hrc, hf⟩ := jrc_s hf
    refine j_nn (pc := 86) eb [] [] rfl ?_
    obtain ⟨y6, h1, e9, hf⟩ := jB_some hf
    refine j_callV (pc := 86) (st1 := [.int y6]) (As := []) (rest := []) cx hS rfl hl.1 hm (metX3_damp l _ _ _ _ hrc e9) (jle hf) hrc rfl (lw_V q1168 q1169 q1170 q114 q1171) pdX3_damp rfl rfl (Nat.le_of_ble_eq_true rfl) ⟨Nat.le_of_ble_eq_true rfl, Nat.le_of_ble_eq_true rfl⟩ dX1_count_86 rfl (fun H locs cells slots hS => ?_)
    exact j_iret (pc := 89) cx hS hf e1 e2 dX1_count_89
  have hf := jI_f hf hc3
  by_cases hc4 : x1 = 4
  · have hf := jI_t hf hc4
    refine lv_tableIn (pc := 1) (off := 89) (tgt := 90) hx hb dX1_count_1 (by rw [hc4]; decide) (by rw [hc4]; decide) (by rw [hc4]; rfl) (by decide) ?_
    refine lv_aload_n (pc := 90) hx hb dX1_count_90 rfl (lv_at hl 0 rfl) ?_
    refine j_gR (pc := 91) cx hS hf fd_WornSkin_shelf q430 dX1_count_91 (fun y8 hf => ?_)
    obtain ⟨b10, eb, hrc, hf⟩ := jrc_s hf
    refine j_nn (pc := 94) eb [] [] rfl ?_
    obtain ⟨y9, h1, e9, hf⟩ := jB_some hf
    refine j_callV (pc := 94) (st1 := [.int y9]) (As := []) (rest := []) cx hS rfl hl.1 hm (metX3_thickness l _ _ _ _ _ hrc e9) (jle hf) hrc rfl (lw_V q1604 q1605 q1606 q114 q1607) pdX3_thickness rfl rfl (Nat.le_of_ble_eq_true rfl) ⟨Nat.le_of_ble_eq_true rfl, Nat.le_of_ble_eq_true rfl⟩ dX1_count_94 rfl (fun H locs cells slots hS => ?_)
    exact j_iret (pc := 97) cx hS hf e1 e2 dX1_count_97
  have hf := jI_f hf hc4
  by_cases hc5 : x1 = 5
  · have hf := jI_t hf hc5
    refine lv_tableIn (pc := 1) (off := 97) (tgt := 98) hx hb dX1_count_1 (by rw [hc5]; decide) (by rw [hc5]; decide) (by rw [hc5]; rfl) (by decide) ?_
    refine lv_aload_n (pc := 98) hx hb dX1_count_98 rfl (lv_at hl 0 rfl) ?_
    refine j_gR (pc := 99) cx hS hf fd_WornSkin_shelf q430 dX1_count_99 (fun y11 hf => ?_)
    obtain ⟨b13, eb, hrc, hf⟩ := jrc_s hf
    refine j_nn (pc := 102) eb [] [] rfl ?_
    obtain ⟨y12, h1, e9, hf⟩ := jB_some hf
    refine j_callV (pc := 102) (st1 := [.int y12]) (As := []) (rest := []) cx hS rfl hl.1 hm (metX3_gone l _ _ _ _ _ hrc e9) (jle hf) hrc rfl (lw_V q1447 q1448 q1449 q114 q1450) pdX3_gone rfl rfl (Nat.le_of_ble_eq_true rfl) ⟨Nat.le_of_ble_eq_true rfl, Nat.le_of_ble_eq_true rfl⟩ dX1_count_102 rfl (fun H locs cells slots hS => ?_)
    exact j_iret (pc := 105) cx hS hf e1 e2 dX1_count_105
  have hf := jI_f hf hc5
  by_cases hc6 : x1 = 6
  · have hf := jI_t hf hc6
    refine lv_tableIn (pc := 1) (off := 105) (tgt := 106) hx hb dX1_count_1 (by rw [hc6]; decide) (by rw [hc6]; decide) (by rw [hc6]; rfl) (by decide) ?_
    refine lv_aload_n (pc := 106) hx hb dX1_count_106 rfl (lv_at hl 0 rfl) ?_
    obtain ⟨y14, h1, e9, hf⟩ := jB_some hf
    refine j_callV (pc := 107) (st1 := [.int y14]) (As := []) (rest := []) cx hS rfl hl.1 hm (metX1_layersAll l _ _ _ _ _ (hth.at hS) e9) (jle hf) (hth.at hS) rfl (lw_V q1637 q1639 qs51 q112 q1640) pdX1_layersAll rfl rfl (Nat.le_of_ble_eq_true rfl) ⟨Nat.le_of_ble_eq_true rfl, Nat.le_of_ble_eq_true rfl⟩ dX1_count_107 rfl (fun H locs cells slots hS => ?_)
    exact j_iret (pc := 110) cx hS hf e1 e2 dX1_count_110
  have hf := jI_f hf hc6
  by_cases hc7 : x1 = 7
  · have hf := jI_t hf hc7
    refine lv_tableIn (pc := 1) (off := 110) (tgt := 111) hx hb dX1_count_1 (by rw [hc7]; decide) (by rw [hc7]; decide) (by rw [hc7]; rfl) (by decide) ?_
    refine lv_aload_n (pc := 111) hx hb dX1_count_111 rfl (lv_at hl 0 rfl) ?_
    refine j_gR (pc := 112) cx hS hf fd_WornSkin_shelf q430 dX1_count_112 (fun y15 hf => ?_)
    refine lv_aload_n (pc := 115) hx hb dX1_count_115 rfl (lv_at hl 0 rfl) ?_
    refine j_gR (pc := 116) cx hS hf fd_WornSkin_shelf q430 dX1_count_116 (fun y16 hf => ?_)
    obtain ⟨b18, eb, hrc, hf⟩ := jrc_s hf
    refine j_nn (pc := 119) eb [] [va_rf y15] rfl ?_
    obtain ⟨y17, h1, e9, hf⟩ := jB_some hf
    refine j_callV (pc := 119) (st1 := [.int y17, va_rf y15]) (As := []) (rest := [va_rf y15]) cx hS rfl hl.1 hm (metX3_damp l _ _ _ _ hrc e9) (jle hf) hrc rfl (lw_V q1168 q1169 q1170 q114 q1171) pdX3_damp rfl rfl (by simp only [List.map_cons, List.map_nil, List.sum_cons, List.sum_nil, jrfc]; exact Nat.le_of_ble_eq_true rfl) ⟨Nat.le_of_ble_eq_true rfl, Nat.le_of_ble_eq_true rfl⟩ dX1_count_119 rfl (fun H locs cells slots hS => ?_)
    obtain ⟨b20, eb, hrc, hf⟩ := jrc_s hf
    refine j_nn (pc := 122) eb [.int y17] [] rfl ?_
    obtain ⟨y19, h1, e9, hf⟩ := jB_some hf
    refine j_callV (pc := 122) (st1 := [.int y19]) (As := [.int y17]) (rest := []) cx hS rfl hl.1 hm (metX3_whole l _ _ _ _ _ _ hrc e9) (jle hf) hrc rfl (lw_V q1451 q1452 q1453 q114 q1454) pdX3_whole rfl rfl (Nat.le_of_ble_eq_true rfl) ⟨Nat.le_of_ble_eq_true rfl, Nat.le_of_ble_eq_true rfl⟩ dX1_count_122 rfl (fun H locs cells slots hS => ?_)
    exact j_iret (pc := 125) cx hS hf e1 e2 dX1_count_125
  have hf := jI_f hf hc7
  by_cases hc8 : x1 = 8
  · have hf := jI_t hf hc8
    refine lv_tableIn (pc := 1) (off := 125) (tgt := 126) hx hb dX1_count_1 (by rw [hc8]; decide) (by rw [hc8]; decide) (by rw [hc8]; rfl) (by decide) ?_
    refine lv_aload_n (pc := 126) hx hb dX1_count_126 rfl (lv_at hl 0 rfl) ?_
    refine j_gR (pc := 127) cx hS hf fd_WornSkin_lines q433 dX1_count_127 (fun y21 hf => ?_)
    obtain ⟨b23, eb, hrc, hf⟩ := jrc_s hf
    refine j_nn (pc := 130) eb [] [] rfl ?_
    obtain ⟨y22, h1, e9, hf⟩ := jB_some hf
    refine j_callV (pc := 130) (st1 := [.int y22]) (As := []) (rest := []) cx hS rfl hl.1 hm (metJ2_size l _ _ _ _ hrc e9) (jle hf) hrc rfl (lw_V q1157 q376 q377 q118 q378) pdJ2_size rfl rfl (Nat.le_of_ble_eq_true rfl) ⟨Nat.le_of_ble_eq_true rfl, Nat.le_of_ble_eq_true rfl⟩ dX1_count_130 rfl (fun H locs cells slots hS => ?_)
    exact j_iret (pc := 133) cx hS hf e1 e2 dX1_count_133
  have hf := jI_f hf hc8
  by_cases hc9 : x1 = 9
  · have hf := jI_t hf hc9
    refine lv_tableIn (pc := 1) (off := 133) (tgt := 134) hx hb dX1_count_1 (by rw [hc9]; decide) (by rw [hc9]; decide) (by rw [hc9]; rfl) (by decide) ?_
    refine lv_aload_n (pc := 134) hx hb dX1_count_134 rfl (lv_at hl 0 rfl) ?_
    refine j_gR (pc := 135) cx hS hf fd_WornSkin_seen q434 dX1_count_135 (fun y24 hf => ?_)
    obtain ⟨b26, eb, hrc, hf⟩ := jrc_s hf
    refine j_nn (pc := 138) eb [] [] rfl ?_
    obtain ⟨y25, h1, e9, hf⟩ := jB_some hf
    refine j_callV (pc := 138) (st1 := [.int y25]) (As := []) (rest := []) cx hS rfl hl.1 hm (metJ2_size l _ _ _ _ hrc e9) (jle hf) hrc rfl (lw_V q1157 q376 q377 q118 q378) pdJ2_size rfl rfl (Nat.le_of_ble_eq_true rfl) ⟨Nat.le_of_ble_eq_true rfl, Nat.le_of_ble_eq_true rfl⟩ dX1_count_138 rfl (fun H locs cells slots hS => ?_)
    exact j_iret (pc := 141) cx hS hf e1 e2 dX1_count_141
  have hf := jI_f hf hc9
  by_cases hc10 : x1 = 10
  · have hf := jI_t hf hc10
    refine lv_tableIn (pc := 1) (off := 141) (tgt := 142) hx hb dX1_count_1 (by rw [hc10]; decide) (by rw [hc10]; decide) (by rw [hc10]; rfl) (by decide) ?_
    refine lv_aload_n (pc := 142) hx hb dX1_count_142 rfl (lv_at hl 0 rfl) ?_
    refine j_gR (pc := 143) cx hS hf fd_WornSkin_behind q435 dX1_count_143 (fun y27 hf => ?_)
    obtain ⟨b29, eb, hrc, hf⟩ := jrc_s hf
    refine j_nn (pc := 146) eb [] [] rfl ?_
    obtain ⟨y28, h1, e9, hf⟩ := jB_some hf
    refine j_callV (pc := 146) (st1 := [.int y28]) (As := []) (rest := []) cx hS rfl hl.1 hm (metJ2_size l _ _ _ _ hrc e9) (jle hf) hrc rfl (lw_V q1157 q376 q377 q118 q378) pdJ2_size rfl rfl (Nat.le_of_ble_eq_true rfl) ⟨Nat.le_of_ble_eq_true rfl, Nat.le_of_ble_eq_true rfl⟩ dX1_count_146 rfl (fun H locs cells slots hS => ?_)
    exact j_iret (pc := 149) cx hS hf e1 e2 dX1_count_149
  have hf := jI_f hf hc10
  by_cases hc11 : x1 = 11
  · have hf := jI_t hf hc11
    refine lv_tableIn (pc := 1) (off := 149) (tgt := 150) hx hb dX1_count_1 (by rw [hc11]; decide) (by rw [hc11]; decide) (by rw [hc11]; rfl) (by decide) ?_
    refine lv_aload_n (pc := 150) hx hb dX1_count_150 rfl (lv_at hl 0 rfl) ?_
    refine j_gR (pc := 151) cx hS hf fd_WornSkin_reader q428 dX1_count_151 (fun y30 hf => ?_)
    refine j_gI (pc := 154) cx hS hf fd_WornSkin_Reader_taped q213 dX1_count_154 (fun y31 hf => ?_)
    exact j_iret (pc := 157) cx hS hf e1 e2 dX1_count_157
  have hf := jI_f hf hc11
  refine lv_tableOut (pc := 1) (tgt := 158) hx hb dX1_count_1 (by have i0 := lv_neT hc0 (by decide : (0 : Int32).toInt = 0); have i1 := lv_neT hc1 (by decide : (1 : Int32).toInt = 1); have i2 := lv_neT hc2 (by decide : (2 : Int32).toInt = 2); have i3 := lv_neT hc3 (by decide : (3 : Int32).toInt = 3); have i4 := lv_neT hc4 (by decide : (4 : Int32).toInt = 4); have i5 := lv_neT hc5 (by decide : (5 : Int32).toInt = 5); have i6 := lv_neT hc6 (by decide : (6 : Int32).toInt = 6); have i7 := lv_neT hc7 (by decide : (7 : Int32).toInt = 7); have i8 := lv_neT hc8 (by decide : (8 : Int32).toInt = 8); have i9 := lv_neT hc9 (by decide : (9 : Int32).toInt = 9); have i10 := lv_neT hc10 (by decide : (10 : Int32).toInt = 10); have i11 := lv_neT hc11 (by decide : (11 : Int32).toInt = 11); omega) (by decide) ?_
  refine lv_iconst (pc := 158) (v := (-1)) hx hb dX1_count_158 rfl ?_
  exact j_iret (pc := 159) cx hS hf e1 e2 dX1_count_159
theorem metX1_count (l : Launch) (N : Nat) (a0 : Nat) (x1 : Int32) (h h' : jH) (r : Int32) (hth : jcd h a0 = some 0) (hf : (fX1_count N a0 x1).1 h = some (r, h')) : jMet l yX1_count (ws_ yX1_count cX1_count 2 (Option.some Jvm.ClassFile.FieldType.int)) (125) (2683) [.ref a0, .int x1] h h' (.returned (some (.int r))) := by
  refine jStart rfl (jle hf) (Nat.le_of_ble_eq_true rfl) ?_
  intro p e s m below meth c D dA H0 mc ms ls cx hnm e1 e2 hS hl
  have hth := jTh.mk hS hth
  exact wX1_count_0 cx e1 e2 a0 hth _ _ _ _ _ _ _ hf hS hl
def fX1_must (x0 : Int32) : jM (Unit ⊕ Nat) := if x0 = 0 then (jB (jnw 31 6 [.null, .null, .null, .null, .null, .int 0]) fun q1 => jB (jth 31 (some q1)) fun _ => jB (jnn0 (some q1)) fun b2 => jR (.inr b2)) else (jR (.inl ()))
theorem wX1_must_0 {r : Unit ⊕ Nat} (cx : jCx p s m args meth c cX1_must "WornSkin" 1 (Option.none : Option Jvm.ClassFile.FieldType) D dA H0 hs.2.2.2.2) (e1 : h'.2.2.1 = hs.2.2.1 + mc) (e2 : h'.2.2.2.1 = hs.2.2.2.1 + ms) (hfl : l.stackTraces = false) (ht : c.exceptionTable.toList = []) : ∀ (x0 : Int32), ∀ (h : jH) (H : Heap) (locs : List Loc) (cells slots : Nat) (ls : Array Slot), (fX1_must x0).1 h = some (r, h') → jS D dA H0 hs h H locs cells slots → lv_has ls 1 [(0, .int x0)] → W p l e { frames := 6, cells := mc, slots := ms, locals := 88 } s m args below meth c H locs cells slots (jQ D dA H0 below s (jOc (fun _ => none) r) h' mc ms) (F0 m 0 ls []) := by
  have hx := cx.1
  have hb := cx.2.1
  have hown := cx.2.2.2.1
  have hts := cx.2.2.2.2.1
  have hm : h'.2.2.1 ≤ hs.2.2.1 + mc ∧ h'.2.2.2.1 ≤ hs.2.2.2.1 + ms := ⟨Nat.le_of_eq e1, Nat.le_of_eq e2⟩
  intro x0 h H locs cells slots ls hf hS hl
  unfold fX1_must at hf
  refine lv_iload_n (pc := 0) hx hb dX1_must_0 rfl (lv_at hl 0 rfl) ?_
  refine lv_if_ne (pc := 1) (tgt := 12) hx hb dX1_must_1 (by decide) (fun hc => ?_) (fun hc => ?_)
  · have hf := jI_f hf hc
    exact j_vretT (pc := 12) cx hS hf e1 e2 dX1_must_12
  · have hf := jI_t hf hc
    refine j_new (pc := 4) cx hS hf cn_J18 q1652 dX1_must_4 hm (fun q1 h H cells slots hf hS => ?_)
    refine lv_dup (pc := 7) hx hb dX1_must_7 rfl ?_
    refine j_ctorT (pc := 8) (r := (some q1)) (rest := [.ref q1]) hfl cx hS rfl hl.1 hf (X := "java/util/NoSuchElementException") (names := ["java/lang/RuntimeException", "java/lang/Exception"]) rfl (by decide) (jchN cx) jta jtc31 q640 q639 q1663 q1664 q1665 dX1_must_8 (Nat.le_of_ble_eq_true rfl) (Nat.le_of_ble_eq_true rfl) (Nat.le_of_ble_eq_true rfl) (fun h H locs hf hS => ?_)
    exact j_athrow (pc := 11) (r := (some q1)) cx hS ht hf e1 e2 dX1_must_11
theorem metX1_must (l : Launch) (hfl : l.stackTraces = false) (x0 : Int32) (h h' : jH) (r : Unit ⊕ Nat) (hf : (fX1_must x0).1 h = some (r, h')) : jMet l yX1_must (ws_ yX1_must cX1_must 1 (Option.none : Option Jvm.ClassFile.FieldType)) (6) (88) [.int x0] h h' (jOc (fun _ => none) r) := by
  refine jStartT rfl (jle hf) (Nat.le_of_ble_eq_true rfl) ?_
  intro p e s m below meth c D dA H0 mc ms ls ht cx hnm e1 e2 hS hl
  exact wX1_must_0 cx e1 e2 hfl ht _ _ _ _ _ _ _ hf hS hl
def fX1_rests_122 (N : Nat) (a0 : Nat) (x5 : Int32) (v0 : Int32) : jM (Int32 ⊕ Nat) := jBT (fX1_must v0) fun _ => jR (.inl x5)
def fX1_rests_111 (N : Nat) (a0 : Nat) (x4 : Int32) (x5 : Int32) : jM (Int32 ⊕ Nat) := if x4 = (-1) then (fX1_rests_122 N a0 x5 1) else (fX1_rests_122 N a0 x5 0)
def fX1_rests_105 (N : Nat) (k50 : Int32 → Int32 → Int32 → Int32 → Int32 → Int32 → jM (Int32 ⊕ Nat)) (a0 : Nat) (x1 : Int32) (x2 : Int32) (x3 : Int32) (x4 : Int32) (x5 : Int32) (x6 : Int32) : jM (Int32 ⊕ Nat) := k50 x1 x2 x3 x4 x5 (x6 + 1)
def fX1_rests_99 (N : Nat) (a0 : Nat) (x6 : Int32) : jM (Int32 ⊕ Nat) := jR (.inl x6)
def fX1_rests_80 (N : Nat) (k50 : Int32 → Int32 → Int32 → Int32 → Int32 → Int32 → jM (Int32 ⊕ Nat)) (a0 : Nat) (x1 : Int32) (x2 : Int32) (x3 : Int32) (x4 : Int32) (x5 : Int32) (x6 : Int32) (v0 : Int32) (v1 : Int32) : jM (Int32 ⊕ Nat) := jB (fX1_isRest v0 v1 x1 x2 x3) fun y1 => if y1 = 0 then (fX1_rests_105 N k50 a0 x1 x2 x3 x4 x5 x6) else (if x5 = x4 then (fX1_rests_99 N a0 x6) else (fX1_rests_105 N k50 a0 x1 x2 x3 x4 (x5 + 1) x6))
def fX1_rests_67 (N : Nat) (k50 : Int32 → Int32 → Int32 → Int32 → Int32 → Int32 → jM (Int32 ⊕ Nat)) (a0 : Nat) (x1 : Int32) (x2 : Int32) (x3 : Int32) (x4 : Int32) (x5 : Int32) (x6 : Int32) (v0 : Int32) : jM (Int32 ⊕ Nat) := jB (jnz 2) fun _ => if (x6 - x6 / 2 * 2) = 1 then (fX1_rests_80 N k50 a0 x1 x2 x3 x4 x5 x6 v0 1) else (fX1_rests_80 N k50 a0 x1 x2 x3 x4 x5 x6 v0 0)
def fX1_rests_50 (N : Nat) (a0 : Nat) : Nat → Int32 → Int32 → Int32 → Int32 → Int32 → Int32 → jM (Int32 ⊕ Nat)
  | 0, _, _, _, _, _, _ => jE
  | n + 1, x1, x2, x3, x4, x5, x6 => if 4 ≤ x6 then (fX1_rests_111 N a0 x4 x5) else (if x6 ≤ 1 then (fX1_rests_67 N (fX1_rests_50 N a0 n) a0 x1 x2 x3 x4 x5 x6 0) else (fX1_rests_67 N (fX1_rests_50 N a0 n) a0 x1 x2 x3 x4 x5 x6 1))
def fX1_rests_41 (N : Nat) (a0 : Nat) (x1 : Int32) (x2 : Int32) (x3 : Int32) (x4 : Int32) (v0 : Int32) : jM (Int32 ⊕ Nat) := jBT (fX1_must v0) fun _ => fX1_rests_50 N a0 N x1 x2 x3 x4 0 0
def fX1_rests_40 (N : Nat) (a0 : Nat) (x1 : Int32) (x2 : Int32) (x3 : Int32) (x4 : Int32) : jM (Int32 ⊕ Nat) := fX1_rests_41 N a0 x1 x2 x3 x4 0
def fX1_rests (N : Nat) (a0 : Nat) (x1 : Int32) (x2 : Int32) (x3 : Int32) (x4 : Int32) : jM (Int32 ⊕ Nat) := jB (fX1_within x1 0 9) fun y1 => if y1 = 0 then (fX1_rests_40 N a0 x1 x2 x3 x4) else (jB (fX1_within x2 0 9) fun y2 => if y2 = 0 then (fX1_rests_40 N a0 x1 x2 x3 x4) else (jB (fX1_within x3 0 9) fun y3 => if y3 = 0 then (fX1_rests_40 N a0 x1 x2 x3 x4) else (if x4 < (-1) then (fX1_rests_40 N a0 x1 x2 x3 x4) else (fX1_rests_41 N a0 x1 x2 x3 x4 1))))
theorem wX1_rests_122 {N : Nat} {r : Int32 ⊕ Nat} (cx : jCx p s m args meth c cX1_rests "WornSkin" 7 (Option.some Jvm.ClassFile.FieldType.int) D dA H0 hs.2.2.2.2) (e1 : h'.2.2.1 = hs.2.2.1 + mc) (e2 : h'.2.2.2.1 = hs.2.2.2.1 + ms) (hfl : l.stackTraces = false) (ht : c.exceptionTable.toList = []) (a0 : Nat) (hth : jTh hs a0 0) : ∀ (x5 : Int32) (v0 : Int32), ∀ (h : jH) (H : Heap) (locs : List Loc) (cells slots : Nat) (ls : Array Slot), (fX1_rests_122 N a0 x5 v0).1 h = some (r, h') → jS D dA H0 hs h H locs cells slots → lv_has ls 7 [(0, .ref a0), (5, .int x5)] → W p l e { frames := 7, cells := mc, slots := ms, locals := 108 } s m args below meth c H locs cells slots (jQ D dA H0 below s (jOc (fun v => some (.int v)) r) h' mc ms) (F0 m 122 ls [.int v0]) := by
  have hx := cx.1
  have hb := cx.2.1
  have hown := cx.2.2.2.1
  have hts := cx.2.2.2.2.1
  have hm : h'.2.2.1 ≤ hs.2.2.1 + mc ∧ h'.2.2.2.1 ≤ hs.2.2.2.1 + ms := ⟨Nat.le_of_eq e1, Nat.le_of_eq e2⟩
  intro x5 v0 h H locs cells slots ls hf hS hl
  unfold fX1_rests_122 at hf
  rcases jBT_some hf with ⟨_, h1, e9, hf⟩ | ⟨x9, e9, ez⟩
  rotate_left
  · have ez : r = .inr x9 := ez
    subst ez
    exact j_callSX (pc := 122) (z := ((), h')) (As := [.int v0]) (rest := []) cx hS rfl hl.1 hm (metX1_must l hfl _ _ _ _ e9) (jLe.rf _) (lw_S q1649 q1650 q112 q1651) pdX1_must rfl rfl (Nat.le_of_ble_eq_true rfl) ⟨Nat.le_of_ble_eq_true rfl, Nat.le_of_ble_eq_true rfl⟩ dX1_rests_122 (fun H locs cells slots hS => j_leaves cx hS ht e1 e2)
  refine j_callS (pc := 122) (st1 := []) (As := [.int v0]) (rest := []) cx hS rfl hl.1 hm (metX1_must l hfl _ _ _ _ e9) (jle hf) (lw_S q1649 q1650 q112 q1651) pdX1_must rfl rfl (Nat.le_of_ble_eq_true rfl) ⟨Nat.le_of_ble_eq_true rfl, Nat.le_of_ble_eq_true rfl⟩ dX1_rests_122 rfl (fun H locs cells slots hS => ?_)
  refine lv_iload (pc := 125) hx hb dX1_rests_125 (lv_at hl 1 rfl) ?_
  exact j_iretT (pc := 127) cx hS hf e1 e2 dX1_rests_127
theorem wX1_rests_111 {N : Nat} {r : Int32 ⊕ Nat} (cx : jCx p s m args meth c cX1_rests "WornSkin" 7 (Option.some Jvm.ClassFile.FieldType.int) D dA H0 hs.2.2.2.2) (e1 : h'.2.2.1 = hs.2.2.1 + mc) (e2 : h'.2.2.2.1 = hs.2.2.2.1 + ms) (hfl : l.stackTraces = false) (ht : c.exceptionTable.toList = []) (a0 : Nat) (hth : jTh hs a0 0) : ∀ (x4 : Int32) (x5 : Int32), ∀ (h : jH) (H : Heap) (locs : List Loc) (cells slots : Nat) (ls : Array Slot), (fX1_rests_111 N a0 x4 x5).1 h = some (r, h') → jS D dA H0 hs h H locs cells slots → lv_has ls 7 [(0, .ref a0), (4, .int x4), (5, .int x5)] → W p l e { frames := 7, cells := mc, slots := ms, locals := 108 } s m args below meth c H locs cells slots (jQ D dA H0 below s (jOc (fun v => some (.int v)) r) h' mc ms) (F0 m 111 ls []) := by
  have hx := cx.1
  have hb := cx.2.1
  have hown := cx.2.2.2.1
  have hts := cx.2.2.2.2.1
  have hm : h'.2.2.1 ≤ hs.2.2.1 + mc ∧ h'.2.2.2.1 ≤ hs.2.2.2.1 + ms := ⟨Nat.le_of_eq e1, Nat.le_of_eq e2⟩
  intro x4 x5 h H locs cells slots ls hf hS hl
  unfold fX1_rests_111 at hf
  refine lv_iload (pc := 111) hx hb dX1_rests_111 (lv_at hl 1 rfl) ?_
  refine lv_iconst (pc := 113) (v := (-1)) hx hb dX1_rests_113 rfl ?_
  refine lv_icmp_ne (pc := 114) (tgt := 121) hx hb dX1_rests_114 (by decide) (fun hc => ?_) (fun hc => ?_)
  · have hf := jI_f hf hc
    refine lv_iconst (pc := 121) (v := 0) hx hb dX1_rests_121 rfl ?_
    exact wX1_rests_122 cx e1 e2 hfl ht a0 hth _ _ _ _ _ _ _ _ hf hS (lv_sub hl [0, 2] rfl)
  · have hf := jI_t hf hc
    refine lv_iconst (pc := 117) (v := 1) hx hb dX1_rests_117 rfl ?_
    refine lv_goto (pc := 118) (tgt := 122) hx hb dX1_rests_118 (by decide) ?_
    exact wX1_rests_122 cx e1 e2 hfl ht a0 hth _ _ _ _ _ _ _ _ hf hS (lv_sub hl [0, 2] rfl)
theorem wX1_rests_105 {N : Nat} {k50 : Int32 → Int32 → Int32 → Int32 → Int32 → Int32 → jM (Int32 ⊕ Nat)} {r : Int32 ⊕ Nat} (cx : jCx p s m args meth c cX1_rests "WornSkin" 7 (Option.some Jvm.ClassFile.FieldType.int) D dA H0 hs.2.2.2.2) (e1 : h'.2.2.1 = hs.2.2.1 + mc) (e2 : h'.2.2.2.1 = hs.2.2.2.1 + ms) (hfl : l.stackTraces = false) (ht : c.exceptionTable.toList = []) (a0 : Nat) (hth : jTh hs a0 0) (hk50 : ∀ (x1 : Int32) (x2 : Int32) (x3 : Int32) (x4 : Int32) (x5 : Int32) (x6 : Int32), ∀ (h : jH) (H : Heap) (locs : List Loc) (cells slots : Nat) (ls : Array Slot), (k50 x1 x2 x3 x4 x5 x6).1 h = some (r, h') → jS D dA H0 hs h H locs cells slots → lv_has ls 7 [(0, .ref a0), (1, .int x1), (2, .int x2), (3, .int x3), (4, .int x4), (5, .int x5), (6, .int x6)] → W p l e { frames := 7, cells := mc, slots := ms, locals := 108 } s m args below meth c H locs cells slots (jQ D dA H0 below s (jOc (fun v => some (.int v)) r) h' mc ms) (F0 m 50 ls [])) : ∀ (x1 : Int32) (x2 : Int32) (x3 : Int32) (x4 : Int32) (x5 : Int32) (x6 : Int32), ∀ (h : jH) (H : Heap) (locs : List Loc) (cells slots : Nat) (ls : Array Slot), (fX1_rests_105 N k50 a0 x1 x2 x3 x4 x5 x6).1 h = some (r, h') → jS D dA H0 hs h H locs cells slots → lv_has ls 7 [(0, .ref a0), (1, .int x1), (2, .int x2), (3, .int x3), (4, .int x4), (5, .int x5), (6, .int x6)] → W p l e { frames := 7, cells := mc, slots := ms, locals := 108 } s m args below meth c H locs cells slots (jQ D dA H0 below s (jOc (fun v => some (.int v)) r) h' mc ms) (F0 m 105 ls []) := by
  have hx := cx.1
  have hb := cx.2.1
  have hown := cx.2.2.2.1
  have hts := cx.2.2.2.2.1
  have hm : h'.2.2.1 ≤ hs.2.2.1 + mc ∧ h'.2.2.2.1 ≤ hs.2.2.2.1 + ms := ⟨Nat.le_of_eq e1, Nat.le_of_eq e2⟩
  intro x1 x2 x3 x4 x5 x6 h H locs cells slots ls hf hS hl
  unfold fX1_rests_105 at hf
  refine lv_iinc (pc := 105) (v := (x6 + 1)) (lv' := [(6, .int (x6 + 1)), (0, .ref a0), (1, .int x1), (2, .int x2), (3, .int x3), (4, .int x4), (5, .int x5)]) hx hb dX1_rests_105 hl (k := 6) rfl rfl (Nat.le_of_ble_eq_true rfl) rfl (fun ls hl => ?_)
  refine lv_goto (pc := 108) (tgt := 50) hx hb dX1_rests_108 (by decide) ?_
  exact hk50 _ _ _ _ _ _ _ _ _ _ _ _ hf hS (lv_sub hl [1, 2, 3, 4, 5, 6, 0] rfl)
theorem wX1_rests_99 {N : Nat} {r : Int32 ⊕ Nat} (cx : jCx p s m args meth c cX1_rests "WornSkin" 7 (Option.some Jvm.ClassFile.FieldType.int) D dA H0 hs.2.2.2.2) (e1 : h'.2.2.1 = hs.2.2.1 + mc) (e2 : h'.2.2.2.1 = hs.2.2.2.1 + ms) (hfl : l.stackTraces = false) (ht : c.exceptionTable.toList = []) (a0 : Nat) (hth : jTh hs a0 0) : ∀ (x6 : Int32), ∀ (h : jH) (H : Heap) (locs : List Loc) (cells slots : Nat) (ls : Array Slot), (fX1_rests_99 N a0 x6).1 h = some (r, h') → jS D dA H0 hs h H locs cells slots → lv_has ls 7 [(0, .ref a0), (6, .int x6)] → W p l e { frames := 7, cells := mc, slots := ms, locals := 108 } s m args below meth c H locs cells slots (jQ D dA H0 below s (jOc (fun v => some (.int v)) r) h' mc ms) (F0 m 99 ls []) := by
  have hx := cx.1
  have hb := cx.2.1
  have hown := cx.2.2.2.1
  have hts := cx.2.2.2.2.1
  have hm : h'.2.2.1 ≤ hs.2.2.1 + mc ∧ h'.2.2.2.1 ≤ hs.2.2.2.1 + ms := ⟨Nat.le_of_eq e1, Nat.le_of_eq e2⟩
  intro x6 h H locs cells slots ls hf hS hl
  unfold fX1_rests_99 at hf
  refine lv_iload (pc := 99) hx hb dX1_rests_99 (lv_at hl 1 rfl) ?_
  exact j_iretT (pc := 101) cx hS hf e1 e2 dX1_rests_101
theorem wX1_rests_80 {N : Nat} {k50 : Int32 → Int32 → Int32 → Int32 → Int32 → Int32 → jM (Int32 ⊕ Nat)} {r : Int32 ⊕ Nat} (cx : jCx p s m args meth c cX1_rests "WornSkin" 7 (Option.some Jvm.ClassFile.FieldType.int) D dA H0 hs.2.2.2.2) (e1 : h'.2.2.1 = hs.2.2.1 + mc) (e2 : h'.2.2.2.1 = hs.2.2.2.1 + ms) (hfl : l.stackTraces = false) (ht : c.exceptionTable.toList = []) (a0 : Nat) (hth : jTh hs a0 0) (hk50 : ∀ (x1 : Int32) (x2 : Int32) (x3 : Int32) (x4 : Int32) (x5 : Int32) (x6 : Int32), ∀ (h : jH) (H : Heap) (locs : List Loc) (cells slots : Nat) (ls : Array Slot), (k50 x1 x2 x3 x4 x5 x6).1 h = some (r, h') → jS D dA H0 hs h H locs cells slots → lv_has ls 7 [(0, .ref a0), (1, .int x1), (2, .int x2), (3, .int x3), (4, .int x4), (5, .int x5), (6, .int x6)] → W p l e { frames := 7, cells := mc, slots := ms, locals := 108 } s m args below meth c H locs cells slots (jQ D dA H0 below s (jOc (fun v => some (.int v)) r) h' mc ms) (F0 m 50 ls [])) : ∀ (x1 : Int32) (x2 : Int32) (x3 : Int32) (x4 : Int32) (x5 : Int32) (x6 : Int32) (v0 : Int32) (v1 : Int32), ∀ (h : jH) (H : Heap) (locs : List Loc) (cells slots : Nat) (ls : Array Slot), (fX1_rests_80 N k50 a0 x1 x2 x3 x4 x5 x6 v0 v1).1 h = some (r, h') → jS D dA H0 hs h H locs cells slots → lv_has ls 7 [(0, .ref a0), (1, .int x1), (2, .int x2), (3, .int x3), (4, .int x4), (5, .int x5), (6, .int x6)] → W p l e { frames := 7, cells := mc, slots := ms, locals := 108 } s m args below meth c H locs cells slots (jQ D dA H0 below s (jOc (fun v => some (.int v)) r) h' mc ms) (F0 m 80 ls [.int v1, .int v0]) := by
  have hx := cx.1
  have hb := cx.2.1
  have hown := cx.2.2.2.1
  have hts := cx.2.2.2.2.1
  have hm : h'.2.2.1 ≤ hs.2.2.1 + mc ∧ h'.2.2.2.1 ≤ hs.2.2.2.1 + ms := ⟨Nat.le_of_eq e1, Nat.le_of_eq e2⟩
  intro x1 x2 x3 x4 x5 x6 v0 v1 h H locs cells slots ls hf hS hl
  unfold fX1_rests_80 at hf
  refine lv_iload_n (pc := 80) hx hb dX1_rests_80 rfl (lv_at hl 1 rfl) ?_
  refine lv_iload_n (pc := 81) hx hb dX1_rests_81 rfl (lv_at hl 2 rfl) ?_
  refine lv_iload_n (pc := 82) hx hb dX1_rests_82 rfl (lv_at hl 3 rfl) ?_
  obtain ⟨y1, h1, e9, hf⟩ := jB_some hf
  refine j_callS (pc := 83) (st1 := [.int y1]) (As := [.int v0, .int v1, .int x1, .int x2, .int x3]) (rest := []) cx hS rfl hl.1 hm (metX1_isRest l _ _ _ _ _ _ _ _ e9) (jle hf) (lw_S q1672 q1673 q112 q1674) pdX1_isRest rfl rfl (Nat.le_of_ble_eq_true rfl) ⟨Nat.le_of_ble_eq_true rfl, Nat.le_of_ble_eq_true rfl⟩ dX1_rests_83 rfl (fun H locs cells slots hS => ?_)
  refine lv_if_ne (pc := 86) (tgt := 92) hx hb dX1_rests_86 (by decide) (fun hc => ?_) (fun hc => ?_)
  · have hf := jI_f hf hc
    refine lv_iload (pc := 92) hx hb dX1_rests_92 (lv_at hl 5 rfl) ?_
    refine lv_iload (pc := 94) hx hb dX1_rests_94 (lv_at hl 4 rfl) ?_
    refine lv_icmp_ne (pc := 96) (tgt := 102) hx hb dX1_rests_96 (by decide) (fun hc => ?_) (fun hc => ?_)
    · have hf := jI_f hf hc
      refine lv_iinc (pc := 102) (v := (x5 + 1)) (lv' := [(5, .int (x5 + 1)), (0, .ref a0), (1, .int x1), (2, .int x2), (3, .int x3), (4, .int x4), (6, .int x6)]) hx hb dX1_rests_102 hl (k := 5) rfl rfl (Nat.le_of_ble_eq_true rfl) rfl (fun ls hl => ?_)
      exact wX1_rests_105 cx e1 e2 hfl ht a0 hth hk50 _ _ _ _ _ _ _ _ _ _ _ _ hf hS (lv_sub hl [1, 2, 3, 4, 5, 0, 6] rfl)
    · have hf := jI_t hf hc
      exact wX1_rests_99 cx e1 e2 hfl ht a0 hth _ _ _ _ _ _ _ hf hS (lv_sub hl [0, 6] rfl)
  · have hf := jI_t hf hc
    refine lv_goto (pc := 89) (tgt := 105) hx hb dX1_rests_89 (by decide) ?_
    exact wX1_rests_105 cx e1 e2 hfl ht a0 hth hk50 _ _ _ _ _ _ _ _ _ _ _ _ hf hS hl
theorem wX1_rests_67 {N : Nat} {k50 : Int32 → Int32 → Int32 → Int32 → Int32 → Int32 → jM (Int32 ⊕ Nat)} {r : Int32 ⊕ Nat} (cx : jCx p s m args meth c cX1_rests "WornSkin" 7 (Option.some Jvm.ClassFile.FieldType.int) D dA H0 hs.2.2.2.2) (e1 : h'.2.2.1 = hs.2.2.1 + mc) (e2 : h'.2.2.2.1 = hs.2.2.2.1 + ms) (hfl : l.stackTraces = false) (ht : c.exceptionTable.toList = []) (a0 : Nat) (hth : jTh hs a0 0) (hk50 : ∀ (x1 : Int32) (x2 : Int32) (x3 : Int32) (x4 : Int32) (x5 : Int32) (x6 : Int32), ∀ (h : jH) (H : Heap) (locs : List Loc) (cells slots : Nat) (ls : Array Slot), (k50 x1 x2 x3 x4 x5 x6).1 h = some (r, h') → jS D dA H0 hs h H locs cells slots → lv_has ls 7 [(0, .ref a0), (1, .int x1), (2, .int x2), (3, .int x3), (4, .int x4), (5, .int x5), (6, .int x6)] → W p l e { frames := 7, cells := mc, slots := ms, locals := 108 } s m args below meth c H locs cells slots (jQ D dA H0 below s (jOc (fun v => some (.int v)) r) h' mc ms) (F0 m 50 ls [])) : ∀ (x1 : Int32) (x2 : Int32) (x3 : Int32) (x4 : Int32) (x5 : Int32) (x6 : Int32) (v0 : Int32), ∀ (h : jH) (H : Heap) (locs : List Loc) (cells slots : Nat) (ls : Array Slot), (fX1_rests_67 N k50 a0 x1 x2 x3 x4 x5 x6 v0).1 h = some (r, h') → jS D dA H0 hs h H locs cells slots → lv_has ls 7 [(0, .ref a0), (1, .int x1), (2, .int x2), (3, .int x3), (4, .int x4), (5, .int x5), (6, .int x6)] → W p l e { frames := 7, cells := mc, slots := ms, locals := 108 } s m args below meth c H locs cells slots (jQ D dA H0 below s (jOc (fun v => some (.int v)) r) h' mc ms) (F0 m 67 ls [.int v0]) := by
  have hx := cx.1
  have hb := cx.2.1
  have hown := cx.2.2.2.1
  have hts := cx.2.2.2.2.1
  have hm : h'.2.2.1 ≤ hs.2.2.1 + mc ∧ h'.2.2.2.1 ≤ hs.2.2.2.1 + ms := ⟨Nat.le_of_eq e1, Nat.le_of_eq e2⟩
  intro x1 x2 x3 x4 x5 x6 v0 h H locs cells slots ls hf hS hl
  unfold fX1_rests_67 at hf
  refine lv_iload (pc := 67) hx hb dX1_rests_67 (lv_at hl 6 rfl) ?_
  refine lv_iconst (pc := 69) (v := 2) hx hb dX1_rests_69 rfl ?_
  obtain ⟨hne, hf⟩ := jnz_s hf
  refine lv_irem (pc := 70) hx hb dX1_rests_70 hne ?_
  refine lv_iconst (pc := 71) (v := 1) hx hb dX1_rests_71 rfl ?_
  refine lv_icmp_ne (pc := 72) (tgt := 79) hx hb dX1_rests_72 (by decide) (fun hc => ?_) (fun hc => ?_)
  · have hf := jI_f hf hc
    refine lv_iconst (pc := 79) (v := 0) hx hb dX1_rests_79 rfl ?_
    exact wX1_rests_80 cx e1 e2 hfl ht a0 hth hk50 _ _ _ _ _ _ _ _ _ _ _ _ _ _ hf hS hl
  · have hf := jI_t hf hc
    refine lv_iconst (pc := 75) (v := 1) hx hb dX1_rests_75 rfl ?_
    refine lv_goto (pc := 76) (tgt := 80) hx hb dX1_rests_76 (by decide) ?_
    exact wX1_rests_80 cx e1 e2 hfl ht a0 hth hk50 _ _ _ _ _ _ _ _ _ _ _ _ _ _ hf hS hl
theorem wX1_rests_50 {N : Nat} {r : Int32 ⊕ Nat} (cx : jCx p s m args meth c cX1_rests "WornSkin" 7 (Option.some Jvm.ClassFile.FieldType.int) D dA H0 hs.2.2.2.2) (e1 : h'.2.2.1 = hs.2.2.1 + mc) (e2 : h'.2.2.2.1 = hs.2.2.2.1 + ms) (hfl : l.stackTraces = false) (ht : c.exceptionTable.toList = []) (a0 : Nat) (hth : jTh hs a0 0) : ∀ (n : Nat) (x1 : Int32) (x2 : Int32) (x3 : Int32) (x4 : Int32) (x5 : Int32) (x6 : Int32), ∀ (h : jH) (H : Heap) (locs : List Loc) (cells slots : Nat) (ls : Array Slot), (fX1_rests_50 N a0 n x1 x2 x3 x4 x5 x6).1 h = some (r, h') → jS D dA H0 hs h H locs cells slots → lv_has ls 7 [(0, .ref a0), (1, .int x1), (2, .int x2), (3, .int x3), (4, .int x4), (5, .int x5), (6, .int x6)] → W p l e { frames := 7, cells := mc, slots := ms, locals := 108 } s m args below meth c H locs cells slots (jQ D dA H0 below s (jOc (fun v => some (.int v)) r) h' mc ms) (F0 m 50 ls []) := by
  have hx := cx.1
  have hb := cx.2.1
  have hown := cx.2.2.2.1
  have hts := cx.2.2.2.2.1
  have hm : h'.2.2.1 ≤ hs.2.2.1 + mc ∧ h'.2.2.2.1 ≤ hs.2.2.2.1 + ms := ⟨Nat.le_of_eq e1, Nat.le_of_eq e2⟩
  intro n
  induction n with
  | zero =>
    intro x1 x2 x3 x4 x5 x6 h H locs cells slots ls hf hS hl
    exact jE_f hf
  | succ n ih =>
    intro x1 x2 x3 x4 x5 x6 h H locs cells slots ls hf hS hl
    unfold fX1_rests_50 at hf
    refine lv_iload (pc := 50) hx hb dX1_rests_50 (lv_at hl 6 rfl) ?_
    refine lv_iconst (pc := 52) (v := 4) hx hb dX1_rests_52 rfl ?_
    refine lv_icmp_ge (pc := 53) (tgt := 111) hx hb dX1_rests_53 (by decide) (fun hc => ?_) (fun hc => ?_)
    · have hf := jI_t hf hc
      exact wX1_rests_111 cx e1 e2 hfl ht a0 hth _ _ _ _ _ _ _ _ hf hS (lv_sub hl [0, 4, 5] rfl)
    · have hf := jI_f hf hc
      refine lv_iload (pc := 56) hx hb dX1_rests_56 (lv_at hl 6 rfl) ?_
      refine lv_iconst (pc := 58) (v := 1) hx hb dX1_rests_58 rfl ?_
      refine lv_icmp_le (pc := 59) (tgt := 66) hx hb dX1_rests_59 (by decide) (fun hc => ?_) (fun hc => ?_)
      · have hf := jI_t hf hc
        refine lv_iconst (pc := 66) (v := 0) hx hb dX1_rests_66 rfl ?_
        exact wX1_rests_67 cx e1 e2 hfl ht a0 hth ih _ _ _ _ _ _ _ _ _ _ _ _ _ hf hS hl
      · have hf := jI_f hf hc
        refine lv_iconst (pc := 62) (v := 1) hx hb dX1_rests_62 rfl ?_
        refine lv_goto (pc := 63) (tgt := 67) hx hb dX1_rests_63 (by decide) ?_
        exact wX1_rests_67 cx e1 e2 hfl ht a0 hth ih _ _ _ _ _ _ _ _ _ _ _ _ _ hf hS hl
theorem wX1_rests_41 {N : Nat} {r : Int32 ⊕ Nat} (cx : jCx p s m args meth c cX1_rests "WornSkin" 7 (Option.some Jvm.ClassFile.FieldType.int) D dA H0 hs.2.2.2.2) (e1 : h'.2.2.1 = hs.2.2.1 + mc) (e2 : h'.2.2.2.1 = hs.2.2.2.1 + ms) (hfl : l.stackTraces = false) (ht : c.exceptionTable.toList = []) (a0 : Nat) (hth : jTh hs a0 0) : ∀ (x1 : Int32) (x2 : Int32) (x3 : Int32) (x4 : Int32) (v0 : Int32), ∀ (h : jH) (H : Heap) (locs : List Loc) (cells slots : Nat) (ls : Array Slot), (fX1_rests_41 N a0 x1 x2 x3 x4 v0).1 h = some (r, h') → jS D dA H0 hs h H locs cells slots → lv_has ls 7 [(0, .ref a0), (1, .int x1), (2, .int x2), (3, .int x3), (4, .int x4)] → W p l e { frames := 7, cells := mc, slots := ms, locals := 108 } s m args below meth c H locs cells slots (jQ D dA H0 below s (jOc (fun v => some (.int v)) r) h' mc ms) (F0 m 41 ls [.int v0]) := by
  have hx := cx.1
  have hb := cx.2.1
  have hown := cx.2.2.2.1
  have hts := cx.2.2.2.2.1
  have hm : h'.2.2.1 ≤ hs.2.2.1 + mc ∧ h'.2.2.2.1 ≤ hs.2.2.2.1 + ms := ⟨Nat.le_of_eq e1, Nat.le_of_eq e2⟩
  intro x1 x2 x3 x4 v0 h H locs cells slots ls hf hS hl
  unfold fX1_rests_41 at hf
  rcases jBT_some hf with ⟨_, h1, e9, hf⟩ | ⟨x9, e9, ez⟩
  rotate_left
  · have ez : r = .inr x9 := ez
    subst ez
    exact j_callSX (pc := 41) (z := ((), h')) (As := [.int v0]) (rest := []) cx hS rfl hl.1 hm (metX1_must l hfl _ _ _ _ e9) (jLe.rf _) (lw_S q1649 q1650 q112 q1651) pdX1_must rfl rfl (Nat.le_of_ble_eq_true rfl) ⟨Nat.le_of_ble_eq_true rfl, Nat.le_of_ble_eq_true rfl⟩ dX1_rests_41 (fun H locs cells slots hS => j_leaves cx hS ht e1 e2)
  refine j_callS (pc := 41) (st1 := []) (As := [.int v0]) (rest := []) cx hS rfl hl.1 hm (metX1_must l hfl _ _ _ _ e9) (jle hf) (lw_S q1649 q1650 q112 q1651) pdX1_must rfl rfl (Nat.le_of_ble_eq_true rfl) ⟨Nat.le_of_ble_eq_true rfl, Nat.le_of_ble_eq_true rfl⟩ dX1_rests_41 rfl (fun H locs cells slots hS => ?_)
  refine lv_iconst (pc := 44) (v := 0) hx hb dX1_rests_44 rfl ?_
  refine lv_istore (pc := 45) (i := 5) (lv' := [(5, .int 0), (0, .ref a0), (1, .int x1), (2, .int x2), (3, .int x3), (4, .int x4)]) hx hb dX1_rests_45 hl (Nat.le_of_ble_eq_true rfl) rfl (fun ls hl => ?_)
  refine lv_iconst (pc := 47) (v := 0) hx hb dX1_rests_47 rfl ?_
  refine lv_istore (pc := 48) (i := 6) (lv' := [(6, .int 0), (5, .int 0), (0, .ref a0), (1, .int x1), (2, .int x2), (3, .int x3), (4, .int x4)]) hx hb dX1_rests_48 hl (Nat.le_of_ble_eq_true rfl) rfl (fun ls hl => ?_)
  exact wX1_rests_50 cx e1 e2 hfl ht a0 hth N _ _ _ _ _ _ _ _ _ _ _ _ hf hS (lv_sub hl [2, 3, 4, 5, 6, 1, 0] rfl)
theorem wX1_rests_40 {N : Nat} {r : Int32 ⊕ Nat} (cx : jCx p s m args meth c cX1_rests "WornSkin" 7 (Option.some Jvm.ClassFile.FieldType.int) D dA H0 hs.2.2.2.2) (e1 : h'.2.2.1 = hs.2.2.1 + mc) (e2 : h'.2.2.2.1 = hs.2.2.2.1 + ms) (hfl : l.stackTraces = false) (ht : c.exceptionTable.toList = []) (a0 : Nat) (hth : jTh hs a0 0) : ∀ (x1 : Int32) (x2 : Int32) (x3 : Int32) (x4 : Int32), ∀ (h : jH) (H : Heap) (locs : List Loc) (cells slots : Nat) (ls : Array Slot), (fX1_rests_40 N a0 x1 x2 x3 x4).1 h = some (r, h') → jS D dA H0 hs h H locs cells slots → lv_has ls 7 [(0, .ref a0), (1, .int x1), (2, .int x2), (3, .int x3), (4, .int x4)] → W p l e { frames := 7, cells := mc, slots := ms, locals := 108 } s m args below meth c H locs cells slots (jQ D dA H0 below s (jOc (fun v => some (.int v)) r) h' mc ms) (F0 m 40 ls []) := by
  have hx := cx.1
  have hb := cx.2.1
  have hown := cx.2.2.2.1
  have hts := cx.2.2.2.2.1
  have hm : h'.2.2.1 ≤ hs.2.2.1 + mc ∧ h'.2.2.2.1 ≤ hs.2.2.2.1 + ms := ⟨Nat.le_of_eq e1, Nat.le_of_eq e2⟩
  intro x1 x2 x3 x4 h H locs cells slots ls hf hS hl
  unfold fX1_rests_40 at hf
  refine lv_iconst (pc := 40) (v := 0) hx hb dX1_rests_40 rfl ?_
  exact wX1_rests_41 cx e1 e2 hfl ht a0 hth _ _ _ _ _ _ _ _ _ _ _ hf hS hl
theorem wX1_rests_0 {N : Nat} {r : Int32 ⊕ Nat} (cx : jCx p s m args meth c cX1_rests "WornSkin" 7 (Option.some Jvm.ClassFile.FieldType.int) D dA H0 hs.2.2.2.2) (e1 : h'.2.2.1 = hs.2.2.1 + mc) (e2 : h'.2.2.2.1 = hs.2.2.2.1 + ms) (hfl : l.stackTraces = false) (ht : c.exceptionTable.toList = []) (a0 : Nat) (hth : jTh hs a0 0) : ∀ (x1 : Int32) (x2 : Int32) (x3 : Int32) (x4 : Int32), ∀ (h : jH) (H : Heap) (locs : List Loc) (cells slots : Nat) (ls : Array Slot), (fX1_rests N a0 x1 x2 x3 x4).1 h = some (r, h') → jS D dA H0 hs h H locs cells slots → lv_has ls 7 [(0, .ref a0), (1, .int x1), (2, .int x2), (3, .int x3), (4, .int x4)] → W p l e { frames := 7, cells := mc, slots := ms, locals := 108 } s m args below meth c H locs cells slots (jQ D dA H0 below s (jOc (fun v => some (.int v)) r) h' mc ms) (F0 m 0 ls []) := by
  have hx := cx.1
  have hb := cx.2.1
  have hown := cx.2.2.2.1
  have hts := cx.2.2.2.2.1
  have hm : h'.2.2.1 ≤ hs.2.2.1 + mc ∧ h'.2.2.2.1 ≤ hs.2.2.2.1 + ms := ⟨Nat.le_of_eq e1, Nat.le_of_eq e2⟩
  intro x1 x2 x3 x4 h H locs cells slots ls hf hS hl
  unfold fX1_rests at hf
  refine lv_iload_n (pc := 0) hx hb dX1_rests_0 rfl (lv_at hl 1 rfl) ?_
  refine lv_iconst (pc := 1) (v := 0) hx hb dX1_rests_1 rfl ?_
  refine lv_bipush (pc := 2) (v := 9) hx hb dX1_rests_2 rfl ?_
  obtain ⟨y1, h1, e9, hf⟩ := jB_some hf
  refine j_callS (pc := 4) (st1 := [.int y1]) (As := [.int x1, .int 0, .int 9]) (rest := []) cx hS rfl hl.1 hm (metX1_within l _ _ _ _ _ _ e9) (jle hf) (lw_S q1158 q468 q112 q469) pdX1_within rfl rfl (Nat.le_of_ble_eq_true rfl) ⟨Nat.le_of_ble_eq_true rfl, Nat.le_of_ble_eq_true rfl⟩ dX1_rests_4 rfl (fun H locs cells slots hS => ?_)
  refine lv_if_eq (pc := 7) (tgt := 40) hx hb dX1_rests_7 (by decide) (fun hc => ?_) (fun hc => ?_)
  · have hf := jI_t hf hc
    exact wX1_rests_40 cx e1 e2 hfl ht a0 hth _ _ _ _ _ _ _ _ _ _ hf hS hl
  · have hf := jI_f hf hc
    refine lv_iload_n (pc := 10) hx hb dX1_rests_10 rfl (lv_at hl 2 rfl) ?_
    refine lv_iconst (pc := 11) (v := 0) hx hb dX1_rests_11 rfl ?_
    refine lv_bipush (pc := 12) (v := 9) hx hb dX1_rests_12 rfl ?_
    obtain ⟨y2, h1, e9, hf⟩ := jB_some hf
    refine j_callS (pc := 14) (st1 := [.int y2]) (As := [.int x2, .int 0, .int 9]) (rest := []) cx hS rfl hl.1 hm (metX1_within l _ _ _ _ _ _ e9) (jle hf) (lw_S q1158 q468 q112 q469) pdX1_within rfl rfl (Nat.le_of_ble_eq_true rfl) ⟨Nat.le_of_ble_eq_true rfl, Nat.le_of_ble_eq_true rfl⟩ dX1_rests_14 rfl (fun H locs cells slots hS => ?_)
    refine lv_if_eq (pc := 17) (tgt := 40) hx hb dX1_rests_17 (by decide) (fun hc => ?_) (fun hc => ?_)
    · have hf := jI_t hf hc
      exact wX1_rests_40 cx e1 e2 hfl ht a0 hth _ _ _ _ _ _ _ _ _ _ hf hS hl
    · have hf := jI_f hf hc
      refine lv_iload_n (pc := 20) hx hb dX1_rests_20 rfl (lv_at hl 3 rfl) ?_
      refine lv_iconst (pc := 21) (v := 0) hx hb dX1_rests_21 rfl ?_
      refine lv_bipush (pc := 22) (v := 9) hx hb dX1_rests_22 rfl ?_
      obtain ⟨y3, h1, e9, hf⟩ := jB_some hf
      refine j_callS (pc := 24) (st1 := [.int y3]) (As := [.int x3, .int 0, .int 9]) (rest := []) cx hS rfl hl.1 hm (metX1_within l _ _ _ _ _ _ e9) (jle hf) (lw_S q1158 q468 q112 q469) pdX1_within rfl rfl (Nat.le_of_ble_eq_true rfl) ⟨Nat.le_of_ble_eq_true rfl, Nat.le_of_ble_eq_true rfl⟩ dX1_rests_24 rfl (fun H locs cells slots hS => ?_)
      refine lv_if_eq (pc := 27) (tgt := 40) hx hb dX1_rests_27 (by decide) (fun hc => ?_) (fun hc => ?_)
      · have hf := jI_t hf hc
        exact wX1_rests_40 cx e1 e2 hfl ht a0 hth _ _ _ _ _ _ _ _ _ _ hf hS hl
      · have hf := jI_f hf hc
        refine lv_iload (pc := 30) hx hb dX1_rests_30 (lv_at hl 4 rfl) ?_
        refine lv_iconst (pc := 32) (v := (-1)) hx hb dX1_rests_32 rfl ?_
        refine lv_icmp_lt (pc := 33) (tgt := 40) hx hb dX1_rests_33 (by decide) (fun hc => ?_) (fun hc => ?_)
        · have hf := jI_t hf hc
          exact wX1_rests_40 cx e1 e2 hfl ht a0 hth _ _ _ _ _ _ _ _ _ _ hf hS hl
        · have hf := jI_f hf hc
          refine lv_iconst (pc := 36) (v := 1) hx hb dX1_rests_36 rfl ?_
          refine lv_goto (pc := 37) (tgt := 41) hx hb dX1_rests_37 (by decide) ?_
          exact wX1_rests_41 cx e1 e2 hfl ht a0 hth _ _ _ _ _ _ _ _ _ _ _ hf hS hl
theorem metX1_rests (l : Launch) (hfl : l.stackTraces = false) (N : Nat) (a0 : Nat) (x1 : Int32) (x2 : Int32) (x3 : Int32) (x4 : Int32) (h h' : jH) (r : Int32 ⊕ Nat) (hth : jcd h a0 = some 0) (hf : (fX1_rests N a0 x1 x2 x3 x4).1 h = some (r, h')) : jMet l yX1_rests (ws_ yX1_rests cX1_rests 7 (Option.some Jvm.ClassFile.FieldType.int)) (7) (108) [.ref a0, .int x1, .int x2, .int x3, .int x4] h h' (jOc (fun v => some (.int v)) r) := by
  refine jStartT rfl (jle hf) (Nat.le_of_ble_eq_true rfl) ?_
  intro p e s m below meth c D dA H0 mc ms ls ht cx hnm e1 e2 hS hl
  have hth := jTh.mk hS hth
  exact wX1_rests_0 cx e1 e2 hfl ht a0 hth _ _ _ _ _ _ _ _ _ _ hf hS hl
def fX6_init (a0 : Nat) (x1 : Option Nat) : jM Unit := jB (jpR [6] 3 (some a0) x1) fun _ => jB (jnaI 0 6) fun q1 => jB (jpR [6] 0 (some a0) (some q1)) fun _ => jB (jnaI 0 6) fun q2 => jB (jpR [6] 1 (some a0) (some q2)) fun _ => jR ()
theorem wX6_init_0 {r : Unit} (cx : jCx p s m args meth c cX6_init "WornSkin$Lays" 2 (Option.none : Option Jvm.ClassFile.FieldType) D dA H0 hs.2.2.2.2) (e1 : h'.2.2.1 = hs.2.2.1 + mc) (e2 : h'.2.2.2.1 = hs.2.2.2.1 + ms) (hin : meth.name = "<init>") (a0 : Nat) : ∀ (x1 : Option Nat), ∀ (h : jH) (H : Heap) (locs : List Loc) (cells slots : Nat) (ls : Array Slot), (fX6_init a0 x1).1 h = some (r, h') → jS D dA H0 hs h H locs cells slots → lv_has ls 2 [(0, .ref a0), (1, va_rf x1)] → W p l e { frames := 1, cells := mc, slots := ms, locals := 20 } s m args below meth c H locs cells slots (jQ D dA H0 below s (.returned none) h' mc ms) (F0 m 0 ls []) := by
  have hx := cx.1
  have hb := cx.2.1
  have hown := cx.2.2.2.1
  have hts := cx.2.2.2.2.1
  have hm : h'.2.2.1 ≤ hs.2.2.1 + mc ∧ h'.2.2.2.1 ≤ hs.2.2.2.1 + ms := ⟨Nat.le_of_eq e1, Nat.le_of_eq e2⟩
  intro x1 h H locs cells slots ls hf hS hl
  unfold fX6_init at hf
  refine lv_aload_n (pc := 0) hx hb dX6_init_0 rfl (lv_at hl 0 rfl) ?_
  refine j_aload_n (pc := 1) (r := x1) hx hb dX6_init_1 rfl (lv_at hl 1 rfl) ?_
  refine j_pR (pc := 2) cx hS hf fp_WornSkin_Lays_this_0 (Or.inr ⟨rfl, hin, rfl⟩) q416 dX6_init_2 (fun h H locs hf hS => ?_)
  refine lv_aload_n (pc := 5) hx hb dX6_init_5 rfl (lv_at hl 0 rfl) ?_
  refine j_objInit (pc := 6) cx q410 q171 q172 hl.1 dX6_init_6 (Nat.le_of_ble_eq_true rfl) (Nat.le_of_ble_eq_true rfl) ?_
  refine lv_aload_n (pc := 9) hx hb dX6_init_9 rfl (lv_at hl 0 rfl) ?_
  refine lv_bipush (pc := 10) (v := 6) hx hb dX6_init_10 rfl ?_
  refine j_naG (pc := 12) cx hS hf (ty := .int) rfl rfl (fun _ => rfl) (by decide) q247 dX6_init_12 (fun _ hh => by cases hh) hm (fun q1 h H cells slots hf hS => ?_)
  refine j_pRa (pc := 14) cx hS hf fp_WornSkin_Lays_row (Or.inr ⟨rfl, hin, rfl⟩) q411 dX6_init_14 (fun h H locs hf hS => ?_)
  refine lv_aload_n (pc := 17) hx hb dX6_init_17 rfl (lv_at hl 0 rfl) ?_
  refine lv_bipush (pc := 18) (v := 6) hx hb dX6_init_18 rfl ?_
  refine j_naG (pc := 20) cx hS hf (ty := .int) rfl rfl (fun _ => rfl) (by decide) q247 dX6_init_20 (fun _ hh => by cases hh) hm (fun q2 h H cells slots hf hS => ?_)
  refine j_pRa (pc := 22) cx hS hf fp_WornSkin_Lays_best (Or.inr ⟨rfl, hin, rfl⟩) q412 dX6_init_22 (fun h H locs hf hS => ?_)
  exact j_vret (pc := 25) cx hS hf e1 e2 dX6_init_25
theorem metX6_init (l : Launch) (a0 : Nat) (x1 : Option Nat) (h h' : jH) (r : Unit) (hf : (fX6_init a0 x1).1 h = some (r, h')) : jMet l yX6_init (ws_ yX6_init cX6_init 2 (Option.none : Option Jvm.ClassFile.FieldType)) (1) (20) [.ref a0, va_rf x1] h h' (.returned none) := by
  refine jStart rfl (jle hf) (by cases x1 <;> exact Nat.le_of_ble_eq_true rfl) ?_
  intro p e s m below meth c D dA H0 mc ms ls cx hnm e1 e2 hS hl
  have hl : lv_has ls 2 [(0, .ref a0), (1, va_rf x1)] := by cases x1 <;> exact hl
  exact wX6_init_0 cx e1 e2 hnm a0 _ _ _ _ _ _ _ hf hS hl
def fX6_takes_96 (N : Nat) (a0 : Nat) : jM Unit := jR ()
def fX6_takes_2 (N : Nat) (a0 : Nat) : Nat → Int32 → Int32 → Int32 → jM Unit
  | 0, _, _, _ => jE
  | n + 1, x1, x2, x3 => jB (jgR [6] 3 (some a0)) fun y1 => jB (jgR [0] 2 y1) fun y2 => jB (jrc 2 y2) fun b4 => jB (fX3_text b4 x1) fun y3 => jB (jgI [13, 14, 15, 16] 1 y3) fun y5 => if (x2 + y5) ≤ x3 then (fX6_takes_96 N a0) else (jB (jgR [6] 3 (some a0)) fun y6 => jB (jgR [0] 2 y6) fun y7 => jB (jgR [2] 5 y7) fun y8 => jB (jgR [6] 3 (some a0)) fun y9 => jB (jgR [0] 1 y9) fun y10 => jB (jgR [2] 5 y10) fun y11 => jB (jaI 0 y11 x3) fun y12 => jB (jsI 0 y8 x3 y12) fun _ => jB (jgR [6] 3 (some a0)) fun y13 => jB (jgR [0] 2 y13) fun y14 => jB (jgR [2] 4 y14) fun y15 => jB (jgR [6] 3 (some a0)) fun y16 => jB (jgR [0] 1 y16) fun y17 => jB (jgR [2] 4 y17) fun y18 => jB (jaI 0 y18 x3) fun y19 => jB (jsI 0 y15 x3 y19) fun _ => jB (jgR [6] 3 (some a0)) fun y20 => jB (jgR [0] 2 y20) fun y21 => jB (jgI [2] 2 y21) fun y22 => jB (jpI [2] 2 y21 (y22 &&& ((1 <<< (x3 &&& 31)) ^^^ (-1)))) fun _ => fX6_takes_2 N a0 n x1 x2 (x3 + 1))
def fX6_takes (N : Nat) (a0 : Nat) (x1 : Int32) (x2 : Int32) : jM Unit := fX6_takes_2 N a0 N x1 x2 x2
theorem wX6_takes_96 {N : Nat} {r : Unit} (cx : jCx p s m args meth c cX6_takes "WornSkin$Lays" 4 (Option.none : Option Jvm.ClassFile.FieldType) D dA H0 hs.2.2.2.2) (e1 : h'.2.2.1 = hs.2.2.1 + mc) (e2 : h'.2.2.2.1 = hs.2.2.2.1 + ms) (a0 : Nat) (hth : jTh hs a0 6) : ∀ (h : jH) (H : Heap) (locs : List Loc) (cells slots : Nat) (ls : Array Slot), (fX6_takes_96 N a0).1 h = some (r, h') → jS D dA H0 hs h H locs cells slots → lv_has ls 4 [(0, .ref a0)] → W p l e { frames := 4, cells := mc, slots := ms, locals := 85 } s m args below meth c H locs cells slots (jQ D dA H0 below s (.returned none) h' mc ms) (F0 m 96 ls []) := by
  have hx := cx.1
  have hb := cx.2.1
  have hown := cx.2.2.2.1
  have hts := cx.2.2.2.2.1
  have hm : h'.2.2.1 ≤ hs.2.2.1 + mc ∧ h'.2.2.2.1 ≤ hs.2.2.2.1 + ms := ⟨Nat.le_of_eq e1, Nat.le_of_eq e2⟩
  intro h H locs cells slots ls hf hS hl
  unfold fX6_takes_96 at hf
  exact j_vret (pc := 96) cx hS hf e1 e2 dX6_takes_96
theorem wX6_takes_2 {N : Nat} {r : Unit} (cx : jCx p s m args meth c cX6_takes "WornSkin$Lays" 4 (Option.none : Option Jvm.ClassFile.FieldType) D dA H0 hs.2.2.2.2) (e1 : h'.2.2.1 = hs.2.2.1 + mc) (e2 : h'.2.2.2.1 = hs.2.2.2.1 + ms) (a0 : Nat) (hth : jTh hs a0 6) : ∀ (n : Nat) (x1 : Int32) (x2 : Int32) (x3 : Int32), ∀ (h : jH) (H : Heap) (locs : List Loc) (cells slots : Nat) (ls : Array Slot), (fX6_takes_2 N a0 n x1 x2 x3).1 h = some (r, h') → jS D dA H0 hs h H locs cells slots → lv_has ls 4 [(0, .ref a0), (1, .int x1), (2, .int x2), (3, .int x3)] → W p l e { frames := 4, cells := mc, slots := ms, locals := 85 } s m args below meth c H locs cells slots (jQ D dA H0 below s (.returned none) h' mc ms) (F0 m 2 ls []) := by
  have hx := cx.1
  have hb := cx.2.1
  have hown := cx.2.2.2.1
  have hts := cx.2.2.2.2.1
  have hm : h'.2.2.1 ≤ hs.2.2.1 + mc ∧ h'.2.2.2.1 ≤ hs.2.2.2.1 + ms := ⟨Nat.le_of_eq e1, Nat.le_of_eq e2⟩
  intro n
  induction n with
  | zero =>
    intro x1 x2 x3 h H locs cells slots ls hf hS hl
    exact jE_f hf
  | succ n ih =>
    intro x1 x2 x3 h H locs cells slots ls hf hS hl
    unfold fX6_takes_2 at hf
    refine lv_iload_n (pc := 2) hx hb dX6_takes_2 rfl (lv_at hl 3 rfl) ?_
    refine lv_iload_n (pc := 3) hx hb dX6_takes_3 rfl (lv_at hl 2 rfl) ?_
    refine lv_aload_n (pc := 4) hx hb dX6_takes_4 rfl (lv_at hl 0 rfl) ?_
    refine j_gR (pc := 5) cx hS hf fd_WornSkin_Lays_this_0 q416 dX6_takes_5 (fun y1 hf => ?_)
    refine j_gRN (pc := 8) cx hS hf fd_WornSkin_trial q431 dX6_takes_8 (fun y2 hf => ?_)
    refine lv_iload_n (pc := 11) hx hb dX6_takes_11 rfl (lv_at hl 1 rfl) ?_
    obtain ⟨b4, eb, hrc, hf⟩ := jrc_s hf
    refine j_nn (pc := 12) eb [.int x1] [.int x2, .int x3] rfl ?_
    obtain ⟨y3, h1, e9, hf⟩ := jB_some hf
    refine j_callV (pc := 12) (st1 := [va_rf y3, .int x2, .int x3]) (As := [.int x1]) (rest := [.int x2, .int x3]) cx hS rfl hl.1 hm (metX3_text l _ _ _ _ _ hrc e9) (jle hf) hrc rfl (lw_V q1528 q1194 q1195 q114 q1196) pdX3_text rfl rfl (Nat.le_of_ble_eq_true rfl) ⟨Nat.le_of_ble_eq_true rfl, Nat.le_of_ble_eq_true rfl⟩ dX6_takes_12 rfl (fun H locs cells slots hS => ?_)
    refine j_gI (pc := 15) cx hS hf fd_WornSkin_Text_lines q891 dX6_takes_15 (fun y5 hf => ?_)
    refine lv_iadd (pc := 18) hx hb dX6_takes_18 ?_
    refine lv_icmp_ge (pc := 19) (tgt := 96) hx hb dX6_takes_19 (by decide) (fun hc => ?_) (fun hc => ?_)
    · have hf := jI_t hf hc
      exact wX6_takes_96 cx e1 e2 a0 hth _ _ _ _ _ _ hf hS (lv_sub hl [0] rfl)
    · have hf := jI_f hf hc
      refine lv_aload_n (pc := 22) hx hb dX6_takes_22 rfl (lv_at hl 0 rfl) ?_
      refine j_gR (pc := 23) cx hS hf fd_WornSkin_Lays_this_0 q416 dX6_takes_23 (fun y6 hf => ?_)
      refine j_gRN (pc := 26) cx hS hf fd_WornSkin_trial q431 dX6_takes_26 (fun y7 hf => ?_)
      refine j_gR (pc := 29) cx hS hf fd_WornSkin_Shelf_many q267 dX6_takes_29 (fun y8 hf => ?_)
      refine lv_iload_n (pc := 32) hx hb dX6_takes_32 rfl (lv_at hl 3 rfl) ?_
      refine lv_aload_n (pc := 33) hx hb dX6_takes_33 rfl (lv_at hl 0 rfl) ?_
      refine j_gR (pc := 34) cx hS hf fd_WornSkin_Lays_this_0 q416 dX6_takes_34 (fun y9 hf => ?_)
      refine j_gRN (pc := 37) cx hS hf fd_WornSkin_shelf q429 dX6_takes_37 (fun y10 hf => ?_)
      refine j_gR (pc := 40) cx hS hf fd_WornSkin_Shelf_many q267 dX6_takes_40 (fun y11 hf => ?_)
      refine lv_iload_n (pc := 43) hx hb dX6_takes_43 rfl (lv_at hl 3 rfl) ?_
      refine j_aI (pc := 44) cx hS hf rfl dX6_takes_44 (fun y12 hf => ?_)
      refine j_sI (pc := 45) cx hS hf rfl dX6_takes_45 (fun h H locs hf hS => ?_)
      refine lv_aload_n (pc := 46) hx hb dX6_takes_46 rfl (lv_at hl 0 rfl) ?_
      refine j_gR (pc := 47) cx hS hf fd_WornSkin_Lays_this_0 q416 dX6_takes_47 (fun y13 hf => ?_)
      refine j_gRN (pc := 50) cx hS hf fd_WornSkin_trial q431 dX6_takes_50 (fun y14 hf => ?_)
      refine j_gRN (pc := 53) cx hS hf fd_WornSkin_Shelf_of q265 dX6_takes_53 (fun y15 hf => ?_)
      refine lv_iload_n (pc := 56) hx hb dX6_takes_56 rfl (lv_at hl 3 rfl) ?_
      refine lv_aload_n (pc := 57) hx hb dX6_takes_57 rfl (lv_at hl 0 rfl) ?_
      refine j_gR (pc := 58) cx hS hf fd_WornSkin_Lays_this_0 q416 dX6_takes_58 (fun y16 hf => ?_)
      refine j_gRN (pc := 61) cx hS hf fd_WornSkin_shelf q429 dX6_takes_61 (fun y17 hf => ?_)
      refine j_gRN (pc := 64) cx hS hf fd_WornSkin_Shelf_of q265 dX6_takes_64 (fun y18 hf => ?_)
      refine lv_iload_n (pc := 67) hx hb dX6_takes_67 rfl (lv_at hl 3 rfl) ?_
      refine j_aI (pc := 68) cx hS hf rfl dX6_takes_68 (fun y19 hf => ?_)
      refine j_sI (pc := 69) cx hS hf rfl dX6_takes_69 (fun h H locs hf hS => ?_)
      refine lv_aload_n (pc := 70) hx hb dX6_takes_70 rfl (lv_at hl 0 rfl) ?_
      refine j_gR (pc := 71) cx hS hf fd_WornSkin_Lays_this_0 q416 dX6_takes_71 (fun y20 hf => ?_)
      refine j_gRN (pc := 74) cx hS hf fd_WornSkin_trial q431 dX6_takes_74 (fun y21 hf => ?_)
      refine lv_dup (pc := 77) hx hb dX6_takes_77 (jrfc _) ?_
      refine j_gIN (pc := 78) cx hS hf fd_WornSkin_Shelf_open q261 dX6_takes_78 (fun y22 hf => ?_)
      refine lv_iconst (pc := 81) (v := 1) hx hb dX6_takes_81 rfl ?_
      refine lv_iload_n (pc := 82) hx hb dX6_takes_82 rfl (lv_at hl 3 rfl) ?_
      refine lv_ishl (pc := 83) hx hb dX6_takes_83 ?_
      refine lv_iconst (pc := 84) (v := (-1)) hx hb dX6_takes_84 rfl ?_
      refine lv_ixor (pc := 85) hx hb dX6_takes_85 ?_
      refine lv_iand (pc := 86) hx hb dX6_takes_86 ?_
      refine j_pIN (pc := 87) cx hS hf fp_WornSkin_Shelf_open q261 dX6_takes_87 (fun h H locs hf hS => ?_)
      refine lv_iinc (pc := 90) (v := (x3 + 1)) (lv' := [(3, .int (x3 + 1)), (0, .ref a0), (1, .int x1), (2, .int x2)]) hx hb dX6_takes_90 hl (k := 3) rfl rfl (Nat.le_of_ble_eq_true rfl) rfl (fun ls hl => ?_)
      refine lv_goto (pc := 93) (tgt := 2) hx hb dX6_takes_93 (by decide) ?_
      exact ih _ _ _ _ _ _ _ _ _ hf hS (lv_sub hl [1, 2, 3, 0] rfl)
theorem wX6_takes_0 {N : Nat} {r : Unit} (cx : jCx p s m args meth c cX6_takes "WornSkin$Lays" 4 (Option.none : Option Jvm.ClassFile.FieldType) D dA H0 hs.2.2.2.2) (e1 : h'.2.2.1 = hs.2.2.1 + mc) (e2 : h'.2.2.2.1 = hs.2.2.2.1 + ms) (a0 : Nat) (hth : jTh hs a0 6) : ∀ (x1 : Int32) (x2 : Int32), ∀ (h : jH) (H : Heap) (locs : List Loc) (cells slots : Nat) (ls : Array Slot), (fX6_takes N a0 x1 x2).1 h = some (r, h') → jS D dA H0 hs h H locs cells slots → lv_has ls 4 [(0, .ref a0), (1, .int x1), (2, .int x2)] → W p l e { frames := 4, cells := mc, slots := ms, locals := 85 } s m args below meth c H locs cells slots (jQ D dA H0 below s (.returned none) h' mc ms) (F0 m 0 ls []) := by
  have hx := cx.1
  have hb := cx.2.1
  have hown := cx.2.2.2.1
  have hts := cx.2.2.2.2.1
  have hm : h'.2.2.1 ≤ hs.2.2.1 + mc ∧ h'.2.2.2.1 ≤ hs.2.2.2.1 + ms := ⟨Nat.le_of_eq e1, Nat.le_of_eq e2⟩
  intro x1 x2 h H locs cells slots ls hf hS hl
  unfold fX6_takes at hf
  refine lv_iload_n (pc := 0) hx hb dX6_takes_0 rfl (lv_at hl 2 rfl) ?_
  refine lv_istore_n (pc := 1) (i := 3) (lv' := [(3, .int x2), (0, .ref a0), (1, .int x1), (2, .int x2)]) hx hb dX6_takes_1 rfl hl (Nat.le_of_ble_eq_true rfl) rfl (fun ls hl => ?_)
  exact wX6_takes_2 cx e1 e2 a0 hth N _ _ _ _ _ _ _ _ _ hf hS (lv_sub hl [1, 2, 3, 0] rfl)
theorem metX6_takes (l : Launch) (N : Nat) (a0 : Nat) (x1 : Int32) (x2 : Int32) (h h' : jH) (r : Unit) (hth : jcd h a0 = some 6) (hf : (fX6_takes N a0 x1 x2).1 h = some (r, h')) : jMet l yX6_takes (ws_ yX6_takes cX6_takes 4 (Option.none : Option Jvm.ClassFile.FieldType)) (4) (85) [.ref a0, .int x1, .int x2] h h' (.returned none) := by
  refine jStart rfl (jle hf) (Nat.le_of_ble_eq_true rfl) ?_
  intro p e s m below meth c D dA H0 mc ms ls cx hnm e1 e2 hS hl
  have hth := jTh.mk hS hth
  exact wX6_takes_0 cx e1 e2 a0 hth _ _ _ _ _ _ _ _ hf hS hl
def fX1_init (N : Nat) (a0 : Nat) : jM Unit := jB (jnw 1 13 [.null, .null, .null, .null, .null, .null, .null, .int 0, .null, .null, .null, .int 0, .int 0]) fun q1 => jB (fX2_init q1) fun _ => jB (jpR [0] 0 (some a0) (some q1)) fun _ => jB (jnw 2 6 [.null, .int 0, .int 0, .null, .null, .null]) fun q3 => jB (fX3_init q3) fun _ => jB (jnw 3 8 [.null, .null, .null, .null, .null, .int 0, .null, .null]) fun q5 => jB (fX4_init q5) fun _ => jB (jrc 2 (some q3)) fun _ => jB (fX3_begins N q3 (some q5)) fun y7 => jB (jpR [0] 1 (some a0) y7) fun _ => jB (jnw 2 6 [.null, .int 0, .int 0, .null, .null, .null]) fun q8 => jB (fX3_init q8) fun _ => jB (jpR [0] 2 (some a0) (some q8)) fun _ => jB (jnw 4 3 [.int 0, .null, .int 0]) fun q10 => jB (fJ2_init q10 2) fun _ => jB (jpR [0] 3 (some a0) (some q10)) fun _ => jB (jnw 4 3 [.int 0, .null, .int 0]) fun q12 => jB (fJ2_init q12 2) fun _ => jB (jpR [0] 4 (some a0) (some q12)) fun _ => jB (jnw 4 3 [.int 0, .null, .int 0]) fun q14 => jB (fJ2_init_2 q14) fun _ => jB (jpR [0] 5 (some a0) (some q14)) fun _ => jB (jnw 6 4 [.null, .null, .int 0, .null]) fun q16 => jB (fX6_init q16 (some a0)) fun _ => jB (jpR [0] 6 (some a0) (some q16)) fun _ => jB (jnaR 6 4) fun q18 => jB (jpR [0] 8 (some a0) (some q18)) fun _ => jR ()
theorem wX1_init_0 {N : Nat} {r : Unit} (cx : jCx p s m args meth c cX1_init "WornSkin" 1 (Option.none : Option Jvm.ClassFile.FieldType) D dA H0 hs.2.2.2.2) (e1 : h'.2.2.1 = hs.2.2.1 + mc) (e2 : h'.2.2.2.1 = hs.2.2.2.1 + ms) (hin : meth.name = "<init>") (a0 : Nat) : ∀ (h : jH) (H : Heap) (locs : List Loc) (cells slots : Nat) (ls : Array Slot), (fX1_init N a0).1 h = some (r, h') → jS D dA H0 hs h H locs cells slots → lv_has ls 1 [(0, .ref a0)] → W p l e { frames := 5, cells := mc, slots := ms, locals := 107 } s m args below meth c H locs cells slots (jQ D dA H0 below s (.returned none) h' mc ms) (F0 m 0 ls []) := by
  have hx := cx.1
  have hb := cx.2.1
  have hown := cx.2.2.2.1
  have hts := cx.2.2.2.2.1
  have hm : h'.2.2.1 ≤ hs.2.2.1 + mc ∧ h'.2.2.2.1 ≤ hs.2.2.2.1 + ms := ⟨Nat.le_of_eq e1, Nat.le_of_eq e2⟩
  intro h H locs cells slots ls hf hS hl
  unfold fX1_init at hf
  refine lv_aload_n (pc := 0) hx hb dX1_init_0 rfl (lv_at hl 0 rfl) ?_
  refine j_objInit (pc := 1) cx q170 q171 q172 hl.1 dX1_init_1 (Nat.le_of_ble_eq_true rfl) (Nat.le_of_ble_eq_true rfl) ?_
  refine lv_aload_n (pc := 4) hx hb dX1_init_4 rfl (lv_at hl 0 rfl) ?_
  refine j_new (pc := 5) cx hS hf cn_X2 q173 dX1_init_5 hm (fun q1 h H cells slots hf hS => ?_)
  refine lv_dup (pc := 8) hx hb dX1_init_8 rfl ?_
  obtain ⟨_, h1, e9, hf⟩ := jB_some hf
  refine j_callIN (pc := 9) (st1 := [.ref q1, .ref a0]) (As := []) (rest := [.ref q1, .ref a0]) cx hS rfl hl.1 hm (metX2_init l _ _ _ _ e9) (jle hf) rfl q177 q176 q175 q113 pdX2_init rfl rfl (Nat.le_of_ble_eq_true rfl) ⟨Nat.le_of_ble_eq_true rfl, Nat.le_of_ble_eq_true rfl⟩ dX1_init_9 rfl (fun H locs cells slots hS => ?_)
  refine j_pR (pc := 12) cx hS hf fp_WornSkin_reader (Or.inr ⟨rfl, hin, rfl⟩) q428 dX1_init_12 (fun h H locs hf hS => ?_)
  refine lv_aload_n (pc := 15) hx hb dX1_init_15 rfl (lv_at hl 0 rfl) ?_
  refine j_new (pc := 16) cx hS hf cn_X3 q249 dX1_init_16 hm (fun q3 h H cells slots hf hS => ?_)
  refine lv_dup (pc := 19) hx hb dX1_init_19 rfl ?_
  obtain ⟨_, h1, e9, hf⟩ := jB_some hf
  refine j_callIN (pc := 20) (st1 := [.ref q3, .ref a0]) (As := []) (rest := [.ref q3, .ref a0]) cx hS rfl hl.1 hm (metX3_init l _ _ _ _ e9) (jle hf) rfl q253 q252 q251 q114 pdX3_init rfl rfl (Nat.le_of_ble_eq_true rfl) ⟨Nat.le_of_ble_eq_true rfl, Nat.le_of_ble_eq_true rfl⟩ dX1_init_20 rfl (fun H locs cells slots hS => ?_)
  refine j_new (pc := 23) cx hS hf cn_X4 q282 dX1_init_23 hm (fun q5 h H cells slots hf hS => ?_)
  refine lv_dup (pc := 26) hx hb dX1_init_26 rfl ?_
  obtain ⟨_, h1, e9, hf⟩ := jB_some hf
  refine j_callIN (pc := 27) (st1 := [.ref q5, .ref q3, .ref a0]) (As := []) (rest := [.ref q5, .ref q3, .ref a0]) cx hS rfl hl.1 hm (metX4_init l _ _ _ _ e9) (jle hf) rfl q286 q285 q284 q115 pdX4_init rfl rfl (Nat.le_of_ble_eq_true rfl) ⟨Nat.le_of_ble_eq_true rfl, Nat.le_of_ble_eq_true rfl⟩ dX1_init_27 rfl (fun H locs cells slots hS => ?_)
  obtain ⟨hrc, hf⟩ := jrc_s2 hf
  obtain ⟨y7, h1, e9, hf⟩ := jB_some hf
  refine j_callV (pc := 30) (st1 := [va_rf y7, .ref a0]) (As := [.ref q5]) (rest := [.ref a0]) cx hS rfl hl.1 hm (metX3_begins l _ _ _ _ _ _ hrc e9) (jle hf) hrc rfl (lw_V q363 q364 q365 q114 q366) pdX3_begins rfl rfl (Nat.le_of_ble_eq_true rfl) ⟨Nat.le_of_ble_eq_true rfl, Nat.le_of_ble_eq_true rfl⟩ dX1_init_30 rfl (fun H locs cells slots hS => ?_)
  refine j_pR (pc := 33) cx hS hf fp_WornSkin_shelf (Or.inl rfl) q430 dX1_init_33 (fun h H locs hf hS => ?_)
  refine lv_aload_n (pc := 36) hx hb dX1_init_36 rfl (lv_at hl 0 rfl) ?_
  refine j_new (pc := 37) cx hS hf cn_X3 q249 dX1_init_37 hm (fun q8 h H cells slots hf hS => ?_)
  refine lv_dup (pc := 40) hx hb dX1_init_40 rfl ?_
  obtain ⟨_, h1, e9, hf⟩ := jB_some hf
  refine j_callIN (pc := 41) (st1 := [.ref q8, .ref a0]) (As := []) (rest := [.ref q8, .ref a0]) cx hS rfl hl.1 hm (metX3_init l _ _ _ _ e9) (jle hf) rfl q253 q252 q251 q114 pdX3_init rfl rfl (Nat.le_of_ble_eq_true rfl) ⟨Nat.le_of_ble_eq_true rfl, Nat.le_of_ble_eq_true rfl⟩ dX1_init_41 rfl (fun H locs cells slots hS => ?_)
  refine j_pR (pc := 44) cx hS hf fp_WornSkin_trial (Or.inr ⟨rfl, hin, rfl⟩) q432 dX1_init_44 (fun h H locs hf hS => ?_)
  refine lv_aload_n (pc := 47) hx hb dX1_init_47 rfl (lv_at hl 0 rfl) ?_
  refine j_new (pc := 48) cx hS hf cn_J2 q398 dX1_init_48 hm (fun q10 h H cells slots hf hS => ?_)
  refine lv_dup (pc := 51) hx hb dX1_init_51 rfl ?_
  refine lv_iconst (pc := 52) (v := 2) hx hb dX1_init_52 rfl ?_
  obtain ⟨_, h1, e9, hf⟩ := jB_some hf
  refine j_callI (pc := 53) (st1 := [.ref q10, .ref a0]) (As := [.int 2]) (rest := [.ref q10, .ref a0]) cx hS rfl hl.1 hm (metJ2_init l _ _ _ _ _ e9) (jle hf) rfl q292 q291 q399 q118 pdJ2_init rfl rfl (Nat.le_of_ble_eq_true rfl) ⟨Nat.le_of_ble_eq_true rfl, Nat.le_of_ble_eq_true rfl⟩ dX1_init_53 rfl (fun H locs cells slots hS => ?_)
  refine j_pR (pc := 56) cx hS hf fp_WornSkin_lines (Or.inl rfl) q433 dX1_init_56 (fun h H locs hf hS => ?_)
  refine lv_aload_n (pc := 59) hx hb dX1_init_59 rfl (lv_at hl 0 rfl) ?_
  refine j_new (pc := 60) cx hS hf cn_J2 q398 dX1_init_60 hm (fun q12 h H cells slots hf hS => ?_)
  refine lv_dup (pc := 63) hx hb dX1_init_63 rfl ?_
  refine lv_iconst (pc := 64) (v := 2) hx hb dX1_init_64 rfl ?_
  obtain ⟨_, h1, e9, hf⟩ := jB_some hf
  refine j_callI (pc := 65) (st1 := [.ref q12, .ref a0]) (As := [.int 2]) (rest := [.ref q12, .ref a0]) cx hS rfl hl.1 hm (metJ2_init l _ _ _ _ _ e9) (jle hf) rfl q292 q291 q399 q118 pdJ2_init rfl rfl (Nat.le_of_ble_eq_true rfl) ⟨Nat.le_of_ble_eq_true rfl, Nat.le_of_ble_eq_true rfl⟩ dX1_init_65 rfl (fun H locs cells slots hS => ?_)
  refine j_pR (pc := 68) cx hS hf fp_WornSkin_seen (Or.inl rfl) q434 dX1_init_68 (fun h H locs hf hS => ?_)
  refine lv_aload_n (pc := 71) hx hb dX1_init_71 rfl (lv_at hl 0 rfl) ?_
  refine j_new (pc := 72) cx hS hf cn_J2 q398 dX1_init_72 hm (fun q14 h H cells slots hf hS => ?_)
  refine lv_dup (pc := 75) hx hb dX1_init_75 rfl ?_
  obtain ⟨_, h1, e9, hf⟩ := jB_some hf
  refine j_callI (pc := 76) (st1 := [.ref q14, .ref a0]) (As := []) (rest := [.ref q14, .ref a0]) cx hS rfl hl.1 hm (metJ2_init_2 l _ _ _ _ e9) (jle hf) rfl q402 q401 q400 q118 pdJ2_init_2 rfl rfl (Nat.le_of_ble_eq_true rfl) ⟨Nat.le_of_ble_eq_true rfl, Nat.le_of_ble_eq_true rfl⟩ dX1_init_76 rfl (fun H locs cells slots hS => ?_)
  refine j_pR (pc := 79) cx hS hf fp_WornSkin_behind (Or.inr ⟨rfl, hin, rfl⟩) q435 dX1_init_79 (fun h H locs hf hS => ?_)
  refine lv_aload_n (pc := 82) hx hb dX1_init_82 rfl (lv_at hl 0 rfl) ?_
  refine j_new (pc := 83) cx hS hf cn_X6 q405 dX1_init_83 hm (fun q16 h H cells slots hf hS => ?_)
  refine lv_dup (pc := 86) hx hb dX1_init_86 rfl ?_
  refine lv_aload_n (pc := 87) hx hb dX1_init_87 rfl (lv_at hl 0 rfl) ?_
  obtain ⟨_, h1, e9, hf⟩ := jB_some hf
  refine j_callIN (pc := 88) (st1 := [.ref q16, .ref a0]) (As := [.ref a0]) (rest := [.ref q16, .ref a0]) cx hS rfl hl.1 hm (metX6_init l _ _ _ _ _ e9) (jle hf) rfl q409 q408 q407 q122 pdX6_init rfl rfl (Nat.le_of_ble_eq_true rfl) ⟨Nat.le_of_ble_eq_true rfl, Nat.le_of_ble_eq_true rfl⟩ dX1_init_88 rfl (fun H locs cells slots hS => ?_)
  refine j_pR (pc := 91) cx hS hf fp_WornSkin_lays (Or.inr ⟨rfl, hin, rfl⟩) q436 dX1_init_91 (fun h H locs hf hS => ?_)
  refine lv_aload_n (pc := 94) hx hb dX1_init_94 rfl (lv_at hl 0 rfl) ?_
  refine lv_iconst (pc := 95) (v := 4) hx hb dX1_init_95 rfl ?_
  refine j_naR (pc := 96) cx hS hf rfl q426 q427 dX1_init_96 hm (fun q18 h H cells slots hf hS => ?_)
  refine j_pRa (pc := 99) cx hS hf fp_WornSkin_marks (Or.inr ⟨rfl, hin, rfl⟩) q438 dX1_init_99 (fun h H locs hf hS => ?_)
  exact j_vret (pc := 102) cx hS hf e1 e2 dX1_init_102
theorem metX1_init (l : Launch) (N : Nat) (a0 : Nat) (h h' : jH) (r : Unit) (hf : (fX1_init N a0).1 h = some (r, h')) : jMet l yX1_init (ws_ yX1_init cX1_init 1 (Option.none : Option Jvm.ClassFile.FieldType)) (5) (107) [.ref a0] h h' (.returned none) := by
  refine jStart rfl (jle hf) (Nat.le_of_ble_eq_true rfl) ?_
  intro p e s m below meth c D dA H0 mc ms ls cx hnm e1 e2 hS hl
  exact wX1_init_0 cx e1 e2 hnm a0  _ _ _ _ _ _ hf hS hl
def fX0_rests_17 (N : Nat) (v0 : Option Nat) : jM Int32 := jR 1
def fX0_rests (N : Nat) (x0 : Option Nat) (x1 : Int32) (x2 : Int32) (x3 : Int32) (x4 : Int32) (x5 : Option Nat) : jM Int32 := jB (jrc 0 x0) fun b2 => jBH (fX1_rests N b2 x1 x2 x3 x4) (fun x9 => jB (jrc 31 (some x9)) fun _ => fX0_rests_17 N (some x9)) fun y1 => jB (jsL 1 x5 0 (y1.toInt64)) fun _ => jR 0
theorem wX0_rests_17 {N : Nat} {r : Int32} (cx : jCx p s m args meth c cX0_rests "WornSkinLaw" 7 (Option.some Jvm.ClassFile.FieldType.int) D dA H0 hs.2.2.2.2) (e1 : h'.2.2.1 = hs.2.2.1 + mc) (e2 : h'.2.2.2.1 = hs.2.2.2.1 + ms) (hfl : l.stackTraces = false) (ht : c.exceptionTable.toList = tableOf [(0, 14, 17, 13)]) : ∀ (v0 : Option Nat), ∀ (h : jH) (H : Heap) (locs : List Loc) (cells slots : Nat) (ls : Array Slot), (fX0_rests_17 N v0).1 h = some (r, h') → jS D dA H0 hs h H locs cells slots → lv_has ls 7 [] → W p l e { frames := 8, cells := mc, slots := ms, locals := 134 } s m args below meth c H locs cells slots (jQ D dA H0 below s (.returned (some (.int r))) h' mc ms) (F0 m 17 ls [va_rf v0]) := by
  have hx := cx.1
  have hb := cx.2.1
  have hown := cx.2.2.2.1
  have hts := cx.2.2.2.2.1
  have hm : h'.2.2.1 ≤ hs.2.2.1 + mc ∧ h'.2.2.2.1 ≤ hs.2.2.2.1 + ms := ⟨Nat.le_of_eq e1, Nat.le_of_eq e2⟩
  intro v0 h H locs cells slots ls hf hS hl
  unfold fX0_rests_17 at hf
  refine j_astore (pc := 17) (i := 6) (r := v0) (lv' := [(6, va_rf v0)]) hx hb dX0_rests_17 hl (Nat.le_of_ble_eq_true rfl) rfl (fun ls hl => ?_)
  refine lv_iconst (pc := 19) (v := 1) hx hb dX0_rests_19 rfl ?_
  exact j_iret (pc := 20) cx hS hf e1 e2 dX0_rests_20
theorem wX0_rests_0 {N : Nat} {r : Int32} (cx : jCx p s m args meth c cX0_rests "WornSkinLaw" 7 (Option.some Jvm.ClassFile.FieldType.int) D dA H0 hs.2.2.2.2) (e1 : h'.2.2.1 = hs.2.2.1 + mc) (e2 : h'.2.2.2.1 = hs.2.2.2.1 + ms) (hfl : l.stackTraces = false) (ht : c.exceptionTable.toList = tableOf [(0, 14, 17, 13)]) : ∀ (x0 : Option Nat) (x1 : Int32) (x2 : Int32) (x3 : Int32) (x4 : Int32) (x5 : Option Nat), ∀ (h : jH) (H : Heap) (locs : List Loc) (cells slots : Nat) (ls : Array Slot), (fX0_rests N x0 x1 x2 x3 x4 x5).1 h = some (r, h') → jS D dA H0 hs h H locs cells slots → lv_has ls 7 [(0, va_rf x0), (1, .int x1), (2, .int x2), (3, .int x3), (4, .int x4), (5, va_rf x5)] → W p l e { frames := 8, cells := mc, slots := ms, locals := 134 } s m args below meth c H locs cells slots (jQ D dA H0 below s (.returned (some (.int r))) h' mc ms) (F0 m 0 ls []) := by
  have hx := cx.1
  have hb := cx.2.1
  have hown := cx.2.2.2.1
  have hts := cx.2.2.2.2.1
  have hm : h'.2.2.1 ≤ hs.2.2.1 + mc ∧ h'.2.2.2.1 ≤ hs.2.2.2.1 + ms := ⟨Nat.le_of_eq e1, Nat.le_of_eq e2⟩
  intro x0 x1 x2 x3 x4 x5 h H locs cells slots ls hf hS hl
  unfold fX0_rests at hf
  refine j_aload (pc := 0) (r := x5) hx hb dX0_rests_0 (lv_at hl 5 rfl) ?_
  refine lv_iconst (pc := 2) (v := 0) hx hb dX0_rests_2 rfl ?_
  refine j_aload_n (pc := 3) (r := x0) hx hb dX0_rests_3 rfl (lv_at hl 0 rfl) ?_
  refine lv_iload_n (pc := 4) hx hb dX0_rests_4 rfl (lv_at hl 1 rfl) ?_
  refine lv_iload_n (pc := 5) hx hb dX0_rests_5 rfl (lv_at hl 2 rfl) ?_
  refine lv_iload_n (pc := 6) hx hb dX0_rests_6 rfl (lv_at hl 3 rfl) ?_
  refine lv_iload (pc := 7) hx hb dX0_rests_7 (lv_at hl 4 rfl) ?_
  obtain ⟨b2, eb, hrc, hf⟩ := jrc_s hf
  refine j_nn (pc := 9) eb [.int x4, .int x3, .int x2, .int x1] [.int 0, va_rf x5] rfl ?_
  rcases jBH_some hf with ⟨y1, h1, e9, hf⟩ | ⟨x9, h1, e9, hf⟩
  rotate_left
  · obtain ⟨hxc, hf⟩ := jrc_s2 hf
    exact j_callVX (pc := 9) (As := [.int x1, .int x2, .int x3, .int x4]) (rest := [.int 0, va_rf x5]) cx hS rfl hl.1 hm (metX1_rests l hfl _ _ _ _ _ _ _ _ _ hrc e9) (jle hf) hrc rfl (lw_V q1645 q1646 q1647 q112 q1648) pdX1_rests rfl rfl (by simp only [List.map_cons, List.map_nil, List.sum_cons, List.sum_nil, jrfc]; exact Nat.le_of_ble_eq_true rfl) ⟨Nat.le_of_ble_eq_true rfl, Nat.le_of_ble_eq_true rfl⟩ dX0_rests_9 (fun H locs cells slots hS => j_caught cx hS hxc ht rfl (by decide) rfl q1644 (wX0_rests_17 cx e1 e2 hfl ht _ _ _ _ _ _ _ hf hS (lv_sub hl [] rfl)))
  refine j_callV (pc := 9) (st1 := [.int y1, .int 0, va_rf x5]) (As := [.int x1, .int x2, .int x3, .int x4]) (rest := [.int 0, va_rf x5]) cx hS rfl hl.1 hm (metX1_rests l hfl _ _ _ _ _ _ _ _ _ hrc e9) (jle hf) hrc rfl (lw_V q1645 q1646 q1647 q112 q1648) pdX1_rests rfl rfl (by simp only [List.map_cons, List.map_nil, List.sum_cons, List.sum_nil, jrfc]; exact Nat.le_of_ble_eq_true rfl) ⟨Nat.le_of_ble_eq_true rfl, Nat.le_of_ble_eq_true rfl⟩ dX0_rests_9 rfl (fun H locs cells slots hS => ?_)
  refine lv_i2l (pc := 12) (v := y1.toInt64) hx hb dX0_rests_12 rfl ?_
  refine j_sL (pc := 13) cx hS hf rfl dX0_rests_13 (fun h H locs hf hS => ?_)
  refine lv_goto (pc := 14) (tgt := 21) hx hb dX0_rests_14 (by decide) ?_
  refine lv_iconst (pc := 21) (v := 0) hx hb dX0_rests_21 rfl ?_
  exact j_iret (pc := 22) cx hS hf e1 e2 dX0_rests_22
theorem metX0_rests (l : Launch) (hfl : l.stackTraces = false) (N : Nat) (x0 : Option Nat) (x1 : Int32) (x2 : Int32) (x3 : Int32) (x4 : Int32) (x5 : Option Nat) (h h' : jH) (r : Int32) (hf : (fX0_rests N x0 x1 x2 x3 x4 x5).1 h = some (r, h')) : jMet l yX0_rests (wsW_ yX0_rests cX0_rests 7 (Option.some Jvm.ClassFile.FieldType.int) [(0, 14, 17, 13)]) (8) (134) [va_rf x0, .int x1, .int x2, .int x3, .int x4, va_rf x5] h h' (.returned (some (.int r))) := by
  refine jStartH rfl (jle hf) (by cases x0 <;> cases x5 <;> exact Nat.le_of_ble_eq_true rfl) ?_
  intro p e s m below meth c D dA H0 mc ms ls ht cx hnm e1 e2 hS hl
  have hl : lv_has ls 7 [(0, va_rf x0), (1, .int x1), (2, .int x2), (3, .int x3), (4, .int x4), (5, va_rf x5)] := by cases x0 <;> cases x5 <;> exact hl
  exact wX0_rests_0 cx e1 e2 hfl ht _ _ _ _ _ _ _ _ _ _ _ _ hf hS hl
def fX6_goes_140 (N : Nat) (rec : Int32 → Int32 → jM Unit) (a0 : Nat) (x1 : Int32) (x2 : Int32) : jM Unit := jB (jgR [6] 0 (some a0)) fun y1 => jB (jsI 0 y1 x1 (-1)) fun _ => jB (rec (x1 + 1) x2) fun _ => jR ()
def fX6_goes_134 (N : Nat) (rec : Int32 → Int32 → jM Unit) (k53 : Int32 → Int32 → Int32 → jM Unit) (a0 : Nat) (x1 : Int32) (x2 : Int32) (x3 : Int32) : jM Unit := k53 x1 x2 (x3 + 1)
def fX6_goes_53 (N : Nat) (rec : Int32 → Int32 → jM Unit) (a0 : Nat) : Nat → Int32 → Int32 → Int32 → jM Unit
  | 0, _, _, _ => jE
  | n + 1, x1, x2, x3 => jB (jgR [6] 3 (some a0)) fun y1 => jB (jrc 0 y1) fun b3 => jB (fX1_skins b3) fun y2 => if (y2 * 6) ≤ x3 then (fX6_goes_140 N rec a0 x1 x2) else (jB (jgR [6] 3 (some a0)) fun y4 => jB (jgR [0] 2 y4) fun y5 => jB (jnz 6) fun _ => jB (jnz 6) fun _ => jB (jrc 2 y5) fun b7 => jB (fX3_mayWrite N b7 x1 (x3 / 6) (x3 - x3 / 6 * 6)) fun y6 => if y6 = 0 then (fX6_goes_134 N rec (fX6_goes_53 N rec a0 n) a0 x1 x2 x3) else (jB (jgR [6] 0 (some a0)) fun y8 => jB (jsI 0 y8 x1 x3) fun _ => jB (jgR [6] 3 (some a0)) fun y9 => jB (jgR [0] 2 y9) fun y10 => jB (jnz 6) fun _ => jB (jnz 6) fun _ => jB (jrc 2 y10) fun b12 => jB (fX3_writes N b12 x1 (x3 / 6) (x3 - x3 / 6 * 6)) fun _ => jB (rec (x1 + 1) (x2 + 1)) fun _ => jB (fX6_takes N a0 x1 x3) fun _ => fX6_goes_134 N rec (fX6_goes_53 N rec a0 n) a0 x1 x2 x3))
def gX6_goes (N : Nat) (rec : Int32 → Int32 → jM Unit) (a0 : Nat) (x1 : Int32) (x2 : Int32) : jM Unit := jB (jgR [6] 3 (some a0)) fun y1 => jB (jrc 0 y1) fun b3 => jB (fX1_texts b3) fun y2 => jB (jgI [6] 2 (some a0)) fun y4 => if y4 < ((x2 + y2) - x1) then (jB (jgR [6] 3 (some a0)) fun y5 => jB (jrc 0 y5) fun b7 => jB (fX1_texts b7) fun y6 => if x1 = y6 then (jB (jpI [6] 2 (some a0) x2) fun _ => jB (jgR [6] 0 (some a0)) fun y8 => jB (jgR [6] 1 (some a0)) fun y9 => jB (jcpI 0 y8 0 y9 0 6) fun _ => jR ()) else (fX6_goes_53 N rec a0 N x1 x2 0)) else (jR ())
theorem wX6_goes_140 {N : Nat} {rec : Int32 → Int32 → jM Unit} {FR LO : Nat} {r : Unit} (cx : jCx p s m args meth c cX6_goes "WornSkin$Lays" 4 (Option.none : Option Jvm.ClassFile.FieldType) D dA H0 hs.2.2.2.2) (e1 : h'.2.2.1 = hs.2.2.1 + mc) (e2 : h'.2.2.2.1 = hs.2.2.2.1 + ms) (a0 : Nat) (hth : jTh hs a0 6) (hrec : ∀ (x1 : Int32) (x2 : Int32) (h : jH) (r : Unit) (h1 : jH), (rec x1 x2).1 h = some (r, h1) → jcd h a0 = some 6 → jMet l yX6_goes (ws_ yX6_goes cX6_goes 4 (Option.none : Option Jvm.ClassFile.FieldType)) FR LO [.ref a0, .int x1, .int x2] h h1 (.returned none)) : ∀ (x1 : Int32) (x2 : Int32), ∀ (h : jH) (H : Heap) (locs : List Loc) (cells slots : Nat) (ls : Array Slot), (fX6_goes_140 N rec a0 x1 x2).1 h = some (r, h') → jS D dA H0 hs h H locs cells slots → lv_has ls 4 [(0, .ref a0), (1, .int x1), (2, .int x2)] → W p l e { frames := FR + 6, cells := mc, slots := ms, locals := LO + 132 } s m args below meth c H locs cells slots (jQ D dA H0 below s (.returned none) h' mc ms) (F0 m 140 ls []) := by
  have hx := cx.1
  have hb := cx.2.1
  have hown := cx.2.2.2.1
  have hts := cx.2.2.2.2.1
  have hm : h'.2.2.1 ≤ hs.2.2.1 + mc ∧ h'.2.2.2.1 ≤ hs.2.2.2.1 + ms := ⟨Nat.le_of_eq e1, Nat.le_of_eq e2⟩
  intro x1 x2 h H locs cells slots ls hf hS hl
  unfold fX6_goes_140 at hf
  refine lv_aload_n (pc := 140) hx hb dX6_goes_140 rfl (lv_at hl 0 rfl) ?_
  refine j_gR (pc := 141) cx hS hf fd_WornSkin_Lays_row q411 dX6_goes_141 (fun y1 hf => ?_)
  refine lv_iload_n (pc := 144) hx hb dX6_goes_144 rfl (lv_at hl 1 rfl) ?_
  refine lv_iconst (pc := 145) (v := (-1)) hx hb dX6_goes_145 rfl ?_
  refine j_sI (pc := 146) cx hS hf rfl dX6_goes_146 (fun h H locs hf hS => ?_)
  refine lv_aload_n (pc := 147) hx hb dX6_goes_147 rfl (lv_at hl 0 rfl) ?_
  refine lv_iload_n (pc := 148) hx hb dX6_goes_148 rfl (lv_at hl 1 rfl) ?_
  refine lv_iconst (pc := 149) (v := 1) hx hb dX6_goes_149 rfl ?_
  refine lv_iadd (pc := 150) hx hb dX6_goes_150 ?_
  refine lv_iload_n (pc := 151) hx hb dX6_goes_151 rfl (lv_at hl 2 rfl) ?_
  obtain ⟨_, h1, e9, hf⟩ := jB_some hf
  refine j_callV (pc := 152) (st1 := []) (As := [.int (x1 + 1), .int x2]) (rest := []) cx hS rfl hl.1 hm (hrec _ _ _ _ _ e9 (hth.at hS)) (jle hf) (hth.at hS) rfl (lw_V q1515 q1517 qs46 q122 q1518) pdX6_goes rfl rfl (Nat.le_of_ble_eq_true rfl) ⟨jfr2 (Nat.le_of_ble_eq_true rfl), jlo2 (Nat.le_of_ble_eq_true rfl)⟩ dX6_goes_152 rfl (fun H locs cells slots hS => ?_)
  exact j_vret (pc := 155) cx hS hf e1 e2 dX6_goes_155
theorem wX6_goes_134 {N : Nat} {rec : Int32 → Int32 → jM Unit} {FR LO : Nat} {k53 : Int32 → Int32 → Int32 → jM Unit} {r : Unit} (cx : jCx p s m args meth c cX6_goes "WornSkin$Lays" 4 (Option.none : Option Jvm.ClassFile.FieldType) D dA H0 hs.2.2.2.2) (e1 : h'.2.2.1 = hs.2.2.1 + mc) (e2 : h'.2.2.2.1 = hs.2.2.2.1 + ms) (a0 : Nat) (hth : jTh hs a0 6) (hrec : ∀ (x1 : Int32) (x2 : Int32) (h : jH) (r : Unit) (h1 : jH), (rec x1 x2).1 h = some (r, h1) → jcd h a0 = some 6 → jMet l yX6_goes (ws_ yX6_goes cX6_goes 4 (Option.none : Option Jvm.ClassFile.FieldType)) FR LO [.ref a0, .int x1, .int x2] h h1 (.returned none)) (hk53 : ∀ (x1 : Int32) (x2 : Int32) (x3 : Int32), ∀ (h : jH) (H : Heap) (locs : List Loc) (cells slots : Nat) (ls : Array Slot), (k53 x1 x2 x3).1 h = some (r, h') → jS D dA H0 hs h H locs cells slots → lv_has ls 4 [(0, .ref a0), (1, .int x1), (2, .int x2), (3, .int x3)] → W p l e { frames := FR + 6, cells := mc, slots := ms, locals := LO + 132 } s m args below meth c H locs cells slots (jQ D dA H0 below s (.returned none) h' mc ms) (F0 m 53 ls [])) : ∀ (x1 : Int32) (x2 : Int32) (x3 : Int32), ∀ (h : jH) (H : Heap) (locs : List Loc) (cells slots : Nat) (ls : Array Slot), (fX6_goes_134 N rec k53 a0 x1 x2 x3).1 h = some (r, h') → jS D dA H0 hs h H locs cells slots → lv_has ls 4 [(0, .ref a0), (1, .int x1), (2, .int x2), (3, .int x3)] → W p l e { frames := FR + 6, cells := mc, slots := ms, locals := LO + 132 } s m args below meth c H locs cells slots (jQ D dA H0 below s (.returned none) h' mc ms) (F0 m 134 ls []) := by
  have hx := cx.1
  have hb := cx.2.1
  have hown := cx.2.2.2.1
  have hts := cx.2.2.2.2.1
  have hm : h'.2.2.1 ≤ hs.2.2.1 + mc ∧ h'.2.2.2.1 ≤ hs.2.2.2.1 + ms := ⟨Nat.le_of_eq e1, Nat.le_of_eq e2⟩
  intro x1 x2 x3 h H locs cells slots ls hf hS hl
  unfold fX6_goes_134 at hf
  refine lv_iinc (pc := 134) (v := (x3 + 1)) (lv' := [(3, .int (x3 + 1)), (0, .ref a0), (1, .int x1), (2, .int x2)]) hx hb dX6_goes_134 hl (k := 3) rfl rfl (Nat.le_of_ble_eq_true rfl) rfl (fun ls hl => ?_)
  refine lv_goto (pc := 137) (tgt := 53) hx hb dX6_goes_137 (by decide) ?_
  exact hk53 _ _ _ _ _ _ _ _ _ hf hS (lv_sub hl [1, 2, 3, 0] rfl)
theorem wX6_goes_53 {N : Nat} {rec : Int32 → Int32 → jM Unit} {FR LO : Nat} {r : Unit} (cx : jCx p s m args meth c cX6_goes "WornSkin$Lays" 4 (Option.none : Option Jvm.ClassFile.FieldType) D dA H0 hs.2.2.2.2) (e1 : h'.2.2.1 = hs.2.2.1 + mc) (e2 : h'.2.2.2.1 = hs.2.2.2.1 + ms) (a0 : Nat) (hth : jTh hs a0 6) (hrec : ∀ (x1 : Int32) (x2 : Int32) (h : jH) (r : Unit) (h1 : jH), (rec x1 x2).1 h = some (r, h1) → jcd h a0 = some 6 → jMet l yX6_goes (ws_ yX6_goes cX6_goes 4 (Option.none : Option Jvm.ClassFile.FieldType)) FR LO [.ref a0, .int x1, .int x2] h h1 (.returned none)) : ∀ (n : Nat) (x1 : Int32) (x2 : Int32) (x3 : Int32), ∀ (h : jH) (H : Heap) (locs : List Loc) (cells slots : Nat) (ls : Array Slot), (fX6_goes_53 N rec a0 n x1 x2 x3).1 h = some (r, h') → jS D dA H0 hs h H locs cells slots → lv_has ls 4 [(0, .ref a0), (1, .int x1), (2, .int x2), (3, .int x3)] → W p l e { frames := FR + 6, cells := mc, slots := ms, locals := LO + 132 } s m args below meth c H locs cells slots (jQ D dA H0 below s (.returned none) h' mc ms) (F0 m 53 ls []) := by
  have hx := cx.1
  have hb := cx.2.1
  have hown := cx.2.2.2.1
  have hts := cx.2.2.2.2.1
  have hm : h'.2.2.1 ≤ hs.2.2.1 + mc ∧ h'.2.2.2.1 ≤ hs.2.2.2.1 + ms := ⟨Nat.le_of_eq e1, Nat.le_of_eq e2⟩
  intro n
  induction n with
  | zero =>
    intro x1 x2 x3 h H locs cells slots ls hf hS hl
    exact jE_f hf
  | succ n ih =>
    intro x1 x2 x3 h H locs cells slots ls hf hS hl
    unfold fX6_goes_53 at hf
    refine lv_iload_n (pc := 53) hx hb dX6_goes_53 rfl (lv_at hl 3 rfl) ?_
    refine lv_aload_n (pc := 54) hx hb dX6_goes_54 rfl (lv_at hl 0 rfl) ?_
    refine j_gR (pc := 55) cx hS hf fd_WornSkin_Lays_this_0 q416 dX6_goes_55 (fun y1 hf => ?_)
    obtain ⟨b3, eb, hrc, hf⟩ := jrc_s hf
    refine j_nn (pc := 58) eb [] [.int x3] rfl ?_
    obtain ⟨y2, h1, e9, hf⟩ := jB_some hf
    refine j_callVN (pc := 58) (st1 := [.int y2, .int x3]) (As := []) (rest := [.int x3]) cx hS rfl hl.1 hm (metX1_skins l _ _ _ _ hrc e9) (jle hf) hrc rfl q1156 q1155 qs34 q1521 q112 pdX1_skins rfl rfl (Nat.le_of_ble_eq_true rfl) ⟨jfr1 (Nat.le_of_ble_eq_true rfl), jfr1 (Nat.le_of_ble_eq_true rfl)⟩ dX6_goes_58 rfl (fun H locs cells slots hS => ?_)
    refine lv_bipush (pc := 61) (v := 6) hx hb dX6_goes_61 rfl ?_
    refine lv_imul (pc := 63) hx hb dX6_goes_63 ?_
    refine lv_icmp_ge (pc := 64) (tgt := 140) hx hb dX6_goes_64 (by decide) (fun hc => ?_) (fun hc => ?_)
    · have hf := jI_t hf hc
      exact wX6_goes_140 cx e1 e2 a0 hth hrec _ _ _ _ _ _ _ _ hf hS (lv_sub hl [0, 1, 2] rfl)
    · have hf := jI_f hf hc
      refine lv_aload_n (pc := 67) hx hb dX6_goes_67 rfl (lv_at hl 0 rfl) ?_
      refine j_gR (pc := 68) cx hS hf fd_WornSkin_Lays_this_0 q416 dX6_goes_68 (fun y4 hf => ?_)
      refine j_gRN (pc := 71) cx hS hf fd_WornSkin_trial q431 dX6_goes_71 (fun y5 hf => ?_)
      refine lv_iload_n (pc := 74) hx hb dX6_goes_74 rfl (lv_at hl 1 rfl) ?_
      refine lv_iload_n (pc := 75) hx hb dX6_goes_75 rfl (lv_at hl 3 rfl) ?_
      refine lv_bipush (pc := 76) (v := 6) hx hb dX6_goes_76 rfl ?_
      obtain ⟨hne, hf⟩ := jnz_s hf
      refine lv_idiv (pc := 78) hx hb dX6_goes_78 hne ?_
      refine lv_iload_n (pc := 79) hx hb dX6_goes_79 rfl (lv_at hl 3 rfl) ?_
      refine lv_bipush (pc := 80) (v := 6) hx hb dX6_goes_80 rfl ?_
      obtain ⟨hne, hf⟩ := jnz_s hf
      refine lv_irem (pc := 82) hx hb dX6_goes_82 hne ?_
      obtain ⟨b7, eb, hrc, hf⟩ := jrc_s hf
      refine j_nn (pc := 83) eb [.int (x3 - x3 / 6 * 6), .int (x3 / 6), .int x1] [] rfl ?_
      obtain ⟨y6, h1, e9, hf⟩ := jB_some hf
      refine j_callV (pc := 83) (st1 := [.int y6]) (As := [.int x1, .int (x3 / 6), .int (x3 - x3 / 6 * 6)]) (rest := []) cx hS rfl hl.1 hm (metX3_mayWrite l _ _ _ _ _ _ _ _ hrc e9) (jle hf) hrc rfl (lw_V q1522 q1337 q1338 q114 q1339) pdX3_mayWrite rfl rfl (Nat.le_of_ble_eq_true rfl) ⟨jfr1 (Nat.le_of_ble_eq_true rfl), jfr1 (Nat.le_of_ble_eq_true rfl)⟩ dX6_goes_83 rfl (fun H locs cells slots hS => ?_)
      refine lv_if_ne (pc := 86) (tgt := 92) hx hb dX6_goes_86 (by decide) (fun hc => ?_) (fun hc => ?_)
      · have hf := jI_f hf hc
        refine lv_aload_n (pc := 92) hx hb dX6_goes_92 rfl (lv_at hl 0 rfl) ?_
        refine j_gR (pc := 93) cx hS hf fd_WornSkin_Lays_row q411 dX6_goes_93 (fun y8 hf => ?_)
        refine lv_iload_n (pc := 96) hx hb dX6_goes_96 rfl (lv_at hl 1 rfl) ?_
        refine lv_iload_n (pc := 97) hx hb dX6_goes_97 rfl (lv_at hl 3 rfl) ?_
        refine j_sI (pc := 98) cx hS hf rfl dX6_goes_98 (fun h H locs hf hS => ?_)
        refine lv_aload_n (pc := 99) hx hb dX6_goes_99 rfl (lv_at hl 0 rfl) ?_
        refine j_gR (pc := 100) cx hS hf fd_WornSkin_Lays_this_0 q416 dX6_goes_100 (fun y9 hf => ?_)
        refine j_gRN (pc := 103) cx hS hf fd_WornSkin_trial q431 dX6_goes_103 (fun y10 hf => ?_)
        refine lv_iload_n (pc := 106) hx hb dX6_goes_106 rfl (lv_at hl 1 rfl) ?_
        refine lv_iload_n (pc := 107) hx hb dX6_goes_107 rfl (lv_at hl 3 rfl) ?_
        refine lv_bipush (pc := 108) (v := 6) hx hb dX6_goes_108 rfl ?_
        obtain ⟨hne, hf⟩ := jnz_s hf
        refine lv_idiv (pc := 110) hx hb dX6_goes_110 hne ?_
        refine lv_iload_n (pc := 111) hx hb dX6_goes_111 rfl (lv_at hl 3 rfl) ?_
        refine lv_bipush (pc := 112) (v := 6) hx hb dX6_goes_112 rfl ?_
        obtain ⟨hne, hf⟩ := jnz_s hf
        refine lv_irem (pc := 114) hx hb dX6_goes_114 hne ?_
        obtain ⟨b12, eb, hrc, hf⟩ := jrc_s hf
        refine j_nn (pc := 115) eb [.int (x3 - x3 / 6 * 6), .int (x3 / 6), .int x1] [] rfl ?_
        obtain ⟨_, h1, e9, hf⟩ := jB_some hf
        refine j_callV (pc := 115) (st1 := []) (As := [.int x1, .int (x3 / 6), .int (x3 - x3 / 6 * 6)]) (rest := []) cx hS rfl hl.1 hm (metX3_writes l _ _ _ _ _ _ _ _ hrc e9) (jle hf) hrc rfl (lw_V q1523 q1374 q1375 q114 q1376) pdX3_writes rfl rfl (Nat.le_of_ble_eq_true rfl) ⟨jfr1 (Nat.le_of_ble_eq_true rfl), jfr1 (Nat.le_of_ble_eq_true rfl)⟩ dX6_goes_115 rfl (fun H locs cells slots hS => ?_)
        refine lv_aload_n (pc := 118) hx hb dX6_goes_118 rfl (lv_at hl 0 rfl) ?_
        refine lv_iload_n (pc := 119) hx hb dX6_goes_119 rfl (lv_at hl 1 rfl) ?_
        refine lv_iconst (pc := 120) (v := 1) hx hb dX6_goes_120 rfl ?_
        refine lv_iadd (pc := 121) hx hb dX6_goes_121 ?_
        refine lv_iload_n (pc := 122) hx hb dX6_goes_122 rfl (lv_at hl 2 rfl) ?_
        refine lv_iconst (pc := 123) (v := 1) hx hb dX6_goes_123 rfl ?_
        refine lv_iadd (pc := 124) hx hb dX6_goes_124 ?_
        obtain ⟨_, h1, e9, hf⟩ := jB_some hf
        refine j_callV (pc := 125) (st1 := []) (As := [.int (x1 + 1), .int (x2 + 1)]) (rest := []) cx hS rfl hl.1 hm (hrec _ _ _ _ _ e9 (hth.at hS)) (jle hf) (hth.at hS) rfl (lw_V q1515 q1517 qs46 q122 q1518) pdX6_goes rfl rfl (Nat.le_of_ble_eq_true rfl) ⟨jfr2 (Nat.le_of_ble_eq_true rfl), jlo2 (Nat.le_of_ble_eq_true rfl)⟩ dX6_goes_125 rfl (fun H locs cells slots hS => ?_)
        refine lv_aload_n (pc := 128) hx hb dX6_goes_128 rfl (lv_at hl 0 rfl) ?_
        refine lv_iload_n (pc := 129) hx hb dX6_goes_129 rfl (lv_at hl 1 rfl) ?_
        refine lv_iload_n (pc := 130) hx hb dX6_goes_130 rfl (lv_at hl 3 rfl) ?_
        obtain ⟨_, h1, e9, hf⟩ := jB_some hf
        refine j_callV (pc := 131) (st1 := []) (As := [.int x1, .int x3]) (rest := []) cx hS rfl hl.1 hm (metX6_takes l _ _ _ _ _ _ _ (hth.at hS) e9) (jle hf) (hth.at hS) rfl (lw_V q1524 q1526 qs47 q122 q1527) pdX6_takes rfl rfl (Nat.le_of_ble_eq_true rfl) ⟨jfr1 (Nat.le_of_ble_eq_true rfl), jfr1 (Nat.le_of_ble_eq_true rfl)⟩ dX6_goes_131 rfl (fun H locs cells slots hS => ?_)
        exact wX6_goes_134 cx e1 e2 a0 hth hrec ih _ _ _ _ _ _ _ _ _ hf hS hl
      · have hf := jI_t hf hc
        refine lv_goto (pc := 89) (tgt := 134) hx hb dX6_goes_89 (by decide) ?_
        exact wX6_goes_134 cx e1 e2 a0 hth hrec ih _ _ _ _ _ _ _ _ _ hf hS hl
theorem wX6_goes_0 {N : Nat} {rec : Int32 → Int32 → jM Unit} {FR LO : Nat} {r : Unit} (cx : jCx p s m args meth c cX6_goes "WornSkin$Lays" 4 (Option.none : Option Jvm.ClassFile.FieldType) D dA H0 hs.2.2.2.2) (e1 : h'.2.2.1 = hs.2.2.1 + mc) (e2 : h'.2.2.2.1 = hs.2.2.2.1 + ms) (a0 : Nat) (hth : jTh hs a0 6) (hrec : ∀ (x1 : Int32) (x2 : Int32) (h : jH) (r : Unit) (h1 : jH), (rec x1 x2).1 h = some (r, h1) → jcd h a0 = some 6 → jMet l yX6_goes (ws_ yX6_goes cX6_goes 4 (Option.none : Option Jvm.ClassFile.FieldType)) FR LO [.ref a0, .int x1, .int x2] h h1 (.returned none)) : ∀ (x1 : Int32) (x2 : Int32), ∀ (h : jH) (H : Heap) (locs : List Loc) (cells slots : Nat) (ls : Array Slot), (gX6_goes N rec a0 x1 x2).1 h = some (r, h') → jS D dA H0 hs h H locs cells slots → lv_has ls 4 [(0, .ref a0), (1, .int x1), (2, .int x2)] → W p l e { frames := FR + 6, cells := mc, slots := ms, locals := LO + 132 } s m args below meth c H locs cells slots (jQ D dA H0 below s (.returned none) h' mc ms) (F0 m 0 ls []) := by
  have hx := cx.1
  have hb := cx.2.1
  have hown := cx.2.2.2.1
  have hts := cx.2.2.2.2.1
  have hm : h'.2.2.1 ≤ hs.2.2.1 + mc ∧ h'.2.2.2.1 ≤ hs.2.2.2.1 + ms := ⟨Nat.le_of_eq e1, Nat.le_of_eq e2⟩
  intro x1 x2 h H locs cells slots ls hf hS hl
  unfold gX6_goes at hf
  refine lv_iload_n (pc := 0) hx hb dX6_goes_0 rfl (lv_at hl 2 rfl) ?_
  refine lv_aload_n (pc := 1) hx hb dX6_goes_1 rfl (lv_at hl 0 rfl) ?_
  refine j_gR (pc := 2) cx hS hf fd_WornSkin_Lays_this_0 q416 dX6_goes_2 (fun y1 hf => ?_)
  obtain ⟨b3, eb, hrc, hf⟩ := jrc_s hf
  refine j_nn (pc := 5) eb [] [.int x2] rfl ?_
  obtain ⟨y2, h1, e9, hf⟩ := jB_some hf
  refine j_callVN (pc := 5) (st1 := [.int y2, .int x2]) (As := []) (rest := [.int x2]) cx hS rfl hl.1 hm (metX1_texts l _ _ _ _ hrc e9) (jle hf) hrc rfl q1289 q1288 qs37 q1519 q112 pdX1_texts rfl rfl (Nat.le_of_ble_eq_true rfl) ⟨jfr1 (Nat.le_of_ble_eq_true rfl), jfr1 (Nat.le_of_ble_eq_true rfl)⟩ dX6_goes_5 rfl (fun H locs cells slots hS => ?_)
  refine lv_iadd (pc := 8) hx hb dX6_goes_8 ?_
  refine lv_iload_n (pc := 9) hx hb dX6_goes_9 rfl (lv_at hl 1 rfl) ?_
  refine lv_isub (pc := 10) hx hb dX6_goes_10 ?_
  refine lv_aload_n (pc := 11) hx hb dX6_goes_11 rfl (lv_at hl 0 rfl) ?_
  refine j_gI (pc := 12) cx hS hf fd_WornSkin_Lays_most q414 dX6_goes_12 (fun y4 hf => ?_)
  refine lv_icmp_gt (pc := 15) (tgt := 19) hx hb dX6_goes_15 (by decide) (fun hc => ?_) (fun hc => ?_)
  · have hf := jI_t hf hc
    refine lv_iload_n (pc := 19) hx hb dX6_goes_19 rfl (lv_at hl 1 rfl) ?_
    refine lv_aload_n (pc := 20) hx hb dX6_goes_20 rfl (lv_at hl 0 rfl) ?_
    refine j_gR (pc := 21) cx hS hf fd_WornSkin_Lays_this_0 q416 dX6_goes_21 (fun y5 hf => ?_)
    obtain ⟨b7, eb, hrc, hf⟩ := jrc_s hf
    refine j_nn (pc := 24) eb [] [.int x1] rfl ?_
    obtain ⟨y6, h1, e9, hf⟩ := jB_some hf
    refine j_callVN (pc := 24) (st1 := [.int y6, .int x1]) (As := []) (rest := [.int x1]) cx hS rfl hl.1 hm (metX1_texts l _ _ _ _ hrc e9) (jle hf) hrc rfl q1289 q1288 qs37 q1519 q112 pdX1_texts rfl rfl (Nat.le_of_ble_eq_true rfl) ⟨jfr1 (Nat.le_of_ble_eq_true rfl), jfr1 (Nat.le_of_ble_eq_true rfl)⟩ dX6_goes_24 rfl (fun H locs cells slots hS => ?_)
    refine lv_icmp_ne (pc := 27) (tgt := 51) hx hb dX6_goes_27 (by decide) (fun hc => ?_) (fun hc => ?_)
    · have hf := jI_f hf hc
      refine lv_iconst (pc := 51) (v := 0) hx hb dX6_goes_51 rfl ?_
      refine lv_istore_n (pc := 52) (i := 3) (lv' := [(3, .int 0), (0, .ref a0), (1, .int x1), (2, .int x2)]) hx hb dX6_goes_52 rfl hl (Nat.le_of_ble_eq_true rfl) rfl (fun ls hl => ?_)
      exact wX6_goes_53 cx e1 e2 a0 hth hrec N _ _ _ _ _ _ _ _ _ hf hS (lv_sub hl [1, 2, 3, 0] rfl)
    · have hf := jI_t hf hc
      refine lv_aload_n (pc := 30) hx hb dX6_goes_30 rfl (lv_at hl 0 rfl) ?_
      refine lv_iload_n (pc := 31) hx hb dX6_goes_31 rfl (lv_at hl 2 rfl) ?_
      refine j_pI (pc := 32) cx hS hf fp_WornSkin_Lays_most (Or.inl rfl) q414 dX6_goes_32 (fun h H locs hf hS => ?_)
      refine lv_aload_n (pc := 35) hx hb dX6_goes_35 rfl (lv_at hl 0 rfl) ?_
      refine j_gR (pc := 36) cx hS hf fd_WornSkin_Lays_row q411 dX6_goes_36 (fun y8 hf => ?_)
      refine lv_iconst (pc := 39) (v := 0) hx hb dX6_goes_39 rfl ?_
      refine lv_aload_n (pc := 40) hx hb dX6_goes_40 rfl (lv_at hl 0 rfl) ?_
      refine j_gR (pc := 41) cx hS hf fd_WornSkin_Lays_best q412 dX6_goes_41 (fun y9 hf => ?_)
      refine lv_iconst (pc := 44) (v := 0) hx hb dX6_goes_44 rfl ?_
      refine lv_bipush (pc := 45) (v := 6) hx hb dX6_goes_45 rfl ?_
      refine j_cpI (pc := 47) cx hS hl.1 hf rfl q1520 q797 q796 q137 (jfr1 (Nat.le_of_ble_eq_true rfl)) (jfr1 (Nat.le_of_ble_eq_true rfl)) dX6_goes_47 (fun h H locs hf hS => ?_)
      exact j_vret (pc := 50) cx hS hf e1 e2 dX6_goes_50
  · have hf := jI_f hf hc
    exact j_vret (pc := 18) cx hS hf e1 e2 dX6_goes_18
theorem megX6_goes (l : Launch) (N : Nat) (rec : Int32 → Int32 → jM Unit) (FR LO : Nat) (a0 : Nat) (x1 : Int32) (x2 : Int32) (h h' : jH) (r : Unit) (hth : jcd h a0 = some 6) (hrec : ∀ (x1 : Int32) (x2 : Int32) (h : jH) (r : Unit) (h1 : jH), (rec x1 x2).1 h = some (r, h1) → jcd h a0 = some 6 → jMet l yX6_goes (ws_ yX6_goes cX6_goes 4 (Option.none : Option Jvm.ClassFile.FieldType)) FR LO [.ref a0, .int x1, .int x2] h h1 (.returned none)) (hf : (gX6_goes N rec a0 x1 x2).1 h = some (r, h')) : jMet l yX6_goes (ws_ yX6_goes cX6_goes 4 (Option.none : Option Jvm.ClassFile.FieldType)) (FR + 6) (LO + 132) [.ref a0, .int x1, .int x2] h h' (.returned none) := by
  refine jStart rfl (jle hf) (Nat.le_of_ble_eq_true rfl) ?_
  intro p e s m below meth c D dA H0 mc ms ls cx hnm e1 e2 hS hl
  have hth := jTh.mk hS hth
  exact wX6_goes_0 cx e1 e2 a0 hth hrec _ _ _ _ _ _ _ _ hf hS hl
def rX6_goes (N : Nat) (a0 : Nat) : Nat → Int32 → Int32 → jM Unit
  | 0, _, _ => jE
  | d + 1, x1, x2 => gX6_goes N (rX6_goes N a0 d) a0 x1 x2
theorem merX6_goes (l : Launch) (N : Nat) (a0 : Nat) : ∀ (d : Nat) (x1 : Int32) (x2 : Int32) (h h' : jH) (r : Unit), jcd h a0 = some 6 → (rX6_goes N a0 d x1 x2).1 h = some (r, h') → jMet l yX6_goes (ws_ yX6_goes cX6_goes 4 (Option.none : Option Jvm.ClassFile.FieldType)) (6 * d) (132 * d) [.ref a0, .int x1, .int x2] h h' (.returned none) := by
  intro d
  induction d with
  | zero =>
    intro x1 x2 h h' r hth hf
    exact jE_f hf
  | succ d ih =>
    intro x1 x2 h h' r hth hf
    exact megX6_goes l N (rX6_goes N a0 d) (6 * d) (132 * d) a0 x1 x2 h h' r hth (fun x1 x2 h r h1 hh hq => ih x1 x2 h h1 r hq hh) hf
def fX6_goes (N : Nat) (a0 : Nat) (x1 : Int32) (x2 : Int32) : jM Unit := rX6_goes N a0 8 x1 x2
theorem metX6_goes (l : Launch) (N : Nat) (a0 : Nat) (x1 : Int32) (x2 : Int32) (h h' : jH) (r : Unit) (hth : jcd h a0 = some 6) (hf : (fX6_goes N a0 x1 x2).1 h = some (r, h')) : jMet l yX6_goes (ws_ yX6_goes cX6_goes 4 (Option.none : Option Jvm.ClassFile.FieldType)) (48) (1056) [.ref a0, .int x1, .int x2] h h' (.returned none) := merX6_goes l N a0 8 x1 x2 h h' r hth hf
end
