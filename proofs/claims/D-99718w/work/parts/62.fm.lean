set_option maxRecDepth 100000
section
variable {p : Program} {l : Launch} {e : Env} {s : State} {m : MethodId} {args : Array Value} {below : List Frame} {meth : Method} {c : Code} {D : va_G} {dA : Nat → ClassId → Prop} {H0 : Heap} {hs h' : jH} {mc ms : Nat}
def fX7_year_35 (N : Nat) (a0 : Nat) : jM Int32 := jB (fX7_laysLines N a0 5 0) fun _ => jR 0
def fX7_year_30 (N : Nat) (a0 : Nat) : jM Int32 := jB (jgI [7] 9 (some a0)) fun y1 => jR y1
def fX7_year_16 (N : Nat) (a0 : Nat) : Nat → jM Int32
  | 0 => jE
  | n + 1 => jB (jgI [7] 6 (some a0)) fun y1 => if y1 = 0 then (fX7_year_35 N a0) else (jB (fX7_readsLine N a0) fun y2 => if y2 = 0 then (fX7_year_30 N a0) else (fX7_year_16 N a0 n))
def fX7_year (N : Nat) (a0 : Nat) : jM Int32 := jB (jpI [7] 0 (some a0) 0) fun _ => jB (jgR [7] 38 (some a0)) fun y1 => jB (jsI 0 y1 5 0) fun _ => jB (fX7_begins N a0) fun _ => fX7_year_16 N a0 N
theorem wX7_year_35 {N : Nat} {r : Int32} (cx : jCx p s m args meth c cX7_year "WornSkinModel" 1 (Option.some Jvm.ClassFile.FieldType.int) D dA H0 hs.2.2.2.2) (e1 : h'.2.2.1 = hs.2.2.1 + mc) (e2 : h'.2.2.2.1 = hs.2.2.2.1 + ms) (a0 : Nat) (hth : jTh hs a0 7) : ∀ (h : jH) (H : Heap) (locs : List Loc) (cells slots : Nat) (ls : Array Slot), (fX7_year_35 N a0).1 h = some (r, h') → jS D dA H0 hs h H locs cells slots → lv_has ls 1 [(0, .ref a0)] → W p l e { frames := 4, cells := mc, slots := ms, locals := 86 } s m args below meth c H locs cells slots (jQ D dA H0 below s (.returned (some (.int r))) h' mc ms) (F0 m 35 ls []) := by
  have hx := cx.1
  have hb := cx.2.1
  have hown := cx.2.2.2.1
  have hts := cx.2.2.2.2.1
  have hm : h'.2.2.1 ≤ hs.2.2.1 + mc ∧ h'.2.2.2.1 ≤ hs.2.2.2.1 + ms := ⟨Nat.le_of_eq e1, Nat.le_of_eq e2⟩
  intro h H locs cells slots ls hf hS hl
  unfold fX7_year_35 at hf
  refine lv_aload_n (pc := 35) hx hb dX7_year_35 rfl (lv_at hl 0 rfl) ?_
  refine lv_iconst (pc := 36) (v := 5) hx hb dX7_year_36 rfl ?_
  refine lv_iconst (pc := 37) (v := 0) hx hb dX7_year_37 rfl ?_
  obtain ⟨_, h1, e9, hf⟩ := jB_some hf
  refine j_callV (pc := 38) (st1 := []) (As := [.int 5, .int 0]) (rest := []) cx hS rfl hl.1 hm (metX7_laysLines l _ _ _ _ _ _ _ (hth.at hS) e9) (jle hf) (hth.at hS) rfl (lw_V q2023 q2025 qs79 q123 q2026) pdX7_laysLines rfl rfl (Nat.le_of_ble_eq_true rfl) ⟨Nat.le_of_ble_eq_true rfl, Nat.le_of_ble_eq_true rfl⟩ dX7_year_38 rfl (fun H locs cells slots hS => ?_)
  refine lv_iconst (pc := 41) (v := 0) hx hb dX7_year_41 rfl ?_
  exact j_iret (pc := 42) cx hS hf e1 e2 dX7_year_42
theorem wX7_year_30 {N : Nat} {r : Int32} (cx : jCx p s m args meth c cX7_year "WornSkinModel" 1 (Option.some Jvm.ClassFile.FieldType.int) D dA H0 hs.2.2.2.2) (e1 : h'.2.2.1 = hs.2.2.1 + mc) (e2 : h'.2.2.2.1 = hs.2.2.2.1 + ms) (a0 : Nat) (hth : jTh hs a0 7) : ∀ (h : jH) (H : Heap) (locs : List Loc) (cells slots : Nat) (ls : Array Slot), (fX7_year_30 N a0).1 h = some (r, h') → jS D dA H0 hs h H locs cells slots → lv_has ls 1 [(0, .ref a0)] → W p l e { frames := 4, cells := mc, slots := ms, locals := 86 } s m args below meth c H locs cells slots (jQ D dA H0 below s (.returned (some (.int r))) h' mc ms) (F0 m 30 ls []) := by
  have hx := cx.1
  have hb := cx.2.1
  have hown := cx.2.2.2.1
  have hts := cx.2.2.2.2.1
  have hm : h'.2.2.1 ≤ hs.2.2.1 + mc ∧ h'.2.2.2.1 ≤ hs.2.2.2.1 + ms := ⟨Nat.le_of_eq e1, Nat.le_of_eq e2⟩
  intro h H locs cells slots ls hf hS hl
  unfold fX7_year_30 at hf
  refine lv_aload_n (pc := 30) hx hb dX7_year_30 rfl (lv_at hl 0 rfl) ?_
  refine j_gI (pc := 31) cx hS hf fd_WornSkinModel_wrong q1693 dX7_year_31 (fun y1 hf => ?_)
  exact j_iret (pc := 34) cx hS hf e1 e2 dX7_year_34
theorem wX7_year_16 {N : Nat} {r : Int32} (cx : jCx p s m args meth c cX7_year "WornSkinModel" 1 (Option.some Jvm.ClassFile.FieldType.int) D dA H0 hs.2.2.2.2) (e1 : h'.2.2.1 = hs.2.2.1 + mc) (e2 : h'.2.2.2.1 = hs.2.2.2.1 + ms) (a0 : Nat) (hth : jTh hs a0 7) : ∀ (n : Nat), ∀ (h : jH) (H : Heap) (locs : List Loc) (cells slots : Nat) (ls : Array Slot), (fX7_year_16 N a0 n).1 h = some (r, h') → jS D dA H0 hs h H locs cells slots → lv_has ls 1 [(0, .ref a0)] → W p l e { frames := 4, cells := mc, slots := ms, locals := 86 } s m args below meth c H locs cells slots (jQ D dA H0 below s (.returned (some (.int r))) h' mc ms) (F0 m 16 ls []) := by
  have hx := cx.1
  have hb := cx.2.1
  have hown := cx.2.2.2.1
  have hts := cx.2.2.2.2.1
  have hm : h'.2.2.1 ≤ hs.2.2.1 + mc ∧ h'.2.2.2.1 ≤ hs.2.2.2.1 + ms := ⟨Nat.le_of_eq e1, Nat.le_of_eq e2⟩
  intro n
  induction n with
  | zero =>
    intro h H locs cells slots ls hf hS hl
    exact jE_f hf
  | succ n ih =>
    intro h H locs cells slots ls hf hS hl
    unfold fX7_year_16 at hf
    refine lv_aload_n (pc := 16) hx hb dX7_year_16 rfl (lv_at hl 0 rfl) ?_
    refine j_gI (pc := 17) cx hS hf fd_WornSkinModel_token q1690 dX7_year_17 (fun y1 hf => ?_)
    refine lv_if_eq (pc := 20) (tgt := 35) hx hb dX7_year_20 (by decide) (fun hc => ?_) (fun hc => ?_)
    · have hf := jI_t hf hc
      exact wX7_year_35 cx e1 e2 a0 hth _ _ _ _ _ _ hf hS hl
    · have hf := jI_f hf hc
      refine lv_aload_n (pc := 23) hx hb dX7_year_23 rfl (lv_at hl 0 rfl) ?_
      obtain ⟨y2, h1, e9, hf⟩ := jB_some hf
      refine j_callV (pc := 24) (st1 := [.int y2]) (As := []) (rest := []) cx hS rfl hl.1 hm (metX7_readsLine l _ _ _ _ _ (hth.at hS) e9) (jle hf) (hth.at hS) rfl (lw_V q2015 q2017 qs77 q123 q2018) pdX7_readsLine rfl rfl (Nat.le_of_ble_eq_true rfl) ⟨Nat.le_of_ble_eq_true rfl, Nat.le_of_ble_eq_true rfl⟩ dX7_year_24 rfl (fun H locs cells slots hS => ?_)
      refine lv_if_ne (pc := 27) (tgt := 16) hx hb dX7_year_27 (by decide) (fun hc => ?_) (fun hc => ?_)
      · have hf := jI_f hf hc
        exact ih _ _ _ _ _ _ hf hS hl
      · have hf := jI_t hf hc
        exact wX7_year_30 cx e1 e2 a0 hth _ _ _ _ _ _ hf hS hl
theorem wX7_year_0 {N : Nat} {r : Int32} (cx : jCx p s m args meth c cX7_year "WornSkinModel" 1 (Option.some Jvm.ClassFile.FieldType.int) D dA H0 hs.2.2.2.2) (e1 : h'.2.2.1 = hs.2.2.1 + mc) (e2 : h'.2.2.2.1 = hs.2.2.2.1 + ms) (a0 : Nat) (hth : jTh hs a0 7) : ∀ (h : jH) (H : Heap) (locs : List Loc) (cells slots : Nat) (ls : Array Slot), (fX7_year N a0).1 h = some (r, h') → jS D dA H0 hs h H locs cells slots → lv_has ls 1 [(0, .ref a0)] → W p l e { frames := 4, cells := mc, slots := ms, locals := 86 } s m args below meth c H locs cells slots (jQ D dA H0 below s (.returned (some (.int r))) h' mc ms) (F0 m 0 ls []) := by
  have hx := cx.1
  have hb := cx.2.1
  have hown := cx.2.2.2.1
  have hts := cx.2.2.2.2.1
  have hm : h'.2.2.1 ≤ hs.2.2.1 + mc ∧ h'.2.2.2.1 ≤ hs.2.2.2.1 + ms := ⟨Nat.le_of_eq e1, Nat.le_of_eq e2⟩
  intro h H locs cells slots ls hf hS hl
  unfold fX7_year at hf
  refine lv_aload_n (pc := 0) hx hb dX7_year_0 rfl (lv_at hl 0 rfl) ?_
  refine lv_iconst (pc := 1) (v := 0) hx hb dX7_year_1 rfl ?_
  refine j_pI (pc := 2) cx hS hf fp_WornSkinModel_thrown (Or.inl rfl) q1684 dX7_year_2 (fun h H locs hf hS => ?_)
  refine lv_aload_n (pc := 5) hx hb dX7_year_5 rfl (lv_at hl 0 rfl) ?_
  refine j_gR (pc := 6) cx hS hf fd_WornSkinModel_lines q1722 dX7_year_6 (fun y1 hf => ?_)
  refine lv_iconst (pc := 9) (v := 5) hx hb dX7_year_9 rfl ?_
  refine lv_iconst (pc := 10) (v := 0) hx hb dX7_year_10 rfl ?_
  refine j_sI (pc := 11) cx hS hf rfl dX7_year_11 (fun h H locs hf hS => ?_)
  refine lv_aload_n (pc := 12) hx hb dX7_year_12 rfl (lv_at hl 0 rfl) ?_
  obtain ⟨_, h1, e9, hf⟩ := jB_some hf
  refine j_callV (pc := 13) (st1 := []) (As := []) (rest := []) cx hS rfl hl.1 hm (metX7_begins l _ _ _ _ _ (hth.at hS) e9) (jle hf) (hth.at hS) rfl (lw_V q1880 q1882 qs53 q123 q1883) pdX7_begins rfl rfl (Nat.le_of_ble_eq_true rfl) ⟨Nat.le_of_ble_eq_true rfl, Nat.le_of_ble_eq_true rfl⟩ dX7_year_13 rfl (fun H locs cells slots hS => ?_)
  exact wX7_year_16 cx e1 e2 a0 hth N _ _ _ _ _ _ hf hS hl
theorem metX7_year (l : Launch) (N : Nat) (a0 : Nat) (h h' : jH) (r : Int32) (hth : jcd h a0 = some 7) (hf : (fX7_year N a0).1 h = some (r, h')) : jMet l yX7_year (ws_ yX7_year cX7_year 1 (Option.some Jvm.ClassFile.FieldType.int)) (4) (86) [.ref a0] h h' (.returned (some (.int r))) := by
  refine jStart rfl (jle hf) (Nat.le_of_ble_eq_true rfl) ?_
  intro p e s m below meth c D dA H0 mc ms ls cx hnm e1 e2 hS hl
  have hth := jTh.mk hS hth
  exact wX7_year_0 cx e1 e2 a0 hth  _ _ _ _ _ _ hf hS hl
def fX7_isSkin_19 (a0 : Nat) (v0 : Int32) : jM Int32 := jRn .boolean v0
def fX7_isSkin_18 (a0 : Nat) : jM Int32 := fX7_isSkin_19 a0 0
def fX7_isSkin (a0 : Nat) (x1 : Int32) : jM Int32 := if x1 < 0 then (fX7_isSkin_18 a0) else (jB (jgR [7] 10 (some a0)) fun y1 => jB (jaI 0 y1 0) fun y2 => if y2 ≤ x1 then (fX7_isSkin_18 a0) else (fX7_isSkin_19 a0 1))
theorem wX7_isSkin_19 {r : Int32} (cx : jCx p s m args meth c cX7_isSkin "WornSkinModel" 2 (Option.some Jvm.ClassFile.FieldType.boolean) D dA H0 hs.2.2.2.2) (e1 : h'.2.2.1 = hs.2.2.1 + mc) (e2 : h'.2.2.2.1 = hs.2.2.2.1 + ms) (a0 : Nat) (hth : jTh hs a0 7) : ∀ (v0 : Int32), ∀ (h : jH) (H : Heap) (locs : List Loc) (cells slots : Nat) (ls : Array Slot), (fX7_isSkin_19 a0 v0).1 h = some (r, h') → jS D dA H0 hs h H locs cells slots → lv_has ls 2 [(0, .ref a0)] → W p l e { frames := 0, cells := mc, slots := ms, locals := 0 } s m args below meth c H locs cells slots (jQ D dA H0 below s (.returned (some (.int r))) h' mc ms) (F0 m 19 ls [.int v0]) := by
  have hx := cx.1
  have hb := cx.2.1
  have hown := cx.2.2.2.1
  have hts := cx.2.2.2.2.1
  have hm : h'.2.2.1 ≤ hs.2.2.1 + mc ∧ h'.2.2.2.1 ≤ hs.2.2.2.1 + ms := ⟨Nat.le_of_eq e1, Nat.le_of_eq e2⟩
  intro v0 h H locs cells slots ls hf hS hl
  unfold fX7_isSkin_19 at hf
  exact j_zret (pc := 19) cx (Or.inl rfl) hS hf e1 e2 dX7_isSkin_19
theorem wX7_isSkin_18 {r : Int32} (cx : jCx p s m args meth c cX7_isSkin "WornSkinModel" 2 (Option.some Jvm.ClassFile.FieldType.boolean) D dA H0 hs.2.2.2.2) (e1 : h'.2.2.1 = hs.2.2.1 + mc) (e2 : h'.2.2.2.1 = hs.2.2.2.1 + ms) (a0 : Nat) (hth : jTh hs a0 7) : ∀ (h : jH) (H : Heap) (locs : List Loc) (cells slots : Nat) (ls : Array Slot), (fX7_isSkin_18 a0).1 h = some (r, h') → jS D dA H0 hs h H locs cells slots → lv_has ls 2 [(0, .ref a0)] → W p l e { frames := 0, cells := mc, slots := ms, locals := 0 } s m args below meth c H locs cells slots (jQ D dA H0 below s (.returned (some (.int r))) h' mc ms) (F0 m 18 ls []) := by
  have hx := cx.1
  have hb := cx.2.1
  have hown := cx.2.2.2.1
  have hts := cx.2.2.2.2.1
  have hm : h'.2.2.1 ≤ hs.2.2.1 + mc ∧ h'.2.2.2.1 ≤ hs.2.2.2.1 + ms := ⟨Nat.le_of_eq e1, Nat.le_of_eq e2⟩
  intro h H locs cells slots ls hf hS hl
  unfold fX7_isSkin_18 at hf
  refine lv_iconst (pc := 18) (v := 0) hx hb dX7_isSkin_18 rfl ?_
  exact wX7_isSkin_19 cx e1 e2 a0 hth _ _ _ _ _ _ _ hf hS hl
theorem wX7_isSkin_0 {r : Int32} (cx : jCx p s m args meth c cX7_isSkin "WornSkinModel" 2 (Option.some Jvm.ClassFile.FieldType.boolean) D dA H0 hs.2.2.2.2) (e1 : h'.2.2.1 = hs.2.2.1 + mc) (e2 : h'.2.2.2.1 = hs.2.2.2.1 + ms) (a0 : Nat) (hth : jTh hs a0 7) : ∀ (x1 : Int32), ∀ (h : jH) (H : Heap) (locs : List Loc) (cells slots : Nat) (ls : Array Slot), (fX7_isSkin a0 x1).1 h = some (r, h') → jS D dA H0 hs h H locs cells slots → lv_has ls 2 [(0, .ref a0), (1, .int x1)] → W p l e { frames := 0, cells := mc, slots := ms, locals := 0 } s m args below meth c H locs cells slots (jQ D dA H0 below s (.returned (some (.int r))) h' mc ms) (F0 m 0 ls []) := by
  have hx := cx.1
  have hb := cx.2.1
  have hown := cx.2.2.2.1
  have hts := cx.2.2.2.2.1
  have hm : h'.2.2.1 ≤ hs.2.2.1 + mc ∧ h'.2.2.2.1 ≤ hs.2.2.2.1 + ms := ⟨Nat.le_of_eq e1, Nat.le_of_eq e2⟩
  intro x1 h H locs cells slots ls hf hS hl
  unfold fX7_isSkin at hf
  refine lv_iload_n (pc := 0) hx hb dX7_isSkin_0 rfl (lv_at hl 1 rfl) ?_
  refine lv_if_lt (pc := 1) (tgt := 18) hx hb dX7_isSkin_1 (by decide) (fun hc => ?_) (fun hc => ?_)
  · have hf := jI_t hf hc
    exact wX7_isSkin_18 cx e1 e2 a0 hth _ _ _ _ _ _ hf hS (lv_sub hl [0] rfl)
  · have hf := jI_f hf hc
    refine lv_iload_n (pc := 4) hx hb dX7_isSkin_4 rfl (lv_at hl 1 rfl) ?_
    refine lv_aload_n (pc := 5) hx hb dX7_isSkin_5 rfl (lv_at hl 0 rfl) ?_
    refine j_gR (pc := 6) cx hS hf fd_WornSkinModel_library q1694 dX7_isSkin_6 (fun y1 hf => ?_)
    refine lv_iconst (pc := 9) (v := 0) hx hb dX7_isSkin_9 rfl ?_
    refine j_aI (pc := 10) cx hS hf rfl dX7_isSkin_10 (fun y2 hf => ?_)
    refine lv_icmp_ge (pc := 11) (tgt := 18) hx hb dX7_isSkin_11 (by decide) (fun hc => ?_) (fun hc => ?_)
    · have hf := jI_t hf hc
      exact wX7_isSkin_18 cx e1 e2 a0 hth _ _ _ _ _ _ hf hS (lv_sub hl [0] rfl)
    · have hf := jI_f hf hc
      refine lv_iconst (pc := 14) (v := 1) hx hb dX7_isSkin_14 rfl ?_
      refine lv_goto (pc := 15) (tgt := 19) hx hb dX7_isSkin_15 (by decide) ?_
      exact wX7_isSkin_19 cx e1 e2 a0 hth _ _ _ _ _ _ _ hf hS (lv_sub hl [0] rfl)
theorem metX7_isSkin (l : Launch) (a0 : Nat) (x1 : Int32) (h h' : jH) (r : Int32) (hth : jcd h a0 = some 7) (hf : (fX7_isSkin a0 x1).1 h = some (r, h')) : jMet l yX7_isSkin (ws_ yX7_isSkin cX7_isSkin 2 (Option.some Jvm.ClassFile.FieldType.boolean)) (0) (0) [.ref a0, .int x1] h h' (.returned (some (.int r))) := by
  refine jStart rfl (jle hf) (Nat.le_of_ble_eq_true rfl) ?_
  intro p e s m below meth c D dA H0 mc ms ls cx hnm e1 e2 hS hl
  have hth := jTh.mk hS hth
  exact wX7_isSkin_0 cx e1 e2 a0 hth _ _ _ _ _ _ _ hf hS hl
def fX7_dampOf_26 (a0 : Nat) (v0 : Int32) : jM Int32 := jR v0
def fX7_dampOf (a0 : Nat) (x1 : Int32) : jM Int32 := jB (jgR [7] 10 (some a0)) fun y1 => jB (jaI 0 y1 2) fun y2 => if y2 = 0 then (fX7_dampOf_26 a0 0) else (jB (jgR [7] 19 (some a0)) fun y3 => jB (jgR [7] 10 (some a0)) fun y4 => jB (jaI 0 y4 2) fun y5 => jB (jnz y5) fun _ => jB (jaI 0 y3 (x1 - x1 / y5 * y5)) fun y6 => fX7_dampOf_26 a0 y6)
theorem wX7_dampOf_26 {r : Int32} (cx : jCx p s m args meth c cX7_dampOf "WornSkinModel" 2 (Option.some Jvm.ClassFile.FieldType.int) D dA H0 hs.2.2.2.2) (e1 : h'.2.2.1 = hs.2.2.1 + mc) (e2 : h'.2.2.2.1 = hs.2.2.2.1 + ms) (a0 : Nat) (hth : jTh hs a0 7) : ∀ (v0 : Int32), ∀ (h : jH) (H : Heap) (locs : List Loc) (cells slots : Nat) (ls : Array Slot), (fX7_dampOf_26 a0 v0).1 h = some (r, h') → jS D dA H0 hs h H locs cells slots → lv_has ls 2 [(0, .ref a0)] → W p l e { frames := 0, cells := mc, slots := ms, locals := 0 } s m args below meth c H locs cells slots (jQ D dA H0 below s (.returned (some (.int r))) h' mc ms) (F0 m 26 ls [.int v0]) := by
  have hx := cx.1
  have hb := cx.2.1
  have hown := cx.2.2.2.1
  have hts := cx.2.2.2.2.1
  have hm : h'.2.2.1 ≤ hs.2.2.1 + mc ∧ h'.2.2.2.1 ≤ hs.2.2.2.1 + ms := ⟨Nat.le_of_eq e1, Nat.le_of_eq e2⟩
  intro v0 h H locs cells slots ls hf hS hl
  unfold fX7_dampOf_26 at hf
  exact j_iret (pc := 26) cx hS hf e1 e2 dX7_dampOf_26
theorem wX7_dampOf_0 {r : Int32} (cx : jCx p s m args meth c cX7_dampOf "WornSkinModel" 2 (Option.some Jvm.ClassFile.FieldType.int) D dA H0 hs.2.2.2.2) (e1 : h'.2.2.1 = hs.2.2.1 + mc) (e2 : h'.2.2.2.1 = hs.2.2.2.1 + ms) (a0 : Nat) (hth : jTh hs a0 7) : ∀ (x1 : Int32), ∀ (h : jH) (H : Heap) (locs : List Loc) (cells slots : Nat) (ls : Array Slot), (fX7_dampOf a0 x1).1 h = some (r, h') → jS D dA H0 hs h H locs cells slots → lv_has ls 2 [(0, .ref a0), (1, .int x1)] → W p l e { frames := 0, cells := mc, slots := ms, locals := 0 } s m args below meth c H locs cells slots (jQ D dA H0 below s (.returned (some (.int r))) h' mc ms) (F0 m 0 ls []) := by
  have hx := cx.1
  have hb := cx.2.1
  have hown := cx.2.2.2.1
  have hts := cx.2.2.2.2.1
  have hm : h'.2.2.1 ≤ hs.2.2.1 + mc ∧ h'.2.2.2.1 ≤ hs.2.2.2.1 + ms := ⟨Nat.le_of_eq e1, Nat.le_of_eq e2⟩
  intro x1 h H locs cells slots ls hf hS hl
  unfold fX7_dampOf at hf
  refine lv_aload_n (pc := 0) hx hb dX7_dampOf_0 rfl (lv_at hl 0 rfl) ?_
  refine j_gR (pc := 1) cx hS hf fd_WornSkinModel_library q1694 dX7_dampOf_1 (fun y1 hf => ?_)
  refine lv_iconst (pc := 4) (v := 2) hx hb dX7_dampOf_4 rfl ?_
  refine j_aI (pc := 5) cx hS hf rfl dX7_dampOf_5 (fun y2 hf => ?_)
  refine lv_if_ne (pc := 6) (tgt := 13) hx hb dX7_dampOf_6 (by decide) (fun hc => ?_) (fun hc => ?_)
  · have hf := jI_f hf hc
    refine lv_aload_n (pc := 13) hx hb dX7_dampOf_13 rfl (lv_at hl 0 rfl) ?_
    refine j_gR (pc := 14) cx hS hf fd_WornSkinModel_damp q1703 dX7_dampOf_14 (fun y3 hf => ?_)
    refine lv_iload_n (pc := 17) hx hb dX7_dampOf_17 rfl (lv_at hl 1 rfl) ?_
    refine lv_aload_n (pc := 18) hx hb dX7_dampOf_18 rfl (lv_at hl 0 rfl) ?_
    refine j_gR (pc := 19) cx hS hf fd_WornSkinModel_library q1694 dX7_dampOf_19 (fun y4 hf => ?_)
    refine lv_iconst (pc := 22) (v := 2) hx hb dX7_dampOf_22 rfl ?_
    refine j_aI (pc := 23) cx hS hf rfl dX7_dampOf_23 (fun y5 hf => ?_)
    obtain ⟨hne, hf⟩ := jnz_s hf
    refine lv_irem (pc := 24) hx hb dX7_dampOf_24 hne ?_
    refine j_aI (pc := 25) cx hS hf rfl dX7_dampOf_25 (fun y6 hf => ?_)
    exact wX7_dampOf_26 cx e1 e2 a0 hth _ _ _ _ _ _ _ hf hS (lv_sub hl [0] rfl)
  · have hf := jI_t hf hc
    refine lv_iconst (pc := 9) (v := 0) hx hb dX7_dampOf_9 rfl ?_
    refine lv_goto (pc := 10) (tgt := 26) hx hb dX7_dampOf_10 (by decide) ?_
    exact wX7_dampOf_26 cx e1 e2 a0 hth _ _ _ _ _ _ _ hf hS (lv_sub hl [0] rfl)
theorem metX7_dampOf (l : Launch) (a0 : Nat) (x1 : Int32) (h h' : jH) (r : Int32) (hth : jcd h a0 = some 7) (hf : (fX7_dampOf a0 x1).1 h = some (r, h')) : jMet l yX7_dampOf (ws_ yX7_dampOf cX7_dampOf 2 (Option.some Jvm.ClassFile.FieldType.int)) (0) (0) [.ref a0, .int x1] h h' (.returned (some (.int r))) := by
  refine jStart rfl (jle hf) (Nat.le_of_ble_eq_true rfl) ?_
  intro p e s m below meth c D dA H0 mc ms ls cx hnm e1 e2 hS hl
  have hth := jTh.mk hS hth
  exact wX7_dampOf_0 cx e1 e2 a0 hth _ _ _ _ _ _ _ hf hS hl
def fX7_opens (a0 : Nat) (x1 : Int32) : jM Unit := jB (jgR [7] 27 (some a0)) fun y1 => jB (jsI 0 y1 x1 0) fun _ => jB (jgR [7] 29 (some a0)) fun y2 => jB (jsI 0 y2 x1 0) fun _ => jB (jgR [7] 30 (some a0)) fun y3 => jB (jsI 0 y3 x1 0) fun _ => jB (jgR [7] 31 (some a0)) fun y4 => jB (jsI 0 y4 x1 20) fun _ => jB (jgR [7] 33 (some a0)) fun y5 => jB (jsI 0 y5 x1 0) fun _ => jR ()
theorem wX7_opens_0 {r : Unit} (cx : jCx p s m args meth c cX7_opens "WornSkinModel" 2 (Option.none : Option Jvm.ClassFile.FieldType) D dA H0 hs.2.2.2.2) (e1 : h'.2.2.1 = hs.2.2.1 + mc) (e2 : h'.2.2.2.1 = hs.2.2.2.1 + ms) (a0 : Nat) (hth : jTh hs a0 7) : ∀ (x1 : Int32), ∀ (h : jH) (H : Heap) (locs : List Loc) (cells slots : Nat) (ls : Array Slot), (fX7_opens a0 x1).1 h = some (r, h') → jS D dA H0 hs h H locs cells slots → lv_has ls 2 [(0, .ref a0), (1, .int x1)] → W p l e { frames := 0, cells := mc, slots := ms, locals := 0 } s m args below meth c H locs cells slots (jQ D dA H0 below s (.returned none) h' mc ms) (F0 m 0 ls []) := by
  have hx := cx.1
  have hb := cx.2.1
  have hown := cx.2.2.2.1
  have hts := cx.2.2.2.2.1
  have hm : h'.2.2.1 ≤ hs.2.2.1 + mc ∧ h'.2.2.2.1 ≤ hs.2.2.2.1 + ms := ⟨Nat.le_of_eq e1, Nat.le_of_eq e2⟩
  intro x1 h H locs cells slots ls hf hS hl
  unfold fX7_opens at hf
  refine lv_aload_n (pc := 0) hx hb dX7_opens_0 rfl (lv_at hl 0 rfl) ?_
  refine j_gR (pc := 1) cx hS hf fd_WornSkinModel_keptBy q1711 dX7_opens_1 (fun y1 hf => ?_)
  refine lv_iload_n (pc := 4) hx hb dX7_opens_4 rfl (lv_at hl 1 rfl) ?_
  refine lv_iconst (pc := 5) (v := 0) hx hb dX7_opens_5 rfl ?_
  refine j_sI (pc := 6) cx hS hf rfl dX7_opens_6 (fun h H locs hf hS => ?_)
  refine lv_aload_n (pc := 7) hx hb dX7_opens_7 rfl (lv_at hl 0 rfl) ?_
  refine j_gR (pc := 8) cx hS hf fd_WornSkinModel_against q1713 dX7_opens_8 (fun y2 hf => ?_)
  refine lv_iload_n (pc := 11) hx hb dX7_opens_11 rfl (lv_at hl 1 rfl) ?_
  refine lv_iconst (pc := 12) (v := 0) hx hb dX7_opens_12 rfl ?_
  refine j_sI (pc := 13) cx hS hf rfl dX7_opens_13 (fun h H locs hf hS => ?_)
  refine lv_aload_n (pc := 14) hx hb dX7_opens_14 rfl (lv_at hl 0 rfl) ?_
  refine j_gR (pc := 15) cx hS hf fd_WornSkinModel_sum q1714 dX7_opens_15 (fun y3 hf => ?_)
  refine lv_iload_n (pc := 18) hx hb dX7_opens_18 rfl (lv_at hl 1 rfl) ?_
  refine lv_iconst (pc := 19) (v := 0) hx hb dX7_opens_19 rfl ?_
  refine j_sI (pc := 20) cx hS hf rfl dX7_opens_20 (fun h H locs hf hS => ?_)
  refine lv_aload_n (pc := 21) hx hb dX7_opens_21 rfl (lv_at hl 0 rfl) ?_
  refine j_gR (pc := 22) cx hS hf fd_WornSkinModel_sumBy q1715 dX7_opens_22 (fun y4 hf => ?_)
  refine lv_iload_n (pc := 25) hx hb dX7_opens_25 rfl (lv_at hl 1 rfl) ?_
  refine lv_bipush (pc := 26) (v := 20) hx hb dX7_opens_26 rfl ?_
  refine j_sI (pc := 28) cx hS hf rfl dX7_opens_28 (fun h H locs hf hS => ?_)
  refine lv_aload_n (pc := 29) hx hb dX7_opens_29 rfl (lv_at hl 0 rfl) ?_
  refine j_gR (pc := 30) cx hS hf fd_WornSkinModel_termBy q1717 dX7_opens_30 (fun y5 hf => ?_)
  refine lv_iload_n (pc := 33) hx hb dX7_opens_33 rfl (lv_at hl 1 rfl) ?_
  refine lv_iconst (pc := 34) (v := 0) hx hb dX7_opens_34 rfl ?_
  refine j_sI (pc := 35) cx hS hf rfl dX7_opens_35 (fun h H locs hf hS => ?_)
  exact j_vret (pc := 36) cx hS hf e1 e2 dX7_opens_36
theorem metX7_opens (l : Launch) (a0 : Nat) (x1 : Int32) (h h' : jH) (r : Unit) (hth : jcd h a0 = some 7) (hf : (fX7_opens a0 x1).1 h = some (r, h')) : jMet l yX7_opens (ws_ yX7_opens cX7_opens 2 (Option.none : Option Jvm.ClassFile.FieldType)) (0) (0) [.ref a0, .int x1] h h' (.returned none) := by
  refine jStart rfl (jle hf) (Nat.le_of_ble_eq_true rfl) ?_
  intro p e s m below meth c D dA H0 mc ms ls cx hnm e1 e2 hS hl
  have hth := jTh.mk hS hth
  exact wX7_opens_0 cx e1 e2 a0 hth _ _ _ _ _ _ _ hf hS hl
def fX7_sums_45 (a0 : Nat) (x1 : Int32) (v0 : Option Nat) (v1 : Int32) (v2 : Int32) : jM Unit := jB (jsI 0 v0 v1 v2) fun _ => jB (jgR [7] 33 (some a0)) fun y1 => jB (jsI 0 y1 x1 0) fun _ => jR ()
def fX7_sums (a0 : Nat) (x1 : Int32) : jM Unit := jB (jgR [7] 30 (some a0)) fun y1 => jB (jgR [7] 31 (some a0)) fun y2 => jB (jaI 0 y2 x1) fun y3 => if y3 = 21 then (jB (jgR [7] 30 (some a0)) fun y8 => jB (jaI 0 y8 x1) fun y9 => jB (jgR [7] 32 (some a0)) fun y10 => jB (jaI 0 y10 x1) fun y11 => fX7_sums_45 a0 x1 y1 x1 (y9 - y11)) else (jB (jgR [7] 30 (some a0)) fun y4 => jB (jaI 0 y4 x1) fun y5 => jB (jgR [7] 32 (some a0)) fun y6 => jB (jaI 0 y6 x1) fun y7 => fX7_sums_45 a0 x1 y1 x1 (y5 + y7))
theorem wX7_sums_45 {r : Unit} (cx : jCx p s m args meth c cX7_sums "WornSkinModel" 2 (Option.none : Option Jvm.ClassFile.FieldType) D dA H0 hs.2.2.2.2) (e1 : h'.2.2.1 = hs.2.2.1 + mc) (e2 : h'.2.2.2.1 = hs.2.2.2.1 + ms) (a0 : Nat) (hth : jTh hs a0 7) : ∀ (x1 : Int32) (v0 : Option Nat) (v1 : Int32) (v2 : Int32), ∀ (h : jH) (H : Heap) (locs : List Loc) (cells slots : Nat) (ls : Array Slot), (fX7_sums_45 a0 x1 v0 v1 v2).1 h = some (r, h') → jS D dA H0 hs h H locs cells slots → lv_has ls 2 [(0, .ref a0), (1, .int x1)] → W p l e { frames := 0, cells := mc, slots := ms, locals := 0 } s m args below meth c H locs cells slots (jQ D dA H0 below s (.returned none) h' mc ms) (F0 m 45 ls [.int v2, .int v1, va_rf v0]) := by
  have hx := cx.1
  have hb := cx.2.1
  have hown := cx.2.2.2.1
  have hts := cx.2.2.2.2.1
  have hm : h'.2.2.1 ≤ hs.2.2.1 + mc ∧ h'.2.2.2.1 ≤ hs.2.2.2.1 + ms := ⟨Nat.le_of_eq e1, Nat.le_of_eq e2⟩
  intro x1 v0 v1 v2 h H locs cells slots ls hf hS hl
  unfold fX7_sums_45 at hf
  refine j_sI (pc := 45) cx hS hf rfl dX7_sums_45 (fun h H locs hf hS => ?_)
  refine lv_aload_n (pc := 46) hx hb dX7_sums_46 rfl (lv_at hl 0 rfl) ?_
  refine j_gR (pc := 47) cx hS hf fd_WornSkinModel_termBy q1717 dX7_sums_47 (fun y1 hf => ?_)
  refine lv_iload_n (pc := 50) hx hb dX7_sums_50 rfl (lv_at hl 1 rfl) ?_
  refine lv_iconst (pc := 51) (v := 0) hx hb dX7_sums_51 rfl ?_
  refine j_sI (pc := 52) cx hS hf rfl dX7_sums_52 (fun h H locs hf hS => ?_)
  exact j_vret (pc := 53) cx hS hf e1 e2 dX7_sums_53
theorem wX7_sums_0 {r : Unit} (cx : jCx p s m args meth c cX7_sums "WornSkinModel" 2 (Option.none : Option Jvm.ClassFile.FieldType) D dA H0 hs.2.2.2.2) (e1 : h'.2.2.1 = hs.2.2.1 + mc) (e2 : h'.2.2.2.1 = hs.2.2.2.1 + ms) (a0 : Nat) (hth : jTh hs a0 7) : ∀ (x1 : Int32), ∀ (h : jH) (H : Heap) (locs : List Loc) (cells slots : Nat) (ls : Array Slot), (fX7_sums a0 x1).1 h = some (r, h') → jS D dA H0 hs h H locs cells slots → lv_has ls 2 [(0, .ref a0), (1, .int x1)] → W p l e { frames := 0, cells := mc, slots := ms, locals := 0 } s m args below meth c H locs cells slots (jQ D dA H0 below s (.returned none) h' mc ms) (F0 m 0 ls []) := by
  have hx := cx.1
  have hb := cx.2.1
  have hown := cx.2.2.2.1
  have hts := cx.2.2.2.2.1
  have hm : h'.2.2.1 ≤ hs.2.2.1 + mc ∧ h'.2.2.2.1 ≤ hs.2.2.2.1 + ms := ⟨Nat.le_of_eq e1, Nat.le_of_eq e2⟩
  intro x1 h H locs cells slots ls hf hS hl
  unfold fX7_sums at hf
  refine lv_aload_n (pc := 0) hx hb dX7_sums_0 rfl (lv_at hl 0 rfl) ?_
  refine j_gR (pc := 1) cx hS hf fd_WornSkinModel_sum q1714 dX7_sums_1 (fun y1 hf => ?_)
  refine lv_iload_n (pc := 4) hx hb dX7_sums_4 rfl (lv_at hl 1 rfl) ?_
  refine lv_aload_n (pc := 5) hx hb dX7_sums_5 rfl (lv_at hl 0 rfl) ?_
  refine j_gR (pc := 6) cx hS hf fd_WornSkinModel_sumBy q1715 dX7_sums_6 (fun y2 hf => ?_)
  refine lv_iload_n (pc := 9) hx hb dX7_sums_9 rfl (lv_at hl 1 rfl) ?_
  refine j_aI (pc := 10) cx hS hf rfl dX7_sums_10 (fun y3 hf => ?_)
  refine lv_bipush (pc := 11) (v := 21) hx hb dX7_sums_11 rfl ?_
  refine lv_icmp_ne (pc := 13) (tgt := 32) hx hb dX7_sums_13 (by decide) (fun hc => ?_) (fun hc => ?_)
  · have hf := jI_f hf hc
    refine lv_aload_n (pc := 32) hx hb dX7_sums_32 rfl (lv_at hl 0 rfl) ?_
    refine j_gR (pc := 33) cx hS hf fd_WornSkinModel_sum q1714 dX7_sums_33 (fun y4 hf => ?_)
    refine lv_iload_n (pc := 36) hx hb dX7_sums_36 rfl (lv_at hl 1 rfl) ?_
    refine j_aI (pc := 37) cx hS hf rfl dX7_sums_37 (fun y5 hf => ?_)
    refine lv_aload_n (pc := 38) hx hb dX7_sums_38 rfl (lv_at hl 0 rfl) ?_
    refine j_gR (pc := 39) cx hS hf fd_WornSkinModel_term q1716 dX7_sums_39 (fun y6 hf => ?_)
    refine lv_iload_n (pc := 42) hx hb dX7_sums_42 rfl (lv_at hl 1 rfl) ?_
    refine j_aI (pc := 43) cx hS hf rfl dX7_sums_43 (fun y7 hf => ?_)
    refine lv_iadd (pc := 44) hx hb dX7_sums_44 ?_
    exact wX7_sums_45 cx e1 e2 a0 hth _ _ _ _ _ _ _ _ _ _ hf hS hl
  · have hf := jI_t hf hc
    refine lv_aload_n (pc := 16) hx hb dX7_sums_16 rfl (lv_at hl 0 rfl) ?_
    refine j_gR (pc := 17) cx hS hf fd_WornSkinModel_sum q1714 dX7_sums_17 (fun y8 hf => ?_)
    refine lv_iload_n (pc := 20) hx hb dX7_sums_20 rfl (lv_at hl 1 rfl) ?_
    refine j_aI (pc := 21) cx hS hf rfl dX7_sums_21 (fun y9 hf => ?_)
    refine lv_aload_n (pc := 22) hx hb dX7_sums_22 rfl (lv_at hl 0 rfl) ?_
    refine j_gR (pc := 23) cx hS hf fd_WornSkinModel_term q1716 dX7_sums_23 (fun y10 hf => ?_)
    refine lv_iload_n (pc := 26) hx hb dX7_sums_26 rfl (lv_at hl 1 rfl) ?_
    refine j_aI (pc := 27) cx hS hf rfl dX7_sums_27 (fun y11 hf => ?_)
    refine lv_isub (pc := 28) hx hb dX7_sums_28 ?_
    refine lv_goto (pc := 29) (tgt := 45) hx hb dX7_sums_29 (by decide) ?_
    exact wX7_sums_45 cx e1 e2 a0 hth _ _ _ _ _ _ _ _ _ _ hf hS hl
theorem metX7_sums (l : Launch) (a0 : Nat) (x1 : Int32) (h h' : jH) (r : Unit) (hth : jcd h a0 = some 7) (hf : (fX7_sums a0 x1).1 h = some (r, h')) : jMet l yX7_sums (ws_ yX7_sums cX7_sums 2 (Option.none : Option Jvm.ClassFile.FieldType)) (0) (0) [.ref a0, .int x1] h h' (.returned none) := by
  refine jStart rfl (jle hf) (Nat.le_of_ble_eq_true rfl) ?_
  intro p e s m below meth c D dA H0 mc ms ls cx hnm e1 e2 hS hl
  have hth := jTh.mk hS hth
  exact wX7_sums_0 cx e1 e2 a0 hth _ _ _ _ _ _ _ hf hS hl
def fX7_tests_136 (a0 : Nat) (x1 : Int32) (x2 : Int32) : jM Unit := jB (jgR [7] 26 (some a0)) fun y1 => jB (jsI 0 y1 x1 x2) fun _ => jB (jgR [7] 29 (some a0)) fun y2 => jB (jsI 0 y2 x1 0) fun _ => jB (jgR [7] 30 (some a0)) fun y3 => jB (jsI 0 y3 x1 0) fun _ => jB (jgR [7] 31 (some a0)) fun y4 => jB (jsI 0 y4 x1 20) fun _ => jR ()
def fX7_tests_135 (a0 : Nat) (x1 : Int32) (v0 : Int32) : jM Unit := fX7_tests_136 a0 x1 v0
def fX7_tests_130 (a0 : Nat) (x1 : Int32) : jM Unit := fX7_tests_135 a0 x1 1
def fX7_tests_106 (a0 : Nat) (x1 : Int32) (x2 : Int32) : jM Unit := jB (jgR [7] 27 (some a0)) fun y1 => jB (jaI 0 y1 x1) fun y2 => if y2 = 27 then (jB (jgR [7] 26 (some a0)) fun y3 => jB (jaI 0 y3 x1) fun y4 => if y4 = 0 then (if x2 = 0 then (fX7_tests_135 a0 x1 0) else (fX7_tests_130 a0 x1)) else (fX7_tests_130 a0 x1)) else (fX7_tests_136 a0 x1 x2)
def fX7_tests_105 (a0 : Nat) (x1 : Int32) (v0 : Int32) : jM Unit := fX7_tests_106 a0 x1 v0
def fX7_tests_104 (a0 : Nat) (x1 : Int32) : jM Unit := fX7_tests_105 a0 x1 0
def fX7_tests_76 (a0 : Nat) (x1 : Int32) (x2 : Int32) : jM Unit := jB (jgR [7] 27 (some a0)) fun y1 => jB (jaI 0 y1 x1) fun y2 => if y2 = 26 then (jB (jgR [7] 26 (some a0)) fun y3 => jB (jaI 0 y3 x1) fun y4 => if y4 = 0 then (fX7_tests_104 a0 x1) else (if x2 = 0 then (fX7_tests_104 a0 x1) else (fX7_tests_105 a0 x1 1))) else (fX7_tests_106 a0 x1 x2)
def fX7_tests_75 (a0 : Nat) (x1 : Int32) (v0 : Int32) : jM Unit := fX7_tests_76 a0 x1 v0
def fX7_tests_44 (a0 : Nat) (x1 : Int32) (x2 : Int32) : jM Unit := jB (jgR [7] 29 (some a0)) fun y1 => jB (jaI 0 y1 x1) fun y2 => if y2 = 25 then (jB (jgR [7] 28 (some a0)) fun y3 => jB (jaI 0 y3 x1) fun y4 => jB (jgR [7] 30 (some a0)) fun y5 => jB (jaI 0 y5 x1) fun y6 => if y4 = y6 then (fX7_tests_75 a0 x1 1) else (fX7_tests_75 a0 x1 0)) else (fX7_tests_76 a0 x1 x2)
def fX7_tests_43 (a0 : Nat) (x1 : Int32) (v0 : Int32) : jM Unit := fX7_tests_44 a0 x1 v0
def fX7_tests (a0 : Nat) (x1 : Int32) : jM Unit := jB (fX7_sums a0 x1) fun _ => jB (jgR [7] 30 (some a0)) fun y2 => jB (jaI 0 y2 x1) fun y3 => jB (jgR [7] 29 (some a0)) fun y4 => jB (jaI 0 y4 x1) fun y5 => if y5 = 24 then (jB (jgR [7] 28 (some a0)) fun y6 => jB (jaI 0 y6 x1) fun y7 => jB (jgR [7] 30 (some a0)) fun y8 => jB (jaI 0 y8 x1) fun y9 => if y9 ≤ y7 then (fX7_tests_43 a0 x1 0) else (fX7_tests_43 a0 x1 1)) else (fX7_tests_44 a0 x1 y3)
theorem wX7_tests_136 {r : Unit} (cx : jCx p s m args meth c cX7_tests "WornSkinModel" 3 (Option.none : Option Jvm.ClassFile.FieldType) D dA H0 hs.2.2.2.2) (e1 : h'.2.2.1 = hs.2.2.1 + mc) (e2 : h'.2.2.2.1 = hs.2.2.2.1 + ms) (a0 : Nat) (hth : jTh hs a0 7) : ∀ (x1 : Int32) (x2 : Int32), ∀ (h : jH) (H : Heap) (locs : List Loc) (cells slots : Nat) (ls : Array Slot), (fX7_tests_136 a0 x1 x2).1 h = some (r, h') → jS D dA H0 hs h H locs cells slots → lv_has ls 3 [(0, .ref a0), (1, .int x1), (2, .int x2)] → W p l e { frames := 1, cells := mc, slots := ms, locals := 21 } s m args below meth c H locs cells slots (jQ D dA H0 below s (.returned none) h' mc ms) (F0 m 136 ls []) := by
  have hx := cx.1
  have hb := cx.2.1
  have hown := cx.2.2.2.1
  have hts := cx.2.2.2.2.1
  have hm : h'.2.2.1 ≤ hs.2.2.1 + mc ∧ h'.2.2.2.1 ≤ hs.2.2.2.1 + ms := ⟨Nat.le_of_eq e1, Nat.le_of_eq e2⟩
  intro x1 x2 h H locs cells slots ls hf hS hl
  unfold fX7_tests_136 at hf
  refine lv_aload_n (pc := 136) hx hb dX7_tests_136 rfl (lv_at hl 0 rfl) ?_
  refine j_gR (pc := 137) cx hS hf fd_WornSkinModel_kept q1710 dX7_tests_137 (fun y1 hf => ?_)
  refine lv_iload_n (pc := 140) hx hb dX7_tests_140 rfl (lv_at hl 1 rfl) ?_
  refine lv_iload_n (pc := 141) hx hb dX7_tests_141 rfl (lv_at hl 2 rfl) ?_
  refine j_sI (pc := 142) cx hS hf rfl dX7_tests_142 (fun h H locs hf hS => ?_)
  refine lv_aload_n (pc := 143) hx hb dX7_tests_143 rfl (lv_at hl 0 rfl) ?_
  refine j_gR (pc := 144) cx hS hf fd_WornSkinModel_against q1713 dX7_tests_144 (fun y2 hf => ?_)
  refine lv_iload_n (pc := 147) hx hb dX7_tests_147 rfl (lv_at hl 1 rfl) ?_
  refine lv_iconst (pc := 148) (v := 0) hx hb dX7_tests_148 rfl ?_
  refine j_sI (pc := 149) cx hS hf rfl dX7_tests_149 (fun h H locs hf hS => ?_)
  refine lv_aload_n (pc := 150) hx hb dX7_tests_150 rfl (lv_at hl 0 rfl) ?_
  refine j_gR (pc := 151) cx hS hf fd_WornSkinModel_sum q1714 dX7_tests_151 (fun y3 hf => ?_)
  refine lv_iload_n (pc := 154) hx hb dX7_tests_154 rfl (lv_at hl 1 rfl) ?_
  refine lv_iconst (pc := 155) (v := 0) hx hb dX7_tests_155 rfl ?_
  refine j_sI (pc := 156) cx hS hf rfl dX7_tests_156 (fun h H locs hf hS => ?_)
  refine lv_aload_n (pc := 157) hx hb dX7_tests_157 rfl (lv_at hl 0 rfl) ?_
  refine j_gR (pc := 158) cx hS hf fd_WornSkinModel_sumBy q1715 dX7_tests_158 (fun y4 hf => ?_)
  refine lv_iload_n (pc := 161) hx hb dX7_tests_161 rfl (lv_at hl 1 rfl) ?_
  refine lv_bipush (pc := 162) (v := 20) hx hb dX7_tests_162 rfl ?_
  refine j_sI (pc := 164) cx hS hf rfl dX7_tests_164 (fun h H locs hf hS => ?_)
  exact j_vret (pc := 165) cx hS hf e1 e2 dX7_tests_165
theorem wX7_tests_135 {r : Unit} (cx : jCx p s m args meth c cX7_tests "WornSkinModel" 3 (Option.none : Option Jvm.ClassFile.FieldType) D dA H0 hs.2.2.2.2) (e1 : h'.2.2.1 = hs.2.2.1 + mc) (e2 : h'.2.2.2.1 = hs.2.2.2.1 + ms) (a0 : Nat) (hth : jTh hs a0 7) : ∀ (x1 : Int32) (v0 : Int32), ∀ (h : jH) (H : Heap) (locs : List Loc) (cells slots : Nat) (ls : Array Slot), (fX7_tests_135 a0 x1 v0).1 h = some (r, h') → jS D dA H0 hs h H locs cells slots → lv_has ls 3 [(0, .ref a0), (1, .int x1)] → W p l e { frames := 1, cells := mc, slots := ms, locals := 21 } s m args below meth c H locs cells slots (jQ D dA H0 below s (.returned none) h' mc ms) (F0 m 135 ls [.int v0]) := by
  have hx := cx.1
  have hb := cx.2.1
  have hown := cx.2.2.2.1
  have hts := cx.2.2.2.2.1
  have hm : h'.2.2.1 ≤ hs.2.2.1 + mc ∧ h'.2.2.2.1 ≤ hs.2.2.2.1 + ms := ⟨Nat.le_of_eq e1, Nat.le_of_eq e2⟩
  intro x1 v0 h H locs cells slots ls hf hS hl
  unfold fX7_tests_135 at hf
  refine lv_istore_n (pc := 135) (i := 2) (lv' := [(2, .int v0), (0, .ref a0), (1, .int x1)]) hx hb dX7_tests_135 rfl hl (Nat.le_of_ble_eq_true rfl) rfl (fun ls hl => ?_)
  exact wX7_tests_136 cx e1 e2 a0 hth _ _ _ _ _ _ _ _ hf hS (lv_sub hl [1, 2, 0] rfl)
theorem wX7_tests_130 {r : Unit} (cx : jCx p s m args meth c cX7_tests "WornSkinModel" 3 (Option.none : Option Jvm.ClassFile.FieldType) D dA H0 hs.2.2.2.2) (e1 : h'.2.2.1 = hs.2.2.1 + mc) (e2 : h'.2.2.2.1 = hs.2.2.2.1 + ms) (a0 : Nat) (hth : jTh hs a0 7) : ∀ (x1 : Int32), ∀ (h : jH) (H : Heap) (locs : List Loc) (cells slots : Nat) (ls : Array Slot), (fX7_tests_130 a0 x1).1 h = some (r, h') → jS D dA H0 hs h H locs cells slots → lv_has ls 3 [(0, .ref a0), (1, .int x1)] → W p l e { frames := 1, cells := mc, slots := ms, locals := 21 } s m args below meth c H locs cells slots (jQ D dA H0 below s (.returned none) h' mc ms) (F0 m 130 ls []) := by
  have hx := cx.1
  have hb := cx.2.1
  have hown := cx.2.2.2.1
  have hts := cx.2.2.2.2.1
  have hm : h'.2.2.1 ≤ hs.2.2.1 + mc ∧ h'.2.2.2.1 ≤ hs.2.2.2.1 + ms := ⟨Nat.le_of_eq e1, Nat.le_of_eq e2⟩
  intro x1 h H locs cells slots ls hf hS hl
  unfold fX7_tests_130 at hf
  refine lv_iconst (pc := 130) (v := 1) hx hb dX7_tests_130 rfl ?_
  refine lv_goto (pc := 131) (tgt := 135) hx hb dX7_tests_131 (by decide) ?_
  exact wX7_tests_135 cx e1 e2 a0 hth _ _ _ _ _ _ _ _ hf hS hl
theorem wX7_tests_106 {r : Unit} (cx : jCx p s m args meth c cX7_tests "WornSkinModel" 3 (Option.none : Option Jvm.ClassFile.FieldType) D dA H0 hs.2.2.2.2) (e1 : h'.2.2.1 = hs.2.2.1 + mc) (e2 : h'.2.2.2.1 = hs.2.2.2.1 + ms) (a0 : Nat) (hth : jTh hs a0 7) : ∀ (x1 : Int32) (x2 : Int32), ∀ (h : jH) (H : Heap) (locs : List Loc) (cells slots : Nat) (ls : Array Slot), (fX7_tests_106 a0 x1 x2).1 h = some (r, h') → jS D dA H0 hs h H locs cells slots → lv_has ls 3 [(0, .ref a0), (1, .int x1), (2, .int x2)] → W p l e { frames := 1, cells := mc, slots := ms, locals := 21 } s m args below meth c H locs cells slots (jQ D dA H0 below s (.returned none) h' mc ms) (F0 m 106 ls []) := by
  have hx := cx.1
  have hb := cx.2.1
  have hown := cx.2.2.2.1
  have hts := cx.2.2.2.2.1
  have hm : h'.2.2.1 ≤ hs.2.2.1 + mc ∧ h'.2.2.2.1 ≤ hs.2.2.2.1 + ms := ⟨Nat.le_of_eq e1, Nat.le_of_eq e2⟩
  intro x1 x2 h H locs cells slots ls hf hS hl
  unfold fX7_tests_106 at hf
  refine lv_aload_n (pc := 106) hx hb dX7_tests_106 rfl (lv_at hl 0 rfl) ?_
  refine j_gR (pc := 107) cx hS hf fd_WornSkinModel_keptBy q1711 dX7_tests_107 (fun y1 hf => ?_)
  refine lv_iload_n (pc := 110) hx hb dX7_tests_110 rfl (lv_at hl 1 rfl) ?_
  refine j_aI (pc := 111) cx hS hf rfl dX7_tests_111 (fun y2 hf => ?_)
  refine lv_bipush (pc := 112) (v := 27) hx hb dX7_tests_112 rfl ?_
  refine lv_icmp_ne (pc := 114) (tgt := 136) hx hb dX7_tests_114 (by decide) (fun hc => ?_) (fun hc => ?_)
  · have hf := jI_f hf hc
    exact wX7_tests_136 cx e1 e2 a0 hth _ _ _ _ _ _ _ _ hf hS hl
  · have hf := jI_t hf hc
    refine lv_aload_n (pc := 117) hx hb dX7_tests_117 rfl (lv_at hl 0 rfl) ?_
    refine j_gR (pc := 118) cx hS hf fd_WornSkinModel_kept q1710 dX7_tests_118 (fun y3 hf => ?_)
    refine lv_iload_n (pc := 121) hx hb dX7_tests_121 rfl (lv_at hl 1 rfl) ?_
    refine j_aI (pc := 122) cx hS hf rfl dX7_tests_122 (fun y4 hf => ?_)
    refine lv_if_ne (pc := 123) (tgt := 130) hx hb dX7_tests_123 (by decide) (fun hc => ?_) (fun hc => ?_)
    · have hf := jI_f hf hc
      exact wX7_tests_130 cx e1 e2 a0 hth _ _ _ _ _ _ _ hf hS (lv_sub hl [0, 1] rfl)
    · have hf := jI_t hf hc
      refine lv_iload_n (pc := 126) hx hb dX7_tests_126 rfl (lv_at hl 2 rfl) ?_
      refine lv_if_eq (pc := 127) (tgt := 134) hx hb dX7_tests_127 (by decide) (fun hc => ?_) (fun hc => ?_)
      · have hf := jI_t hf hc
        refine lv_iconst (pc := 134) (v := 0) hx hb dX7_tests_134 rfl ?_
        exact wX7_tests_135 cx e1 e2 a0 hth _ _ _ _ _ _ _ _ hf hS (lv_sub hl [0, 1] rfl)
      · have hf := jI_f hf hc
        exact wX7_tests_130 cx e1 e2 a0 hth _ _ _ _ _ _ _ hf hS (lv_sub hl [0, 1] rfl)
theorem wX7_tests_105 {r : Unit} (cx : jCx p s m args meth c cX7_tests "WornSkinModel" 3 (Option.none : Option Jvm.ClassFile.FieldType) D dA H0 hs.2.2.2.2) (e1 : h'.2.2.1 = hs.2.2.1 + mc) (e2 : h'.2.2.2.1 = hs.2.2.2.1 + ms) (a0 : Nat) (hth : jTh hs a0 7) : ∀ (x1 : Int32) (v0 : Int32), ∀ (h : jH) (H : Heap) (locs : List Loc) (cells slots : Nat) (ls : Array Slot), (fX7_tests_105 a0 x1 v0).1 h = some (r, h') → jS D dA H0 hs h H locs cells slots → lv_has ls 3 [(0, .ref a0), (1, .int x1)] → W p l e { frames := 1, cells := mc, slots := ms, locals := 21 } s m args below meth c H locs cells slots (jQ D dA H0 below s (.returned none) h' mc ms) (F0 m 105 ls [.int v0]) := by
  have hx := cx.1
  have hb := cx.2.1
  have hown := cx.2.2.2.1
  have hts := cx.2.2.2.2.1
  have hm : h'.2.2.1 ≤ hs.2.2.1 + mc ∧ h'.2.2.2.1 ≤ hs.2.2.2.1 + ms := ⟨Nat.le_of_eq e1, Nat.le_of_eq e2⟩
  intro x1 v0 h H locs cells slots ls hf hS hl
  unfold fX7_tests_105 at hf
  refine lv_istore_n (pc := 105) (i := 2) (lv' := [(2, .int v0), (0, .ref a0), (1, .int x1)]) hx hb dX7_tests_105 rfl hl (Nat.le_of_ble_eq_true rfl) rfl (fun ls hl => ?_)
  exact wX7_tests_106 cx e1 e2 a0 hth _ _ _ _ _ _ _ _ hf hS (lv_sub hl [1, 2, 0] rfl)
theorem wX7_tests_104 {r : Unit} (cx : jCx p s m args meth c cX7_tests "WornSkinModel" 3 (Option.none : Option Jvm.ClassFile.FieldType) D dA H0 hs.2.2.2.2) (e1 : h'.2.2.1 = hs.2.2.1 + mc) (e2 : h'.2.2.2.1 = hs.2.2.2.1 + ms) (a0 : Nat) (hth : jTh hs a0 7) : ∀ (x1 : Int32), ∀ (h : jH) (H : Heap) (locs : List Loc) (cells slots : Nat) (ls : Array Slot), (fX7_tests_104 a0 x1).1 h = some (r, h') → jS D dA H0 hs h H locs cells slots → lv_has ls 3 [(0, .ref a0), (1, .int x1)] → W p l e { frames := 1, cells := mc, slots := ms, locals := 21 } s m args below meth c H locs cells slots (jQ D dA H0 below s (.returned none) h' mc ms) (F0 m 104 ls []) := by
  have hx := cx.1
  have hb := cx.2.1
  have hown := cx.2.2.2.1
  have hts := cx.2.2.2.2.1
  have hm : h'.2.2.1 ≤ hs.2.2.1 + mc ∧ h'.2.2.2.1 ≤ hs.2.2.2.1 + ms := ⟨Nat.le_of_eq e1, Nat.le_of_eq e2⟩
  intro x1 h H locs cells slots ls hf hS hl
  unfold fX7_tests_104 at hf
  refine lv_iconst (pc := 104) (v := 0) hx hb dX7_tests_104 rfl ?_
  exact wX7_tests_105 cx e1 e2 a0 hth _ _ _ _ _ _ _ _ hf hS hl
theorem wX7_tests_76 {r : Unit} (cx : jCx p s m args meth c cX7_tests "WornSkinModel" 3 (Option.none : Option Jvm.ClassFile.FieldType) D dA H0 hs.2.2.2.2) (e1 : h'.2.2.1 = hs.2.2.1 + mc) (e2 : h'.2.2.2.1 = hs.2.2.2.1 + ms) (a0 : Nat) (hth : jTh hs a0 7) : ∀ (x1 : Int32) (x2 : Int32), ∀ (h : jH) (H : Heap) (locs : List Loc) (cells slots : Nat) (ls : Array Slot), (fX7_tests_76 a0 x1 x2).1 h = some (r, h') → jS D dA H0 hs h H locs cells slots → lv_has ls 3 [(0, .ref a0), (1, .int x1), (2, .int x2)] → W p l e { frames := 1, cells := mc, slots := ms, locals := 21 } s m args below meth c H locs cells slots (jQ D dA H0 below s (.returned none) h' mc ms) (F0 m 76 ls []) := by
  have hx := cx.1
  have hb := cx.2.1
  have hown := cx.2.2.2.1
  have hts := cx.2.2.2.2.1
  have hm : h'.2.2.1 ≤ hs.2.2.1 + mc ∧ h'.2.2.2.1 ≤ hs.2.2.2.1 + ms := ⟨Nat.le_of_eq e1, Nat.le_of_eq e2⟩
  intro x1 x2 h H locs cells slots ls hf hS hl
  unfold fX7_tests_76 at hf
  refine lv_aload_n (pc := 76) hx hb dX7_tests_76 rfl (lv_at hl 0 rfl) ?_
  refine j_gR (pc := 77) cx hS hf fd_WornSkinModel_keptBy q1711 dX7_tests_77 (fun y1 hf => ?_)
  refine lv_iload_n (pc := 80) hx hb dX7_tests_80 rfl (lv_at hl 1 rfl) ?_
  refine j_aI (pc := 81) cx hS hf rfl dX7_tests_81 (fun y2 hf => ?_)
  refine lv_bipush (pc := 82) (v := 26) hx hb dX7_tests_82 rfl ?_
  refine lv_icmp_ne (pc := 84) (tgt := 106) hx hb dX7_tests_84 (by decide) (fun hc => ?_) (fun hc => ?_)
  · have hf := jI_f hf hc
    exact wX7_tests_106 cx e1 e2 a0 hth _ _ _ _ _ _ _ _ hf hS hl
  · have hf := jI_t hf hc
    refine lv_aload_n (pc := 87) hx hb dX7_tests_87 rfl (lv_at hl 0 rfl) ?_
    refine j_gR (pc := 88) cx hS hf fd_WornSkinModel_kept q1710 dX7_tests_88 (fun y3 hf => ?_)
    refine lv_iload_n (pc := 91) hx hb dX7_tests_91 rfl (lv_at hl 1 rfl) ?_
    refine j_aI (pc := 92) cx hS hf rfl dX7_tests_92 (fun y4 hf => ?_)
    refine lv_if_eq (pc := 93) (tgt := 104) hx hb dX7_tests_93 (by decide) (fun hc => ?_) (fun hc => ?_)
    · have hf := jI_t hf hc
      exact wX7_tests_104 cx e1 e2 a0 hth _ _ _ _ _ _ _ hf hS (lv_sub hl [0, 1] rfl)
    · have hf := jI_f hf hc
      refine lv_iload_n (pc := 96) hx hb dX7_tests_96 rfl (lv_at hl 2 rfl) ?_
      refine lv_if_eq (pc := 97) (tgt := 104) hx hb dX7_tests_97 (by decide) (fun hc => ?_) (fun hc => ?_)
      · have hf := jI_t hf hc
        exact wX7_tests_104 cx e1 e2 a0 hth _ _ _ _ _ _ _ hf hS (lv_sub hl [0, 1] rfl)
      · have hf := jI_f hf hc
        refine lv_iconst (pc := 100) (v := 1) hx hb dX7_tests_100 rfl ?_
        refine lv_goto (pc := 101) (tgt := 105) hx hb dX7_tests_101 (by decide) ?_
        exact wX7_tests_105 cx e1 e2 a0 hth _ _ _ _ _ _ _ _ hf hS (lv_sub hl [0, 1] rfl)
theorem wX7_tests_75 {r : Unit} (cx : jCx p s m args meth c cX7_tests "WornSkinModel" 3 (Option.none : Option Jvm.ClassFile.FieldType) D dA H0 hs.2.2.2.2) (e1 : h'.2.2.1 = hs.2.2.1 + mc) (e2 : h'.2.2.2.1 = hs.2.2.2.1 + ms) (a0 : Nat) (hth : jTh hs a0 7) : ∀ (x1 : Int32) (v0 : Int32), ∀ (h : jH) (H : Heap) (locs : List Loc) (cells slots : Nat) (ls : Array Slot), (fX7_tests_75 a0 x1 v0).1 h = some (r, h') → jS D dA H0 hs h H locs cells slots → lv_has ls 3 [(0, .ref a0), (1, .int x1)] → W p l e { frames := 1, cells := mc, slots := ms, locals := 21 } s m args below meth c H locs cells slots (jQ D dA H0 below s (.returned none) h' mc ms) (F0 m 75 ls [.int v0]) := by
  have hx := cx.1
  have hb := cx.2.1
  have hown := cx.2.2.2.1
  have hts := cx.2.2.2.2.1
  have hm : h'.2.2.1 ≤ hs.2.2.1 + mc ∧ h'.2.2.2.1 ≤ hs.2.2.2.1 + ms := ⟨Nat.le_of_eq e1, Nat.le_of_eq e2⟩
  intro x1 v0 h H locs cells slots ls hf hS hl
  unfold fX7_tests_75 at hf
  refine lv_istore_n (pc := 75) (i := 2) (lv' := [(2, .int v0), (0, .ref a0), (1, .int x1)]) hx hb dX7_tests_75 rfl hl (Nat.le_of_ble_eq_true rfl) rfl (fun ls hl => ?_)
  exact wX7_tests_76 cx e1 e2 a0 hth _ _ _ _ _ _ _ _ hf hS (lv_sub hl [1, 2, 0] rfl)
theorem wX7_tests_44 {r : Unit} (cx : jCx p s m args meth c cX7_tests "WornSkinModel" 3 (Option.none : Option Jvm.ClassFile.FieldType) D dA H0 hs.2.2.2.2) (e1 : h'.2.2.1 = hs.2.2.1 + mc) (e2 : h'.2.2.2.1 = hs.2.2.2.1 + ms) (a0 : Nat) (hth : jTh hs a0 7) : ∀ (x1 : Int32) (x2 : Int32), ∀ (h : jH) (H : Heap) (locs : List Loc) (cells slots : Nat) (ls : Array Slot), (fX7_tests_44 a0 x1 x2).1 h = some (r, h') → jS D dA H0 hs h H locs cells slots → lv_has ls 3 [(0, .ref a0), (1, .int x1), (2, .int x2)] → W p l e { frames := 1, cells := mc, slots := ms, locals := 21 } s m args below meth c H locs cells slots (jQ D dA H0 below s (.returned none) h' mc ms) (F0 m 44 ls []) := by
  have hx := cx.1
  have hb := cx.2.1
  have hown := cx.2.2.2.1
  have hts := cx.2.2.2.2.1
  have hm : h'.2.2.1 ≤ hs.2.2.1 + mc ∧ h'.2.2.2.1 ≤ hs.2.2.2.1 + ms := ⟨Nat.le_of_eq e1, Nat.le_of_eq e2⟩
  intro x1 x2 h H locs cells slots ls hf hS hl
  unfold fX7_tests_44 at hf
  refine lv_aload_n (pc := 44) hx hb dX7_tests_44 rfl (lv_at hl 0 rfl) ?_
  refine j_gR (pc := 45) cx hS hf fd_WornSkinModel_against q1713 dX7_tests_45 (fun y1 hf => ?_)
  refine lv_iload_n (pc := 48) hx hb dX7_tests_48 rfl (lv_at hl 1 rfl) ?_
  refine j_aI (pc := 49) cx hS hf rfl dX7_tests_49 (fun y2 hf => ?_)
  refine lv_bipush (pc := 50) (v := 25) hx hb dX7_tests_50 rfl ?_
  refine lv_icmp_ne (pc := 52) (tgt := 76) hx hb dX7_tests_52 (by decide) (fun hc => ?_) (fun hc => ?_)
  · have hf := jI_f hf hc
    exact wX7_tests_76 cx e1 e2 a0 hth _ _ _ _ _ _ _ _ hf hS hl
  · have hf := jI_t hf hc
    refine lv_aload_n (pc := 55) hx hb dX7_tests_55 rfl (lv_at hl 0 rfl) ?_
    refine j_gR (pc := 56) cx hS hf fd_WornSkinModel_ahead q1712 dX7_tests_56 (fun y3 hf => ?_)
    refine lv_iload_n (pc := 59) hx hb dX7_tests_59 rfl (lv_at hl 1 rfl) ?_
    refine j_aI (pc := 60) cx hS hf rfl dX7_tests_60 (fun y4 hf => ?_)
    refine lv_aload_n (pc := 61) hx hb dX7_tests_61 rfl (lv_at hl 0 rfl) ?_
    refine j_gR (pc := 62) cx hS hf fd_WornSkinModel_sum q1714 dX7_tests_62 (fun y5 hf => ?_)
    refine lv_iload_n (pc := 65) hx hb dX7_tests_65 rfl (lv_at hl 1 rfl) ?_
    refine j_aI (pc := 66) cx hS hf rfl dX7_tests_66 (fun y6 hf => ?_)
    refine lv_icmp_ne (pc := 67) (tgt := 74) hx hb dX7_tests_67 (by decide) (fun hc => ?_) (fun hc => ?_)
    · have hf := jI_f hf hc
      refine lv_iconst (pc := 74) (v := 0) hx hb dX7_tests_74 rfl ?_
      exact wX7_tests_75 cx e1 e2 a0 hth _ _ _ _ _ _ _ _ hf hS (lv_sub hl [0, 1] rfl)
    · have hf := jI_t hf hc
      refine lv_iconst (pc := 70) (v := 1) hx hb dX7_tests_70 rfl ?_
      refine lv_goto (pc := 71) (tgt := 75) hx hb dX7_tests_71 (by decide) ?_
      exact wX7_tests_75 cx e1 e2 a0 hth _ _ _ _ _ _ _ _ hf hS (lv_sub hl [0, 1] rfl)
theorem wX7_tests_43 {r : Unit} (cx : jCx p s m args meth c cX7_tests "WornSkinModel" 3 (Option.none : Option Jvm.ClassFile.FieldType) D dA H0 hs.2.2.2.2) (e1 : h'.2.2.1 = hs.2.2.1 + mc) (e2 : h'.2.2.2.1 = hs.2.2.2.1 + ms) (a0 : Nat) (hth : jTh hs a0 7) : ∀ (x1 : Int32) (v0 : Int32), ∀ (h : jH) (H : Heap) (locs : List Loc) (cells slots : Nat) (ls : Array Slot), (fX7_tests_43 a0 x1 v0).1 h = some (r, h') → jS D dA H0 hs h H locs cells slots → lv_has ls 3 [(0, .ref a0), (1, .int x1)] → W p l e { frames := 1, cells := mc, slots := ms, locals := 21 } s m args below meth c H locs cells slots (jQ D dA H0 below s (.returned none) h' mc ms) (F0 m 43 ls [.int v0]) := by
  have hx := cx.1
  have hb := cx.2.1
  have hown := cx.2.2.2.1
  have hts := cx.2.2.2.2.1
  have hm : h'.2.2.1 ≤ hs.2.2.1 + mc ∧ h'.2.2.2.1 ≤ hs.2.2.2.1 + ms := ⟨Nat.le_of_eq e1, Nat.le_of_eq e2⟩
  intro x1 v0 h H locs cells slots ls hf hS hl
  unfold fX7_tests_43 at hf
  refine lv_istore_n (pc := 43) (i := 2) (lv' := [(2, .int v0), (0, .ref a0), (1, .int x1)]) hx hb dX7_tests_43 rfl hl (Nat.le_of_ble_eq_true rfl) rfl (fun ls hl => ?_)
  exact wX7_tests_44 cx e1 e2 a0 hth _ _ _ _ _ _ _ _ hf hS (lv_sub hl [1, 2, 0] rfl)
theorem wX7_tests_0 {r : Unit} (cx : jCx p s m args meth c cX7_tests "WornSkinModel" 3 (Option.none : Option Jvm.ClassFile.FieldType) D dA H0 hs.2.2.2.2) (e1 : h'.2.2.1 = hs.2.2.1 + mc) (e2 : h'.2.2.2.1 = hs.2.2.2.1 + ms) (a0 : Nat) (hth : jTh hs a0 7) : ∀ (x1 : Int32), ∀ (h : jH) (H : Heap) (locs : List Loc) (cells slots : Nat) (ls : Array Slot), (fX7_tests a0 x1).1 h = some (r, h') → jS D dA H0 hs h H locs cells slots → lv_has ls 3 [(0, .ref a0), (1, .int x1)] → W p l e { frames := 1, cells := mc, slots := ms, locals := 21 } s m args below meth c H locs cells slots (jQ D dA H0 below s (.returned none) h' mc ms) (F0 m 0 ls []) := by
  have hx := cx.1
  have hb := cx.2.1
  have hown := cx.2.2.2.1
  have hts := cx.2.2.2.2.1
  have hm : h'.2.2.1 ≤ hs.2.2.1 + mc ∧ h'.2.2.2.1 ≤ hs.2.2.2.1 + ms := ⟨Nat.le_of_eq e1, Nat.le_of_eq e2⟩
  intro x1 h H locs cells slots ls hf hS hl
  unfold fX7_tests at hf
  refine lv_aload_n (pc := 0) hx hb dX7_tests_0 rfl (lv_at hl 0 rfl) ?_
  refine lv_iload_n (pc := 1) hx hb dX7_tests_1 rfl (lv_at hl 1 rfl) ?_
  obtain ⟨_, h1, e9, hf⟩ := jB_some hf
  refine j_callV (pc := 2) (st1 := []) (As := [.int x1]) (rest := []) cx hS rfl hl.1 hm (metX7_sums l _ _ _ _ _ (hth.at hS) e9) (jle hf) (hth.at hS) rfl (lw_V q2059 q2061 qs87 q123 q2062) pdX7_sums rfl rfl (Nat.le_of_ble_eq_true rfl) ⟨Nat.le_of_ble_eq_true rfl, Nat.le_of_ble_eq_true rfl⟩ dX7_tests_2 rfl (fun H locs cells slots hS => ?_)
  refine lv_aload_n (pc := 5) hx hb dX7_tests_5 rfl (lv_at hl 0 rfl) ?_
  refine j_gR (pc := 6) cx hS hf fd_WornSkinModel_sum q1714 dX7_tests_6 (fun y2 hf => ?_)
  refine lv_iload_n (pc := 9) hx hb dX7_tests_9 rfl (lv_at hl 1 rfl) ?_
  refine j_aI (pc := 10) cx hS hf rfl dX7_tests_10 (fun y3 hf => ?_)
  refine lv_istore_n (pc := 11) (i := 2) (lv' := [(2, .int y3), (0, .ref a0), (1, .int x1)]) hx hb dX7_tests_11 rfl hl (Nat.le_of_ble_eq_true rfl) rfl (fun ls hl => ?_)
  refine lv_aload_n (pc := 12) hx hb dX7_tests_12 rfl (lv_at hl 1 rfl) ?_
  refine j_gR (pc := 13) cx hS hf fd_WornSkinModel_against q1713 dX7_tests_13 (fun y4 hf => ?_)
  refine lv_iload_n (pc := 16) hx hb dX7_tests_16 rfl (lv_at hl 2 rfl) ?_
  refine j_aI (pc := 17) cx hS hf rfl dX7_tests_17 (fun y5 hf => ?_)
  refine lv_bipush (pc := 18) (v := 24) hx hb dX7_tests_18 rfl ?_
  refine lv_icmp_ne (pc := 20) (tgt := 44) hx hb dX7_tests_20 (by decide) (fun hc => ?_) (fun hc => ?_)
  · have hf := jI_f hf hc
    exact wX7_tests_44 cx e1 e2 a0 hth _ _ _ _ _ _ _ _ hf hS (lv_sub hl [1, 2, 0] rfl)
  · have hf := jI_t hf hc
    refine lv_aload_n (pc := 23) hx hb dX7_tests_23 rfl (lv_at hl 1 rfl) ?_
    refine j_gR (pc := 24) cx hS hf fd_WornSkinModel_ahead q1712 dX7_tests_24 (fun y6 hf => ?_)
    refine lv_iload_n (pc := 27) hx hb dX7_tests_27 rfl (lv_at hl 2 rfl) ?_
    refine j_aI (pc := 28) cx hS hf rfl dX7_tests_28 (fun y7 hf => ?_)
    refine lv_aload_n (pc := 29) hx hb dX7_tests_29 rfl (lv_at hl 1 rfl) ?_
    refine j_gR (pc := 30) cx hS hf fd_WornSkinModel_sum q1714 dX7_tests_30 (fun y8 hf => ?_)
    refine lv_iload_n (pc := 33) hx hb dX7_tests_33 rfl (lv_at hl 2 rfl) ?_
    refine j_aI (pc := 34) cx hS hf rfl dX7_tests_34 (fun y9 hf => ?_)
    refine lv_icmp_ge (pc := 35) (tgt := 42) hx hb dX7_tests_35 (by decide) (fun hc => ?_) (fun hc => ?_)
    · have hf := jI_t hf hc
      refine lv_iconst (pc := 42) (v := 0) hx hb dX7_tests_42 rfl ?_
      exact wX7_tests_43 cx e1 e2 a0 hth _ _ _ _ _ _ _ _ hf hS (lv_sub hl [1, 2] rfl)
    · have hf := jI_f hf hc
      refine lv_iconst (pc := 38) (v := 1) hx hb dX7_tests_38 rfl ?_
      refine lv_goto (pc := 39) (tgt := 43) hx hb dX7_tests_39 (by decide) ?_
      exact wX7_tests_43 cx e1 e2 a0 hth _ _ _ _ _ _ _ _ hf hS (lv_sub hl [1, 2] rfl)
theorem metX7_tests (l : Launch) (a0 : Nat) (x1 : Int32) (h h' : jH) (r : Unit) (hth : jcd h a0 = some 7) (hf : (fX7_tests a0 x1).1 h = some (r, h')) : jMet l yX7_tests (ws_ yX7_tests cX7_tests 3 (Option.none : Option Jvm.ClassFile.FieldType)) (1) (21) [.ref a0, .int x1] h h' (.returned none) := by
  refine jStart rfl (jle hf) (Nat.le_of_ble_eq_true rfl) ?_
  intro p e s m below meth c D dA H0 mc ms ls cx hnm e1 e2 hS hl
  have hth := jTh.mk hS hth
  exact wX7_tests_0 cx e1 e2 a0 hth _ _ _ _ _ _ _ hf hS hl
def fX7_worked_335 (N : Nat) (a0 : Nat) : jM Int32 := jB (fX7_tests a0 0) fun _ => jB (jgR [7] 26 (some a0)) fun y2 => jB (jaI 0 y2 0) fun y3 => jR y3
def fX7_worked_329 (N : Nat) (k14 : Int32 → Int32 → Int32 → jM Int32) (a0 : Nat) (x1 : Int32) (x2 : Int32) (x3 : Int32) : jM Int32 := k14 x1 x2 (x3 + 1)
def fX7_worked_328 (N : Nat) (k14 : Int32 → Int32 → Int32 → jM Int32) (a0 : Nat) (x1 : Int32) (x2 : Int32) (x3 : Int32) (v0 : Option Nat) (v1 : Int32) (v2 : Int32) : jM Int32 := jB (jsI 0 v0 v1 v2) fun _ => fX7_worked_329 N k14 a0 x1 x2 x3
def fX7_worked_300 (N : Nat) (k14 : Int32 → Int32 → Int32 → jM Int32) (a0 : Nat) (x1 : Int32) (x2 : Int32) (x3 : Int32) (x5 : Int32) : jM Int32 := jB (jgR [7] 32 (some a0)) fun y1 => jB (jgR [7] 33 (some a0)) fun y2 => jB (jaI 0 y2 x2) fun y3 => if y3 = 0 then (fX7_worked_328 N k14 a0 x1 x2 x3 y1 x2 x5) else (jB (jgR [7] 32 (some a0)) fun y4 => jB (jaI 0 y4 x2) fun y5 => fX7_worked_328 N k14 a0 x1 x2 x3 y1 x2 (y5 * x5))
def fX7_worked_292 (N : Nat) (k268 : Int32 → Int32 → Int32 → Int32 → jM Int32) (a0 : Nat) (x1 : Int32) (x2 : Int32) (x3 : Int32) (v0 : Int32) : jM Int32 := k268 x1 (x2 + (-1)) x3 v0
def fX7_worked_268 (N : Nat) (k14 : Int32 → Int32 → Int32 → jM Int32) (a0 : Nat) : Nat → Int32 → Int32 → Int32 → Int32 → jM Int32
  | 0, _, _, _, _ => jE
  | n + 1, x1, x2, x3, x5 => if x2 ≤ 0 then (fX7_worked_300 N k14 a0 x1 x2 x3 x5) else (jB (jgR [7] 34 (some a0)) fun y1 => jB (jaI 0 y1 x2) fun y2 => if y2 = 1 then (if x5 = 0 then (fX7_worked_292 N (fX7_worked_268 N k14 a0 n) a0 x1 x2 x3 1) else (fX7_worked_292 N (fX7_worked_268 N k14 a0 n) a0 x1 x2 x3 0)) else (fX7_worked_300 N k14 a0 x1 x2 x3 x5))
def fX7_worked_243 (N : Nat) (k14 : Int32 → Int32 → Int32 → jM Int32) (a0 : Nat) (x1 : Int32) (x2 : Int32) (x3 : Int32) (x4 : Int32) (v0 : Int32) : jM Int32 := if x4 = 29 then (jB (fX7_tests a0 x2) fun _ => jB (jgR [7] 26 (some a0)) fun y2 => jB (jaI 0 y2 x2) fun y3 => fX7_worked_268 N k14 a0 N x1 (x2 + (-1)) x3 y3) else (fX7_worked_268 N k14 a0 N x1 x2 x3 v0)
def fX7_worked_194 (N : Nat) (k14 : Int32 → Int32 → Int32 → jM Int32) (a0 : Nat) (x1 : Int32) (x2 : Int32) (x3 : Int32) (x4 : Int32) : jM Int32 := jB (fX7_tests a0 x2) fun _ => jB (jgR [7] 27 (some a0)) fun y2 => jB (jsI 0 y2 x2 x4) fun _ => fX7_worked_329 N k14 a0 x1 x2 x3
def fX7_worked_137 (N : Nat) (k14 : Int32 → Int32 → Int32 → jM Int32) (a0 : Nat) (x1 : Int32) (x2 : Int32) (x3 : Int32) (x4 : Int32) : jM Int32 := jB (fX7_sums a0 x2) fun _ => jB (jgR [7] 28 (some a0)) fun y2 => jB (jgR [7] 30 (some a0)) fun y3 => jB (jaI 0 y3 x2) fun y4 => jB (jsI 0 y2 x2 y4) fun _ => jB (jgR [7] 29 (some a0)) fun y5 => jB (jsI 0 y5 x2 x4) fun _ => jB (jgR [7] 30 (some a0)) fun y6 => jB (jsI 0 y6 x2 0) fun _ => jB (jgR [7] 31 (some a0)) fun y7 => jB (jsI 0 y7 x2 20) fun _ => fX7_worked_329 N k14 a0 x1 x2 x3
def fX7_worked_89 (N : Nat) (k14 : Int32 → Int32 → Int32 → jM Int32) (a0 : Nat) (x1 : Int32) (x2 : Int32) (x3 : Int32) (x4 : Int32) : jM Int32 := jB (fX7_sums a0 x2) fun _ => jB (jgR [7] 31 (some a0)) fun y2 => jB (jsI 0 y2 x2 x4) fun _ => fX7_worked_329 N k14 a0 x1 x2 x3
def fX7_worked_66 (N : Nat) (k14 : Int32 → Int32 → Int32 → jM Int32) (a0 : Nat) (x1 : Int32) (x2 : Int32) (x3 : Int32) (v0 : Option Nat) (v1 : Int32) (v2 : Int32) : jM Int32 := jB (jsI 0 v0 v1 v2) fun _ => jB (fX7_opens a0 x2) fun _ => fX7_worked_329 N k14 a0 x1 x2 x3
def fX7_worked_46 (N : Nat) (k14 : Int32 → Int32 → Int32 → jM Int32) (a0 : Nat) (x1 : Int32) (x2 : Int32) (x3 : Int32) (x4 : Int32) : jM Int32 := jB (jgR [7] 34 (some a0)) fun y1 => if x4 = 30 then (fX7_worked_66 N k14 a0 x1 (x2 + 1) x3 y1 (x2 + 1) 1) else (fX7_worked_66 N k14 a0 x1 (x2 + 1) x3 y1 (x2 + 1) 0)
def fX7_worked_14 (N : Nat) (a0 : Nat) : Nat → Int32 → Int32 → Int32 → jM Int32
  | 0, _, _, _ => jE
  | n + 1, x1, x2, x3 => jB (jgR [7] 21 (some a0)) fun y1 => jB (jaI 0 y1 x1) fun y2 => if y2 ≤ x3 then (fX7_worked_335 N a0) else (jB (jgR [7] 22 (some a0)) fun y3 => jB (jaI 0 y3 x3) fun y4 => if y4 = 28 then (fX7_worked_46 N (fX7_worked_14 N a0 n) a0 x1 x2 x3 y4) else (if y4 = 30 then (fX7_worked_46 N (fX7_worked_14 N a0 n) a0 x1 x2 x3 y4) else (if y4 = 20 then (fX7_worked_89 N (fX7_worked_14 N a0 n) a0 x1 x2 x3 y4) else (if y4 = 21 then (fX7_worked_89 N (fX7_worked_14 N a0 n) a0 x1 x2 x3 y4) else (if y4 = 22 then (jB (jgR [7] 33 (some a0)) fun y7 => jB (jsI 0 y7 x2 y4) fun _ => fX7_worked_329 N (fX7_worked_14 N a0 n) a0 x1 x2 x3) else (if y4 = 24 then (fX7_worked_137 N (fX7_worked_14 N a0 n) a0 x1 x2 x3 y4) else (if y4 = 25 then (fX7_worked_137 N (fX7_worked_14 N a0 n) a0 x1 x2 x3 y4) else (if y4 = 26 then (fX7_worked_194 N (fX7_worked_14 N a0 n) a0 x1 x2 x3 y4) else (if y4 = 27 then (fX7_worked_194 N (fX7_worked_14 N a0 n) a0 x1 x2 x3 y4) else (if y4 < 100 then (if 20 ≤ y4 then (fX7_worked_243 N (fX7_worked_14 N a0 n) a0 x1 x2 x3 y4 0) else (jB (jgR [7] 35 (some a0)) fun y5 => jB (jaI 0 y5 y4) fun y6 => fX7_worked_243 N (fX7_worked_14 N a0 n) a0 x1 x2 x3 y4 y6)) else (fX7_worked_243 N (fX7_worked_14 N a0 n) a0 x1 x2 x3 y4 (y4 - 100))))))))))))
def fX7_worked (N : Nat) (a0 : Nat) (x1 : Int32) : jM Int32 := jB (fX7_opens a0 0) fun _ => jB (jgR [7] 20 (some a0)) fun y2 => jB (jaI 0 y2 x1) fun y3 => fX7_worked_14 N a0 N x1 0 y3
theorem wX7_worked_335 {N : Nat} {r : Int32} (cx : jCx p s m args meth c cX7_worked "WornSkinModel" 6 (Option.some Jvm.ClassFile.FieldType.int) D dA H0 hs.2.2.2.2) (e1 : h'.2.2.1 = hs.2.2.1 + mc) (e2 : h'.2.2.2.1 = hs.2.2.2.1 + ms) (a0 : Nat) (hth : jTh hs a0 7) : ∀ (h : jH) (H : Heap) (locs : List Loc) (cells slots : Nat) (ls : Array Slot), (fX7_worked_335 N a0).1 h = some (r, h') → jS D dA H0 hs h H locs cells slots → lv_has ls 6 [(0, .ref a0)] → W p l e { frames := 2, cells := mc, slots := ms, locals := 43 } s m args below meth c H locs cells slots (jQ D dA H0 below s (.returned (some (.int r))) h' mc ms) (F0 m 335 ls []) := by
  have hx := cx.1
  have hb := cx.2.1
  have hown := cx.2.2.2.1
  have hts := cx.2.2.2.2.1
  have hm : h'.2.2.1 ≤ hs.2.2.1 + mc ∧ h'.2.2.2.1 ≤ hs.2.2.2.1 + ms := ⟨Nat.le_of_eq e1, Nat.le_of_eq e2⟩
  intro h H locs cells slots ls hf hS hl
  unfold fX7_worked_335 at hf
  refine lv_aload_n (pc := 335) hx hb dX7_worked_335 rfl (lv_at hl 0 rfl) ?_
  refine lv_iconst (pc := 336) (v := 0) hx hb dX7_worked_336 rfl ?_
  obtain ⟨_, h1, e9, hf⟩ := jB_some hf
  refine j_callV (pc := 337) (st1 := []) (As := [.int 0]) (rest := []) cx hS rfl hl.1 hm (metX7_tests l _ _ _ _ _ (hth.at hS) e9) (jle hf) (hth.at hS) rfl (lw_V q2063 q2065 qs88 q123 q2066) pdX7_tests rfl rfl (Nat.le_of_ble_eq_true rfl) ⟨Nat.le_of_ble_eq_true rfl, Nat.le_of_ble_eq_true rfl⟩ dX7_worked_337 rfl (fun H locs cells slots hS => ?_)
  refine lv_aload_n (pc := 340) hx hb dX7_worked_340 rfl (lv_at hl 0 rfl) ?_
  refine j_gR (pc := 341) cx hS hf fd_WornSkinModel_kept q1710 dX7_worked_341 (fun y2 hf => ?_)
  refine lv_iconst (pc := 344) (v := 0) hx hb dX7_worked_344 rfl ?_
  refine j_aI (pc := 345) cx hS hf rfl dX7_worked_345 (fun y3 hf => ?_)
  exact j_iret (pc := 346) cx hS hf e1 e2 dX7_worked_346
theorem wX7_worked_329 {N : Nat} {k14 : Int32 → Int32 → Int32 → jM Int32} {r : Int32} (cx : jCx p s m args meth c cX7_worked "WornSkinModel" 6 (Option.some Jvm.ClassFile.FieldType.int) D dA H0 hs.2.2.2.2) (e1 : h'.2.2.1 = hs.2.2.1 + mc) (e2 : h'.2.2.2.1 = hs.2.2.2.1 + ms) (a0 : Nat) (hth : jTh hs a0 7) (hk14 : ∀ (x1 : Int32) (x2 : Int32) (x3 : Int32), ∀ (h : jH) (H : Heap) (locs : List Loc) (cells slots : Nat) (ls : Array Slot), (k14 x1 x2 x3).1 h = some (r, h') → jS D dA H0 hs h H locs cells slots → lv_has ls 6 [(0, .ref a0), (1, .int x1), (2, .int x2), (3, .int x3)] → W p l e { frames := 2, cells := mc, slots := ms, locals := 43 } s m args below meth c H locs cells slots (jQ D dA H0 below s (.returned (some (.int r))) h' mc ms) (F0 m 14 ls [])) : ∀ (x1 : Int32) (x2 : Int32) (x3 : Int32), ∀ (h : jH) (H : Heap) (locs : List Loc) (cells slots : Nat) (ls : Array Slot), (fX7_worked_329 N k14 a0 x1 x2 x3).1 h = some (r, h') → jS D dA H0 hs h H locs cells slots → lv_has ls 6 [(0, .ref a0), (1, .int x1), (2, .int x2), (3, .int x3)] → W p l e { frames := 2, cells := mc, slots := ms, locals := 43 } s m args below meth c H locs cells slots (jQ D dA H0 below s (.returned (some (.int r))) h' mc ms) (F0 m 329 ls []) := by
  have hx := cx.1
  have hb := cx.2.1
  have hown := cx.2.2.2.1
  have hts := cx.2.2.2.2.1
  have hm : h'.2.2.1 ≤ hs.2.2.1 + mc ∧ h'.2.2.2.1 ≤ hs.2.2.2.1 + ms := ⟨Nat.le_of_eq e1, Nat.le_of_eq e2⟩
  intro x1 x2 x3 h H locs cells slots ls hf hS hl
  unfold fX7_worked_329 at hf
  refine lv_iinc (pc := 329) (v := (x3 + 1)) (lv' := [(3, .int (x3 + 1)), (0, .ref a0), (1, .int x1), (2, .int x2)]) hx hb dX7_worked_329 hl (k := 3) rfl rfl (Nat.le_of_ble_eq_true rfl) rfl (fun ls hl => ?_)
  refine lv_goto (pc := 332) (tgt := 14) hx hb dX7_worked_332 (by decide) ?_
  exact hk14 _ _ _ _ _ _ _ _ _ hf hS (lv_sub hl [1, 2, 3, 0] rfl)
theorem wX7_worked_328 {N : Nat} {k14 : Int32 → Int32 → Int32 → jM Int32} {r : Int32} (cx : jCx p s m args meth c cX7_worked "WornSkinModel" 6 (Option.some Jvm.ClassFile.FieldType.int) D dA H0 hs.2.2.2.2) (e1 : h'.2.2.1 = hs.2.2.1 + mc) (e2 : h'.2.2.2.1 = hs.2.2.2.1 + ms) (a0 : Nat) (hth : jTh hs a0 7) (hk14 : ∀ (x1 : Int32) (x2 : Int32) (x3 : Int32), ∀ (h : jH) (H : Heap) (locs : List Loc) (cells slots : Nat) (ls : Array Slot), (k14 x1 x2 x3).1 h = some (r, h') → jS D dA H0 hs h H locs cells slots → lv_has ls 6 [(0, .ref a0), (1, .int x1), (2, .int x2), (3, .int x3)] → W p l e { frames := 2, cells := mc, slots := ms, locals := 43 } s m args below meth c H locs cells slots (jQ D dA H0 below s (.returned (some (.int r))) h' mc ms) (F0 m 14 ls [])) : ∀ (x1 : Int32) (x2 : Int32) (x3 : Int32) (v0 : Option Nat) (v1 : Int32) (v2 : Int32), ∀ (h : jH) (H : Heap) (locs : List Loc) (cells slots : Nat) (ls : Array Slot), (fX7_worked_328 N k14 a0 x1 x2 x3 v0 v1 v2).1 h = some (r, h') → jS D dA H0 hs h H locs cells slots → lv_has ls 6 [(0, .ref a0), (1, .int x1), (2, .int x2), (3, .int x3)] → W p l e { frames := 2, cells := mc, slots := ms, locals := 43 } s m args below meth c H locs cells slots (jQ D dA H0 below s (.returned (some (.int r))) h' mc ms) (F0 m 328 ls [.int v2, .int v1, va_rf v0]) := by
  have hx := cx.1
  have hb := cx.2.1
  have hown := cx.2.2.2.1
  have hts := cx.2.2.2.2.1
  have hm : h'.2.2.1 ≤ hs.2.2.1 + mc ∧ h'.2.2.2.1 ≤ hs.2.2.2.1 + ms := ⟨Nat.le_of_eq e1, Nat.le_of_eq e2⟩
  intro x1 x2 x3 v0 v1 v2 h H locs cells slots ls hf hS hl
  unfold fX7_worked_328 at hf
  refine j_sI (pc := 328) cx hS hf rfl dX7_worked_328 (fun h H locs hf hS => ?_)
  exact wX7_worked_329 cx e1 e2 a0 hth hk14 _ _ _ _ _ _ _ _ _ hf hS hl
theorem wX7_worked_300 {N : Nat} {k14 : Int32 → Int32 → Int32 → jM Int32} {r : Int32} (cx : jCx p s m args meth c cX7_worked "WornSkinModel" 6 (Option.some Jvm.ClassFile.FieldType.int) D dA H0 hs.2.2.2.2) (e1 : h'.2.2.1 = hs.2.2.1 + mc) (e2 : h'.2.2.2.1 = hs.2.2.2.1 + ms) (a0 : Nat) (hth : jTh hs a0 7) (hk14 : ∀ (x1 : Int32) (x2 : Int32) (x3 : Int32), ∀ (h : jH) (H : Heap) (locs : List Loc) (cells slots : Nat) (ls : Array Slot), (k14 x1 x2 x3).1 h = some (r, h') → jS D dA H0 hs h H locs cells slots → lv_has ls 6 [(0, .ref a0), (1, .int x1), (2, .int x2), (3, .int x3)] → W p l e { frames := 2, cells := mc, slots := ms, locals := 43 } s m args below meth c H locs cells slots (jQ D dA H0 below s (.returned (some (.int r))) h' mc ms) (F0 m 14 ls [])) : ∀ (x1 : Int32) (x2 : Int32) (x3 : Int32) (x5 : Int32), ∀ (h : jH) (H : Heap) (locs : List Loc) (cells slots : Nat) (ls : Array Slot), (fX7_worked_300 N k14 a0 x1 x2 x3 x5).1 h = some (r, h') → jS D dA H0 hs h H locs cells slots → lv_has ls 6 [(0, .ref a0), (1, .int x1), (2, .int x2), (3, .int x3), (5, .int x5)] → W p l e { frames := 2, cells := mc, slots := ms, locals := 43 } s m args below meth c H locs cells slots (jQ D dA H0 below s (.returned (some (.int r))) h' mc ms) (F0 m 300 ls []) := by
  have hx := cx.1
  have hb := cx.2.1
  have hown := cx.2.2.2.1
  have hts := cx.2.2.2.2.1
  have hm : h'.2.2.1 ≤ hs.2.2.1 + mc ∧ h'.2.2.2.1 ≤ hs.2.2.2.1 + ms := ⟨Nat.le_of_eq e1, Nat.le_of_eq e2⟩
  intro x1 x2 x3 x5 h H locs cells slots ls hf hS hl
  unfold fX7_worked_300 at hf
  refine lv_aload_n (pc := 300) hx hb dX7_worked_300 rfl (lv_at hl 0 rfl) ?_
  refine j_gR (pc := 301) cx hS hf fd_WornSkinModel_term q1716 dX7_worked_301 (fun y1 hf => ?_)
  refine lv_iload_n (pc := 304) hx hb dX7_worked_304 rfl (lv_at hl 2 rfl) ?_
  refine lv_aload_n (pc := 305) hx hb dX7_worked_305 rfl (lv_at hl 0 rfl) ?_
  refine j_gR (pc := 306) cx hS hf fd_WornSkinModel_termBy q1717 dX7_worked_306 (fun y2 hf => ?_)
  refine lv_iload_n (pc := 309) hx hb dX7_worked_309 rfl (lv_at hl 2 rfl) ?_
  refine j_aI (pc := 310) cx hS hf rfl dX7_worked_310 (fun y3 hf => ?_)
  refine lv_if_ne (pc := 311) (tgt := 319) hx hb dX7_worked_311 (by decide) (fun hc => ?_) (fun hc => ?_)
  · have hf := jI_f hf hc
    refine lv_aload_n (pc := 319) hx hb dX7_worked_319 rfl (lv_at hl 0 rfl) ?_
    refine j_gR (pc := 320) cx hS hf fd_WornSkinModel_term q1716 dX7_worked_320 (fun y4 hf => ?_)
    refine lv_iload_n (pc := 323) hx hb dX7_worked_323 rfl (lv_at hl 2 rfl) ?_
    refine j_aI (pc := 324) cx hS hf rfl dX7_worked_324 (fun y5 hf => ?_)
    refine lv_iload (pc := 325) hx hb dX7_worked_325 (lv_at hl 4 rfl) ?_
    refine lv_imul (pc := 327) hx hb dX7_worked_327 ?_
    exact wX7_worked_328 cx e1 e2 a0 hth hk14 _ _ _ _ _ _ _ _ _ _ _ _ hf hS (lv_sub hl [0, 1, 2, 3] rfl)
  · have hf := jI_t hf hc
    refine lv_iload (pc := 314) hx hb dX7_worked_314 (lv_at hl 4 rfl) ?_
    refine lv_goto (pc := 316) (tgt := 328) hx hb dX7_worked_316 (by decide) ?_
    exact wX7_worked_328 cx e1 e2 a0 hth hk14 _ _ _ _ _ _ _ _ _ _ _ _ hf hS (lv_sub hl [0, 1, 2, 3] rfl)
theorem wX7_worked_292 {N : Nat} {k268 : Int32 → Int32 → Int32 → Int32 → jM Int32} {r : Int32} (cx : jCx p s m args meth c cX7_worked "WornSkinModel" 6 (Option.some Jvm.ClassFile.FieldType.int) D dA H0 hs.2.2.2.2) (e1 : h'.2.2.1 = hs.2.2.1 + mc) (e2 : h'.2.2.2.1 = hs.2.2.2.1 + ms) (a0 : Nat) (hth : jTh hs a0 7) (hk268 : ∀ (x1 : Int32) (x2 : Int32) (x3 : Int32) (x5 : Int32), ∀ (h : jH) (H : Heap) (locs : List Loc) (cells slots : Nat) (ls : Array Slot), (k268 x1 x2 x3 x5).1 h = some (r, h') → jS D dA H0 hs h H locs cells slots → lv_has ls 6 [(0, .ref a0), (1, .int x1), (2, .int x2), (3, .int x3), (5, .int x5)] → W p l e { frames := 2, cells := mc, slots := ms, locals := 43 } s m args below meth c H locs cells slots (jQ D dA H0 below s (.returned (some (.int r))) h' mc ms) (F0 m 268 ls [])) : ∀ (x1 : Int32) (x2 : Int32) (x3 : Int32) (v0 : Int32), ∀ (h : jH) (H : Heap) (locs : List Loc) (cells slots : Nat) (ls : Array Slot), (fX7_worked_292 N k268 a0 x1 x2 x3 v0).1 h = some (r, h') → jS D dA H0 hs h H locs cells slots → lv_has ls 6 [(0, .ref a0), (1, .int x1), (2, .int x2), (3, .int x3)] → W p l e { frames := 2, cells := mc, slots := ms, locals := 43 } s m args below meth c H locs cells slots (jQ D dA H0 below s (.returned (some (.int r))) h' mc ms) (F0 m 292 ls [.int v0]) := by
  have hx := cx.1
  have hb := cx.2.1
  have hown := cx.2.2.2.1
  have hts := cx.2.2.2.2.1
  have hm : h'.2.2.1 ≤ hs.2.2.1 + mc ∧ h'.2.2.2.1 ≤ hs.2.2.2.1 + ms := ⟨Nat.le_of_eq e1, Nat.le_of_eq e2⟩
  intro x1 x2 x3 v0 h H locs cells slots ls hf hS hl
  unfold fX7_worked_292 at hf
  refine lv_istore (pc := 292) (i := 5) (lv' := [(5, .int v0), (0, .ref a0), (1, .int x1), (2, .int x2), (3, .int x3)]) hx hb dX7_worked_292 hl (Nat.le_of_ble_eq_true rfl) rfl (fun ls hl => ?_)
  refine lv_iinc (pc := 294) (v := (x2 + (-1))) (lv' := [(2, .int (x2 + (-1))), (5, .int v0), (0, .ref a0), (1, .int x1), (3, .int x3)]) hx hb dX7_worked_294 hl (k := 3) rfl (jm1 _) (Nat.le_of_ble_eq_true rfl) rfl (fun ls hl => ?_)
  refine lv_goto (pc := 297) (tgt := 268) hx hb dX7_worked_297 (by decide) ?_
  exact hk268 _ _ _ _ _ _ _ _ _ _ hf hS (lv_sub hl [2, 3, 0, 4, 1] rfl)
theorem wX7_worked_268 {N : Nat} {k14 : Int32 → Int32 → Int32 → jM Int32} {r : Int32} (cx : jCx p s m args meth c cX7_worked "WornSkinModel" 6 (Option.some Jvm.ClassFile.FieldType.int) D dA H0 hs.2.2.2.2) (e1 : h'.2.2.1 = hs.2.2.1 + mc) (e2 : h'.2.2.2.1 = hs.2.2.2.1 + ms) (a0 : Nat) (hth : jTh hs a0 7) (hk14 : ∀ (x1 : Int32) (x2 : Int32) (x3 : Int32), ∀ (h : jH) (H : Heap) (locs : List Loc) (cells slots : Nat) (ls : Array Slot), (k14 x1 x2 x3).1 h = some (r, h') → jS D dA H0 hs h H locs cells slots → lv_has ls 6 [(0, .ref a0), (1, .int x1), (2, .int x2), (3, .int x3)] → W p l e { frames := 2, cells := mc, slots := ms, locals := 43 } s m args below meth c H locs cells slots (jQ D dA H0 below s (.returned (some (.int r))) h' mc ms) (F0 m 14 ls [])) : ∀ (n : Nat) (x1 : Int32) (x2 : Int32) (x3 : Int32) (x5 : Int32), ∀ (h : jH) (H : Heap) (locs : List Loc) (cells slots : Nat) (ls : Array Slot), (fX7_worked_268 N k14 a0 n x1 x2 x3 x5).1 h = some (r, h') → jS D dA H0 hs h H locs cells slots → lv_has ls 6 [(0, .ref a0), (1, .int x1), (2, .int x2), (3, .int x3), (5, .int x5)] → W p l e { frames := 2, cells := mc, slots := ms, locals := 43 } s m args below meth c H locs cells slots (jQ D dA H0 below s (.returned (some (.int r))) h' mc ms) (F0 m 268 ls []) := by
  have hx := cx.1
  have hb := cx.2.1
  have hown := cx.2.2.2.1
  have hts := cx.2.2.2.2.1
  have hm : h'.2.2.1 ≤ hs.2.2.1 + mc ∧ h'.2.2.2.1 ≤ hs.2.2.2.1 + ms := ⟨Nat.le_of_eq e1, Nat.le_of_eq e2⟩
  intro n
  induction n with
  | zero =>
    intro x1 x2 x3 x5 h H locs cells slots ls hf hS hl
    exact jE_f hf
  | succ n ih =>
    intro x1 x2 x3 x5 h H locs cells slots ls hf hS hl
    unfold fX7_worked_268 at hf
    refine lv_iload_n (pc := 268) hx hb dX7_worked_268 rfl (lv_at hl 2 rfl) ?_
    refine lv_if_le (pc := 269) (tgt := 300) hx hb dX7_worked_269 (by decide) (fun hc => ?_) (fun hc => ?_)
    · have hf := jI_t hf hc
      exact wX7_worked_300 cx e1 e2 a0 hth hk14 _ _ _ _ _ _ _ _ _ _ hf hS hl
    · have hf := jI_f hf hc
      refine lv_aload_n (pc := 272) hx hb dX7_worked_272 rfl (lv_at hl 0 rfl) ?_
      refine j_gR (pc := 273) cx hS hf fd_WornSkinModel_byNot q1718 dX7_worked_273 (fun y1 hf => ?_)
      refine lv_iload_n (pc := 276) hx hb dX7_worked_276 rfl (lv_at hl 2 rfl) ?_
      refine j_aI (pc := 277) cx hS hf rfl dX7_worked_277 (fun y2 hf => ?_)
      refine lv_iconst (pc := 278) (v := 1) hx hb dX7_worked_278 rfl ?_
      refine lv_icmp_ne (pc := 279) (tgt := 300) hx hb dX7_worked_279 (by decide) (fun hc => ?_) (fun hc => ?_)
      · have hf := jI_f hf hc
        exact wX7_worked_300 cx e1 e2 a0 hth hk14 _ _ _ _ _ _ _ _ _ _ hf hS hl
      · have hf := jI_t hf hc
        refine lv_iload (pc := 282) hx hb dX7_worked_282 (lv_at hl 4 rfl) ?_
        refine lv_if_ne (pc := 284) (tgt := 291) hx hb dX7_worked_284 (by decide) (fun hc => ?_) (fun hc => ?_)
        · have hf := jI_f hf hc
          refine lv_iconst (pc := 291) (v := 0) hx hb dX7_worked_291 rfl ?_
          exact wX7_worked_292 cx e1 e2 a0 hth ih _ _ _ _ _ _ _ _ _ _ hf hS (lv_sub hl [0, 1, 2, 3] rfl)
        · have hf := jI_t hf hc
          refine lv_iconst (pc := 287) (v := 1) hx hb dX7_worked_287 rfl ?_
          refine lv_goto (pc := 288) (tgt := 292) hx hb dX7_worked_288 (by decide) ?_
          exact wX7_worked_292 cx e1 e2 a0 hth ih _ _ _ _ _ _ _ _ _ _ hf hS (lv_sub hl [0, 1, 2, 3] rfl)
theorem wX7_worked_243 {N : Nat} {k14 : Int32 → Int32 → Int32 → jM Int32} {r : Int32} (cx : jCx p s m args meth c cX7_worked "WornSkinModel" 6 (Option.some Jvm.ClassFile.FieldType.int) D dA H0 hs.2.2.2.2) (e1 : h'.2.2.1 = hs.2.2.1 + mc) (e2 : h'.2.2.2.1 = hs.2.2.2.1 + ms) (a0 : Nat) (hth : jTh hs a0 7) (hk14 : ∀ (x1 : Int32) (x2 : Int32) (x3 : Int32), ∀ (h : jH) (H : Heap) (locs : List Loc) (cells slots : Nat) (ls : Array Slot), (k14 x1 x2 x3).1 h = some (r, h') → jS D dA H0 hs h H locs cells slots → lv_has ls 6 [(0, .ref a0), (1, .int x1), (2, .int x2), (3, .int x3)] → W p l e { frames := 2, cells := mc, slots := ms, locals := 43 } s m args below meth c H locs cells slots (jQ D dA H0 below s (.returned (some (.int r))) h' mc ms) (F0 m 14 ls [])) : ∀ (x1 : Int32) (x2 : Int32) (x3 : Int32) (x4 : Int32) (v0 : Int32), ∀ (h : jH) (H : Heap) (locs : List Loc) (cells slots : Nat) (ls : Array Slot), (fX7_worked_243 N k14 a0 x1 x2 x3 x4 v0).1 h = some (r, h') → jS D dA H0 hs h H locs cells slots → lv_has ls 6 [(0, .ref a0), (1, .int x1), (2, .int x2), (3, .int x3), (4, .int x4)] → W p l e { frames := 2, cells := mc, slots := ms, locals := 43 } s m args below meth c H locs cells slots (jQ D dA H0 below s (.returned (some (.int r))) h' mc ms) (F0 m 243 ls [.int v0]) := by
  have hx := cx.1
  have hb := cx.2.1
  have hown := cx.2.2.2.1
  have hts := cx.2.2.2.2.1
  have hm : h'.2.2.1 ≤ hs.2.2.1 + mc ∧ h'.2.2.2.1 ≤ hs.2.2.2.1 + ms := ⟨Nat.le_of_eq e1, Nat.le_of_eq e2⟩
  intro x1 x2 x3 x4 v0 h H locs cells slots ls hf hS hl
  unfold fX7_worked_243 at hf
  refine lv_istore (pc := 243) (i := 5) (lv' := [(5, .int v0), (0, .ref a0), (1, .int x1), (2, .int x2), (3, .int x3), (4, .int x4)]) hx hb dX7_worked_243 hl (Nat.le_of_ble_eq_true rfl) rfl (fun ls hl => ?_)
  refine lv_iload (pc := 245) hx hb dX7_worked_245 (lv_at hl 5 rfl) ?_
  refine lv_bipush (pc := 247) (v := 29) hx hb dX7_worked_247 rfl ?_
  refine lv_icmp_ne (pc := 249) (tgt := 268) hx hb dX7_worked_249 (by decide) (fun hc => ?_) (fun hc => ?_)
  · have hf := jI_f hf hc
    exact wX7_worked_268 cx e1 e2 a0 hth hk14 N _ _ _ _ _ _ _ _ _ _ hf hS (lv_sub hl [1, 2, 3, 4, 0] rfl)
  · have hf := jI_t hf hc
    refine lv_aload_n (pc := 252) hx hb dX7_worked_252 rfl (lv_at hl 1 rfl) ?_
    refine lv_iload_n (pc := 253) hx hb dX7_worked_253 rfl (lv_at hl 3 rfl) ?_
    obtain ⟨_, h1, e9, hf⟩ := jB_some hf
    refine j_callV (pc := 254) (st1 := []) (As := [.int x2]) (rest := []) cx hS rfl hl.1 hm (metX7_tests l _ _ _ _ _ (hth.at hS) e9) (jle hf) (hth.at hS) rfl (lw_V q2063 q2065 qs88 q123 q2066) pdX7_tests rfl rfl (Nat.le_of_ble_eq_true rfl) ⟨Nat.le_of_ble_eq_true rfl, Nat.le_of_ble_eq_true rfl⟩ dX7_worked_254 rfl (fun H locs cells slots hS => ?_)
    refine lv_aload_n (pc := 257) hx hb dX7_worked_257 rfl (lv_at hl 1 rfl) ?_
    refine j_gR (pc := 258) cx hS hf fd_WornSkinModel_kept q1710 dX7_worked_258 (fun y2 hf => ?_)
    refine lv_iload_n (pc := 261) hx hb dX7_worked_261 rfl (lv_at hl 3 rfl) ?_
    refine j_aI (pc := 262) cx hS hf rfl dX7_worked_262 (fun y3 hf => ?_)
    refine lv_istore (pc := 263) (i := 5) (lv' := [(5, .int y3), (0, .ref a0), (1, .int x1), (2, .int x2), (3, .int x3), (4, .int x4)]) hx hb dX7_worked_263 hl (Nat.le_of_ble_eq_true rfl) rfl (fun ls hl => ?_)
    refine lv_iinc (pc := 265) (v := (x2 + (-1))) (lv' := [(2, .int (x2 + (-1))), (5, .int y3), (0, .ref a0), (1, .int x1), (3, .int x3), (4, .int x4)]) hx hb dX7_worked_265 hl (k := 3) rfl (jm1 _) (Nat.le_of_ble_eq_true rfl) rfl (fun ls hl => ?_)
    exact wX7_worked_268 cx e1 e2 a0 hth hk14 N _ _ _ _ _ _ _ _ _ _ hf hS (lv_sub hl [2, 3, 0, 4, 1] rfl)
theorem wX7_worked_194 {N : Nat} {k14 : Int32 → Int32 → Int32 → jM Int32} {r : Int32} (cx : jCx p s m args meth c cX7_worked "WornSkinModel" 6 (Option.some Jvm.ClassFile.FieldType.int) D dA H0 hs.2.2.2.2) (e1 : h'.2.2.1 = hs.2.2.1 + mc) (e2 : h'.2.2.2.1 = hs.2.2.2.1 + ms) (a0 : Nat) (hth : jTh hs a0 7) (hk14 : ∀ (x1 : Int32) (x2 : Int32) (x3 : Int32), ∀ (h : jH) (H : Heap) (locs : List Loc) (cells slots : Nat) (ls : Array Slot), (k14 x1 x2 x3).1 h = some (r, h') → jS D dA H0 hs h H locs cells slots → lv_has ls 6 [(0, .ref a0), (1, .int x1), (2, .int x2), (3, .int x3)] → W p l e { frames := 2, cells := mc, slots := ms, locals := 43 } s m args below meth c H locs cells slots (jQ D dA H0 below s (.returned (some (.int r))) h' mc ms) (F0 m 14 ls [])) : ∀ (x1 : Int32) (x2 : Int32) (x3 : Int32) (x4 : Int32), ∀ (h : jH) (H : Heap) (locs : List Loc) (cells slots : Nat) (ls : Array Slot), (fX7_worked_194 N k14 a0 x1 x2 x3 x4).1 h = some (r, h') → jS D dA H0 hs h H locs cells slots → lv_has ls 6 [(0, .ref a0), (1, .int x1), (2, .int x2), (3, .int x3), (4, .int x4)] → W p l e { frames := 2, cells := mc, slots := ms, locals := 43 } s m args below meth c H locs cells slots (jQ D dA H0 below s (.returned (some (.int r))) h' mc ms) (F0 m 194 ls []) := by
  have hx := cx.1
  have hb := cx.2.1
  have hown := cx.2.2.2.1
  have hts := cx.2.2.2.2.1
  have hm : h'.2.2.1 ≤ hs.2.2.1 + mc ∧ h'.2.2.2.1 ≤ hs.2.2.2.1 + ms := ⟨Nat.le_of_eq e1, Nat.le_of_eq e2⟩
  intro x1 x2 x3 x4 h H locs cells slots ls hf hS hl
  unfold fX7_worked_194 at hf
  refine lv_aload_n (pc := 194) hx hb dX7_worked_194 rfl (lv_at hl 0 rfl) ?_
  refine lv_iload_n (pc := 195) hx hb dX7_worked_195 rfl (lv_at hl 2 rfl) ?_
  obtain ⟨_, h1, e9, hf⟩ := jB_some hf
  refine j_callV (pc := 196) (st1 := []) (As := [.int x2]) (rest := []) cx hS rfl hl.1 hm (metX7_tests l _ _ _ _ _ (hth.at hS) e9) (jle hf) (hth.at hS) rfl (lw_V q2063 q2065 qs88 q123 q2066) pdX7_tests rfl rfl (Nat.le_of_ble_eq_true rfl) ⟨Nat.le_of_ble_eq_true rfl, Nat.le_of_ble_eq_true rfl⟩ dX7_worked_196 rfl (fun H locs cells slots hS => ?_)
  refine lv_aload_n (pc := 199) hx hb dX7_worked_199 rfl (lv_at hl 0 rfl) ?_
  refine j_gR (pc := 200) cx hS hf fd_WornSkinModel_keptBy q1711 dX7_worked_200 (fun y2 hf => ?_)
  refine lv_iload_n (pc := 203) hx hb dX7_worked_203 rfl (lv_at hl 2 rfl) ?_
  refine lv_iload (pc := 204) hx hb dX7_worked_204 (lv_at hl 4 rfl) ?_
  refine j_sI (pc := 206) cx hS hf rfl dX7_worked_206 (fun h H locs hf hS => ?_)
  refine lv_goto (pc := 207) (tgt := 329) hx hb dX7_worked_207 (by decide) ?_
  exact wX7_worked_329 cx e1 e2 a0 hth hk14 _ _ _ _ _ _ _ _ _ hf hS (lv_sub hl [0, 1, 2, 3] rfl)
theorem wX7_worked_137 {N : Nat} {k14 : Int32 → Int32 → Int32 → jM Int32} {r : Int32} (cx : jCx p s m args meth c cX7_worked "WornSkinModel" 6 (Option.some Jvm.ClassFile.FieldType.int) D dA H0 hs.2.2.2.2) (e1 : h'.2.2.1 = hs.2.2.1 + mc) (e2 : h'.2.2.2.1 = hs.2.2.2.1 + ms) (a0 : Nat) (hth : jTh hs a0 7) (hk14 : ∀ (x1 : Int32) (x2 : Int32) (x3 : Int32), ∀ (h : jH) (H : Heap) (locs : List Loc) (cells slots : Nat) (ls : Array Slot), (k14 x1 x2 x3).1 h = some (r, h') → jS D dA H0 hs h H locs cells slots → lv_has ls 6 [(0, .ref a0), (1, .int x1), (2, .int x2), (3, .int x3)] → W p l e { frames := 2, cells := mc, slots := ms, locals := 43 } s m args below meth c H locs cells slots (jQ D dA H0 below s (.returned (some (.int r))) h' mc ms) (F0 m 14 ls [])) : ∀ (x1 : Int32) (x2 : Int32) (x3 : Int32) (x4 : Int32), ∀ (h : jH) (H : Heap) (locs : List Loc) (cells slots : Nat) (ls : Array Slot), (fX7_worked_137 N k14 a0 x1 x2 x3 x4).1 h = some (r, h') → jS D dA H0 hs h H locs cells slots → lv_has ls 6 [(0, .ref a0), (1, .int x1), (2, .int x2), (3, .int x3), (4, .int x4)] → W p l e { frames := 2, cells := mc, slots := ms, locals := 43 } s m args below meth c H locs cells slots (jQ D dA H0 below s (.returned (some (.int r))) h' mc ms) (F0 m 137 ls []) := by
  have hx := cx.1
  have hb := cx.2.1
  have hown := cx.2.2.2.1
  have hts := cx.2.2.2.2.1
  have hm : h'.2.2.1 ≤ hs.2.2.1 + mc ∧ h'.2.2.2.1 ≤ hs.2.2.2.1 + ms := ⟨Nat.le_of_eq e1, Nat.le_of_eq e2⟩
  intro x1 x2 x3 x4 h H locs cells slots ls hf hS hl
  unfold fX7_worked_137 at hf
  refine lv_aload_n (pc := 137) hx hb dX7_worked_137 rfl (lv_at hl 0 rfl) ?_
  refine lv_iload_n (pc := 138) hx hb dX7_worked_138 rfl (lv_at hl 2 rfl) ?_
  obtain ⟨_, h1, e9, hf⟩ := jB_some hf
  refine j_callV (pc := 139) (st1 := []) (As := [.int x2]) (rest := []) cx hS rfl hl.1 hm (metX7_sums l _ _ _ _ _ (hth.at hS) e9) (jle hf) (hth.at hS) rfl (lw_V q2059 q2061 qs87 q123 q2062) pdX7_sums rfl rfl (Nat.le_of_ble_eq_true rfl) ⟨Nat.le_of_ble_eq_true rfl, Nat.le_of_ble_eq_true rfl⟩ dX7_worked_139 rfl (fun H locs cells slots hS => ?_)
  refine lv_aload_n (pc := 142) hx hb dX7_worked_142 rfl (lv_at hl 0 rfl) ?_
  refine j_gR (pc := 143) cx hS hf fd_WornSkinModel_ahead q1712 dX7_worked_143 (fun y2 hf => ?_)
  refine lv_iload_n (pc := 146) hx hb dX7_worked_146 rfl (lv_at hl 2 rfl) ?_
  refine lv_aload_n (pc := 147) hx hb dX7_worked_147 rfl (lv_at hl 0 rfl) ?_
  refine j_gR (pc := 148) cx hS hf fd_WornSkinModel_sum q1714 dX7_worked_148 (fun y3 hf => ?_)
  refine lv_iload_n (pc := 151) hx hb dX7_worked_151 rfl (lv_at hl 2 rfl) ?_
  refine j_aI (pc := 152) cx hS hf rfl dX7_worked_152 (fun y4 hf => ?_)
  refine j_sI (pc := 153) cx hS hf rfl dX7_worked_153 (fun h H locs hf hS => ?_)
  refine lv_aload_n (pc := 154) hx hb dX7_worked_154 rfl (lv_at hl 0 rfl) ?_
  refine j_gR (pc := 155) cx hS hf fd_WornSkinModel_against q1713 dX7_worked_155 (fun y5 hf => ?_)
  refine lv_iload_n (pc := 158) hx hb dX7_worked_158 rfl (lv_at hl 2 rfl) ?_
  refine lv_iload (pc := 159) hx hb dX7_worked_159 (lv_at hl 4 rfl) ?_
  refine j_sI (pc := 161) cx hS hf rfl dX7_worked_161 (fun h H locs hf hS => ?_)
  refine lv_aload_n (pc := 162) hx hb dX7_worked_162 rfl (lv_at hl 0 rfl) ?_
  refine j_gR (pc := 163) cx hS hf fd_WornSkinModel_sum q1714 dX7_worked_163 (fun y6 hf => ?_)
  refine lv_iload_n (pc := 166) hx hb dX7_worked_166 rfl (lv_at hl 2 rfl) ?_
  refine lv_iconst (pc := 167) (v := 0) hx hb dX7_worked_167 rfl ?_
  refine j_sI (pc := 168) cx hS hf rfl dX7_worked_168 (fun h H locs hf hS => ?_)
  refine lv_aload_n (pc := 169) hx hb dX7_worked_169 rfl (lv_at hl 0 rfl) ?_
  refine j_gR (pc := 170) cx hS hf fd_WornSkinModel_sumBy q1715 dX7_worked_170 (fun y7 hf => ?_)
  refine lv_iload_n (pc := 173) hx hb dX7_worked_173 rfl (lv_at hl 2 rfl) ?_
  refine lv_bipush (pc := 174) (v := 20) hx hb dX7_worked_174 rfl ?_
  refine j_sI (pc := 176) cx hS hf rfl dX7_worked_176 (fun h H locs hf hS => ?_)
  refine lv_goto (pc := 177) (tgt := 329) hx hb dX7_worked_177 (by decide) ?_
  exact wX7_worked_329 cx e1 e2 a0 hth hk14 _ _ _ _ _ _ _ _ _ hf hS (lv_sub hl [0, 1, 2, 3] rfl)
theorem wX7_worked_89 {N : Nat} {k14 : Int32 → Int32 → Int32 → jM Int32} {r : Int32} (cx : jCx p s m args meth c cX7_worked "WornSkinModel" 6 (Option.some Jvm.ClassFile.FieldType.int) D dA H0 hs.2.2.2.2) (e1 : h'.2.2.1 = hs.2.2.1 + mc) (e2 : h'.2.2.2.1 = hs.2.2.2.1 + ms) (a0 : Nat) (hth : jTh hs a0 7) (hk14 : ∀ (x1 : Int32) (x2 : Int32) (x3 : Int32), ∀ (h : jH) (H : Heap) (locs : List Loc) (cells slots : Nat) (ls : Array Slot), (k14 x1 x2 x3).1 h = some (r, h') → jS D dA H0 hs h H locs cells slots → lv_has ls 6 [(0, .ref a0), (1, .int x1), (2, .int x2), (3, .int x3)] → W p l e { frames := 2, cells := mc, slots := ms, locals := 43 } s m args below meth c H locs cells slots (jQ D dA H0 below s (.returned (some (.int r))) h' mc ms) (F0 m 14 ls [])) : ∀ (x1 : Int32) (x2 : Int32) (x3 : Int32) (x4 : Int32), ∀ (h : jH) (H : Heap) (locs : List Loc) (cells slots : Nat) (ls : Array Slot), (fX7_worked_89 N k14 a0 x1 x2 x3 x4).1 h = some (r, h') → jS D dA H0 hs h H locs cells slots → lv_has ls 6 [(0, .ref a0), (1, .int x1), (2, .int x2), (3, .int x3), (4, .int x4)] → W p l e { frames := 2, cells := mc, slots := ms, locals := 43 } s m args below meth c H locs cells slots (jQ D dA H0 below s (.returned (some (.int r))) h' mc ms) (F0 m 89 ls []) := by
  have hx := cx.1
  have hb := cx.2.1
  have hown := cx.2.2.2.1
  have hts := cx.2.2.2.2.1
  have hm : h'.2.2.1 ≤ hs.2.2.1 + mc ∧ h'.2.2.2.1 ≤ hs.2.2.2.1 + ms := ⟨Nat.le_of_eq e1, Nat.le_of_eq e2⟩
  intro x1 x2 x3 x4 h H locs cells slots ls hf hS hl
  unfold fX7_worked_89 at hf
  refine lv_aload_n (pc := 89) hx hb dX7_worked_89 rfl (lv_at hl 0 rfl) ?_
  refine lv_iload_n (pc := 90) hx hb dX7_worked_90 rfl (lv_at hl 2 rfl) ?_
  obtain ⟨_, h1, e9, hf⟩ := jB_some hf
  refine j_callV (pc := 91) (st1 := []) (As := [.int x2]) (rest := []) cx hS rfl hl.1 hm (metX7_sums l _ _ _ _ _ (hth.at hS) e9) (jle hf) (hth.at hS) rfl (lw_V q2059 q2061 qs87 q123 q2062) pdX7_sums rfl rfl (Nat.le_of_ble_eq_true rfl) ⟨Nat.le_of_ble_eq_true rfl, Nat.le_of_ble_eq_true rfl⟩ dX7_worked_91 rfl (fun H locs cells slots hS => ?_)
  refine lv_aload_n (pc := 94) hx hb dX7_worked_94 rfl (lv_at hl 0 rfl) ?_
  refine j_gR (pc := 95) cx hS hf fd_WornSkinModel_sumBy q1715 dX7_worked_95 (fun y2 hf => ?_)
  refine lv_iload_n (pc := 98) hx hb dX7_worked_98 rfl (lv_at hl 2 rfl) ?_
  refine lv_iload (pc := 99) hx hb dX7_worked_99 (lv_at hl 4 rfl) ?_
  refine j_sI (pc := 101) cx hS hf rfl dX7_worked_101 (fun h H locs hf hS => ?_)
  refine lv_goto (pc := 102) (tgt := 329) hx hb dX7_worked_102 (by decide) ?_
  exact wX7_worked_329 cx e1 e2 a0 hth hk14 _ _ _ _ _ _ _ _ _ hf hS (lv_sub hl [0, 1, 2, 3] rfl)
theorem wX7_worked_66 {N : Nat} {k14 : Int32 → Int32 → Int32 → jM Int32} {r : Int32} (cx : jCx p s m args meth c cX7_worked "WornSkinModel" 6 (Option.some Jvm.ClassFile.FieldType.int) D dA H0 hs.2.2.2.2) (e1 : h'.2.2.1 = hs.2.2.1 + mc) (e2 : h'.2.2.2.1 = hs.2.2.2.1 + ms) (a0 : Nat) (hth : jTh hs a0 7) (hk14 : ∀ (x1 : Int32) (x2 : Int32) (x3 : Int32), ∀ (h : jH) (H : Heap) (locs : List Loc) (cells slots : Nat) (ls : Array Slot), (k14 x1 x2 x3).1 h = some (r, h') → jS D dA H0 hs h H locs cells slots → lv_has ls 6 [(0, .ref a0), (1, .int x1), (2, .int x2), (3, .int x3)] → W p l e { frames := 2, cells := mc, slots := ms, locals := 43 } s m args below meth c H locs cells slots (jQ D dA H0 below s (.returned (some (.int r))) h' mc ms) (F0 m 14 ls [])) : ∀ (x1 : Int32) (x2 : Int32) (x3 : Int32) (v0 : Option Nat) (v1 : Int32) (v2 : Int32), ∀ (h : jH) (H : Heap) (locs : List Loc) (cells slots : Nat) (ls : Array Slot), (fX7_worked_66 N k14 a0 x1 x2 x3 v0 v1 v2).1 h = some (r, h') → jS D dA H0 hs h H locs cells slots → lv_has ls 6 [(0, .ref a0), (1, .int x1), (2, .int x2), (3, .int x3)] → W p l e { frames := 2, cells := mc, slots := ms, locals := 43 } s m args below meth c H locs cells slots (jQ D dA H0 below s (.returned (some (.int r))) h' mc ms) (F0 m 66 ls [.int v2, .int v1, va_rf v0]) := by
  have hx := cx.1
  have hb := cx.2.1
  have hown := cx.2.2.2.1
  have hts := cx.2.2.2.2.1
  have hm : h'.2.2.1 ≤ hs.2.2.1 + mc ∧ h'.2.2.2.1 ≤ hs.2.2.2.1 + ms := ⟨Nat.le_of_eq e1, Nat.le_of_eq e2⟩
  intro x1 x2 x3 v0 v1 v2 h H locs cells slots ls hf hS hl
  unfold fX7_worked_66 at hf
  refine j_sI (pc := 66) cx hS hf rfl dX7_worked_66 (fun h H locs hf hS => ?_)
  refine lv_aload_n (pc := 67) hx hb dX7_worked_67 rfl (lv_at hl 0 rfl) ?_
  refine lv_iload_n (pc := 68) hx hb dX7_worked_68 rfl (lv_at hl 2 rfl) ?_
  obtain ⟨_, h1, e9, hf⟩ := jB_some hf
  refine j_callV (pc := 69) (st1 := []) (As := [.int x2]) (rest := []) cx hS rfl hl.1 hm (metX7_opens l _ _ _ _ _ (hth.at hS) e9) (jle hf) (hth.at hS) rfl (lw_V q2055 q2057 qs86 q123 q2058) pdX7_opens rfl rfl (Nat.le_of_ble_eq_true rfl) ⟨Nat.le_of_ble_eq_true rfl, Nat.le_of_ble_eq_true rfl⟩ dX7_worked_69 rfl (fun H locs cells slots hS => ?_)
  refine lv_goto (pc := 72) (tgt := 329) hx hb dX7_worked_72 (by decide) ?_
  exact wX7_worked_329 cx e1 e2 a0 hth hk14 _ _ _ _ _ _ _ _ _ hf hS hl
theorem wX7_worked_46 {N : Nat} {k14 : Int32 → Int32 → Int32 → jM Int32} {r : Int32} (cx : jCx p s m args meth c cX7_worked "WornSkinModel" 6 (Option.some Jvm.ClassFile.FieldType.int) D dA H0 hs.2.2.2.2) (e1 : h'.2.2.1 = hs.2.2.1 + mc) (e2 : h'.2.2.2.1 = hs.2.2.2.1 + ms) (a0 : Nat) (hth : jTh hs a0 7) (hk14 : ∀ (x1 : Int32) (x2 : Int32) (x3 : Int32), ∀ (h : jH) (H : Heap) (locs : List Loc) (cells slots : Nat) (ls : Array Slot), (k14 x1 x2 x3).1 h = some (r, h') → jS D dA H0 hs h H locs cells slots → lv_has ls 6 [(0, .ref a0), (1, .int x1), (2, .int x2), (3, .int x3)] → W p l e { frames := 2, cells := mc, slots := ms, locals := 43 } s m args below meth c H locs cells slots (jQ D dA H0 below s (.returned (some (.int r))) h' mc ms) (F0 m 14 ls [])) : ∀ (x1 : Int32) (x2 : Int32) (x3 : Int32) (x4 : Int32), ∀ (h : jH) (H : Heap) (locs : List Loc) (cells slots : Nat) (ls : Array Slot), (fX7_worked_46 N k14 a0 x1 x2 x3 x4).1 h = some (r, h') → jS D dA H0 hs h H locs cells slots → lv_has ls 6 [(0, .ref a0), (1, .int x1), (2, .int x2), (3, .int x3), (4, .int x4)] → W p l e { frames := 2, cells := mc, slots := ms, locals := 43 } s m args below meth c H locs cells slots (jQ D dA H0 below s (.returned (some (.int r))) h' mc ms) (F0 m 46 ls []) := by
  have hx := cx.1
  have hb := cx.2.1
  have hown := cx.2.2.2.1
  have hts := cx.2.2.2.2.1
  have hm : h'.2.2.1 ≤ hs.2.2.1 + mc ∧ h'.2.2.2.1 ≤ hs.2.2.2.1 + ms := ⟨Nat.le_of_eq e1, Nat.le_of_eq e2⟩
  intro x1 x2 x3 x4 h H locs cells slots ls hf hS hl
  unfold fX7_worked_46 at hf
  refine lv_iinc (pc := 46) (v := (x2 + 1)) (lv' := [(2, .int (x2 + 1)), (0, .ref a0), (1, .int x1), (3, .int x3), (4, .int x4)]) hx hb dX7_worked_46 hl (k := 2) rfl rfl (Nat.le_of_ble_eq_true rfl) rfl (fun ls hl => ?_)
  refine lv_aload_n (pc := 49) hx hb dX7_worked_49 rfl (lv_at hl 1 rfl) ?_
  refine j_gR (pc := 50) cx hS hf fd_WornSkinModel_byNot q1718 dX7_worked_50 (fun y1 hf => ?_)
  refine lv_iload_n (pc := 53) hx hb dX7_worked_53 rfl (lv_at hl 0 rfl) ?_
  refine lv_iload (pc := 54) hx hb dX7_worked_54 (lv_at hl 4 rfl) ?_
  refine lv_bipush (pc := 56) (v := 30) hx hb dX7_worked_56 rfl ?_
  refine lv_icmp_ne (pc := 58) (tgt := 65) hx hb dX7_worked_58 (by decide) (fun hc => ?_) (fun hc => ?_)
  · have hf := jI_f hf hc
    refine lv_iconst (pc := 65) (v := 0) hx hb dX7_worked_65 rfl ?_
    exact wX7_worked_66 cx e1 e2 a0 hth hk14 _ _ _ _ _ _ _ _ _ _ _ _ hf hS (lv_sub hl [1, 2, 0, 3] rfl)
  · have hf := jI_t hf hc
    refine lv_iconst (pc := 61) (v := 1) hx hb dX7_worked_61 rfl ?_
    refine lv_goto (pc := 62) (tgt := 66) hx hb dX7_worked_62 (by decide) ?_
    exact wX7_worked_66 cx e1 e2 a0 hth hk14 _ _ _ _ _ _ _ _ _ _ _ _ hf hS (lv_sub hl [1, 2, 0, 3] rfl)
theorem wX7_worked_14 {N : Nat} {r : Int32} (cx : jCx p s m args meth c cX7_worked "WornSkinModel" 6 (Option.some Jvm.ClassFile.FieldType.int) D dA H0 hs.2.2.2.2) (e1 : h'.2.2.1 = hs.2.2.1 + mc) (e2 : h'.2.2.2.1 = hs.2.2.2.1 + ms) (a0 : Nat) (hth : jTh hs a0 7) : ∀ (n : Nat) (x1 : Int32) (x2 : Int32) (x3 : Int32), ∀ (h : jH) (H : Heap) (locs : List Loc) (cells slots : Nat) (ls : Array Slot), (fX7_worked_14 N a0 n x1 x2 x3).1 h = some (r, h') → jS D dA H0 hs h H locs cells slots → lv_has ls 6 [(0, .ref a0), (1, .int x1), (2, .int x2), (3, .int x3)] → W p l e { frames := 2, cells := mc, slots := ms, locals := 43 } s m args below meth c H locs cells slots (jQ D dA H0 below s (.returned (some (.int r))) h' mc ms) (F0 m 14 ls []) := by
  have hx := cx.1
  have hb := cx.2.1
  have hown := cx.2.2.2.1
  have hts := cx.2.2.2.2.1
  have hm : h'.2.2.1 ≤ hs.2.2.1 + mc ∧ h'.2.2.2.1 ≤ hs.2.2.2.1 + ms := ⟨Nat.le_of_eq e1, Nat.le_of_eq e2⟩
  intro n
  induction n with
  | zero =>
    intro x1 x2 x3 h H locs cells slots ls hf hS hl
    exact jE_f hf
  | succ n ih =>
    intro x1 x2 x3 h H locs cells slots ls hf hS hl
    unfold fX7_worked_14 at hf
    refine lv_iload_n (pc := 14) hx hb dX7_worked_14 rfl (lv_at hl 3 rfl) ?_
    refine lv_aload_n (pc := 15) hx hb dX7_worked_15 rfl (lv_at hl 0 rfl) ?_
    refine j_gR (pc := 16) cx hS hf fd_WornSkinModel_lineTo q1705 dX7_worked_16 (fun y1 hf => ?_)
    refine lv_iload_n (pc := 19) hx hb dX7_worked_19 rfl (lv_at hl 1 rfl) ?_
    refine j_aI (pc := 20) cx hS hf rfl dX7_worked_20 (fun y2 hf => ?_)
    refine lv_icmp_ge (pc := 21) (tgt := 335) hx hb dX7_worked_21 (by decide) (fun hc => ?_) (fun hc => ?_)
    · have hf := jI_t hf hc
      exact wX7_worked_335 cx e1 e2 a0 hth _ _ _ _ _ _ hf hS (lv_sub hl [0] rfl)
    · have hf := jI_f hf hc
      refine lv_aload_n (pc := 24) hx hb dX7_worked_24 rfl (lv_at hl 0 rfl) ?_
      refine j_gR (pc := 25) cx hS hf fd_WornSkinModel_codes q1706 dX7_worked_25 (fun y3 hf => ?_)
      refine lv_iload_n (pc := 28) hx hb dX7_worked_28 rfl (lv_at hl 3 rfl) ?_
      refine j_aI (pc := 29) cx hS hf rfl dX7_worked_29 (fun y4 hf => ?_)
      refine lv_istore (pc := 30) (i := 4) (lv' := [(4, .int y4), (0, .ref a0), (1, .int x1), (2, .int x2), (3, .int x3)]) hx hb dX7_worked_30 hl (Nat.le_of_ble_eq_true rfl) rfl (fun ls hl => ?_)
      refine lv_iload (pc := 32) hx hb dX7_worked_32 (lv_at hl 0 rfl) ?_
      refine lv_bipush (pc := 34) (v := 28) hx hb dX7_worked_34 rfl ?_
      refine lv_icmp_eq (pc := 36) (tgt := 46) hx hb dX7_worked_36 (by decide) (fun hc => ?_) (fun hc => ?_)
      · have hf := jI_t hf hc
        exact wX7_worked_46 cx e1 e2 a0 hth ih _ _ _ _ _ _ _ _ _ _ hf hS (lv_sub hl [1, 2, 3, 4, 0] rfl)
      · have hf := jI_f hf hc
        refine lv_iload (pc := 39) hx hb dX7_worked_39 (lv_at hl 0 rfl) ?_
        refine lv_bipush (pc := 41) (v := 30) hx hb dX7_worked_41 rfl ?_
        refine lv_icmp_ne (pc := 43) (tgt := 75) hx hb dX7_worked_43 (by decide) (fun hc => ?_) (fun hc => ?_)
        · have hf := jI_f hf hc
          refine lv_iload (pc := 75) hx hb dX7_worked_75 (lv_at hl 0 rfl) ?_
          refine lv_bipush (pc := 77) (v := 20) hx hb dX7_worked_77 rfl ?_
          refine lv_icmp_eq (pc := 79) (tgt := 89) hx hb dX7_worked_79 (by decide) (fun hc => ?_) (fun hc => ?_)
          · have hf := jI_t hf hc
            exact wX7_worked_89 cx e1 e2 a0 hth ih _ _ _ _ _ _ _ _ _ _ hf hS (lv_sub hl [1, 2, 3, 4, 0] rfl)
          · have hf := jI_f hf hc
            refine lv_iload (pc := 82) hx hb dX7_worked_82 (lv_at hl 0 rfl) ?_
            refine lv_bipush (pc := 84) (v := 21) hx hb dX7_worked_84 rfl ?_
            refine lv_icmp_ne (pc := 86) (tgt := 105) hx hb dX7_worked_86 (by decide) (fun hc => ?_) (fun hc => ?_)
            · have hf := jI_f hf hc
              refine lv_iload (pc := 105) hx hb dX7_worked_105 (lv_at hl 0 rfl) ?_
              refine lv_bipush (pc := 107) (v := 22) hx hb dX7_worked_107 rfl ?_
              refine lv_icmp_ne (pc := 109) (tgt := 123) hx hb dX7_worked_109 (by decide) (fun hc => ?_) (fun hc => ?_)
              · have hf := jI_f hf hc
                refine lv_iload (pc := 123) hx hb dX7_worked_123 (lv_at hl 0 rfl) ?_
                refine lv_bipush (pc := 125) (v := 24) hx hb dX7_worked_125 rfl ?_
                refine lv_icmp_eq (pc := 127) (tgt := 137) hx hb dX7_worked_127 (by decide) (fun hc => ?_) (fun hc => ?_)
                · have hf := jI_t hf hc
                  exact wX7_worked_137 cx e1 e2 a0 hth ih _ _ _ _ _ _ _ _ _ _ hf hS (lv_sub hl [1, 2, 3, 4, 0] rfl)
                · have hf := jI_f hf hc
                  refine lv_iload (pc := 130) hx hb dX7_worked_130 (lv_at hl 0 rfl) ?_
                  refine lv_bipush (pc := 132) (v := 25) hx hb dX7_worked_132 rfl ?_
                  refine lv_icmp_ne (pc := 134) (tgt := 180) hx hb dX7_worked_134 (by decide) (fun hc => ?_) (fun hc => ?_)
                  · have hf := jI_f hf hc
                    refine lv_iload (pc := 180) hx hb dX7_worked_180 (lv_at hl 0 rfl) ?_
                    refine lv_bipush (pc := 182) (v := 26) hx hb dX7_worked_182 rfl ?_
                    refine lv_icmp_eq (pc := 184) (tgt := 194) hx hb dX7_worked_184 (by decide) (fun hc => ?_) (fun hc => ?_)
                    · have hf := jI_t hf hc
                      exact wX7_worked_194 cx e1 e2 a0 hth ih _ _ _ _ _ _ _ _ _ _ hf hS (lv_sub hl [1, 2, 3, 4, 0] rfl)
                    · have hf := jI_f hf hc
                      refine lv_iload (pc := 187) hx hb dX7_worked_187 (lv_at hl 0 rfl) ?_
                      refine lv_bipush (pc := 189) (v := 27) hx hb dX7_worked_189 rfl ?_
                      refine lv_icmp_ne (pc := 191) (tgt := 210) hx hb dX7_worked_191 (by decide) (fun hc => ?_) (fun hc => ?_)
                      · have hf := jI_f hf hc
                        refine lv_iload (pc := 210) hx hb dX7_worked_210 (lv_at hl 0 rfl) ?_
                        refine lv_bipush (pc := 212) (v := 100) hx hb dX7_worked_212 rfl ?_
                        refine lv_icmp_lt (pc := 214) (tgt := 225) hx hb dX7_worked_214 (by decide) (fun hc => ?_) (fun hc => ?_)
                        · have hf := jI_t hf hc
                          refine lv_iload (pc := 225) hx hb dX7_worked_225 (lv_at hl 0 rfl) ?_
                          refine lv_bipush (pc := 227) (v := 20) hx hb dX7_worked_227 rfl ?_
                          refine lv_icmp_ge (pc := 229) (tgt := 242) hx hb dX7_worked_229 (by decide) (fun hc => ?_) (fun hc => ?_)
                          · have hf := jI_t hf hc
                            refine lv_iconst (pc := 242) (v := 0) hx hb dX7_worked_242 rfl ?_
                            exact wX7_worked_243 cx e1 e2 a0 hth ih _ _ _ _ _ _ _ _ _ _ _ hf hS (lv_sub hl [1, 2, 3, 4, 0] rfl)
                          · have hf := jI_f hf hc
                            refine lv_aload_n (pc := 232) hx hb dX7_worked_232 rfl (lv_at hl 1 rfl) ?_
                            refine j_gR (pc := 233) cx hS hf fd_WornSkinModel_valueOf q1719 dX7_worked_233 (fun y5 hf => ?_)
                            refine lv_iload (pc := 236) hx hb dX7_worked_236 (lv_at hl 0 rfl) ?_
                            refine j_aI (pc := 238) cx hS hf rfl dX7_worked_238 (fun y6 hf => ?_)
                            refine lv_goto (pc := 239) (tgt := 243) hx hb dX7_worked_239 (by decide) ?_
                            exact wX7_worked_243 cx e1 e2 a0 hth ih _ _ _ _ _ _ _ _ _ _ _ hf hS (lv_sub hl [1, 2, 3, 4, 0] rfl)
                        · have hf := jI_f hf hc
                          refine lv_iload (pc := 217) hx hb dX7_worked_217 (lv_at hl 0 rfl) ?_
                          refine lv_bipush (pc := 219) (v := 100) hx hb dX7_worked_219 rfl ?_
                          refine lv_isub (pc := 221) hx hb dX7_worked_221 ?_
                          refine lv_goto (pc := 222) (tgt := 243) hx hb dX7_worked_222 (by decide) ?_
                          exact wX7_worked_243 cx e1 e2 a0 hth ih _ _ _ _ _ _ _ _ _ _ _ hf hS (lv_sub hl [1, 2, 3, 4, 0] rfl)
                      · have hf := jI_t hf hc
                        exact wX7_worked_194 cx e1 e2 a0 hth ih _ _ _ _ _ _ _ _ _ _ hf hS (lv_sub hl [1, 2, 3, 4, 0] rfl)
                  · have hf := jI_t hf hc
                    exact wX7_worked_137 cx e1 e2 a0 hth ih _ _ _ _ _ _ _ _ _ _ hf hS (lv_sub hl [1, 2, 3, 4, 0] rfl)
              · have hf := jI_t hf hc
                refine lv_aload_n (pc := 112) hx hb dX7_worked_112 rfl (lv_at hl 1 rfl) ?_
                refine j_gR (pc := 113) cx hS hf fd_WornSkinModel_termBy q1717 dX7_worked_113 (fun y7 hf => ?_)
                refine lv_iload_n (pc := 116) hx hb dX7_worked_116 rfl (lv_at hl 3 rfl) ?_
                refine lv_iload (pc := 117) hx hb dX7_worked_117 (lv_at hl 0 rfl) ?_
                refine j_sI (pc := 119) cx hS hf rfl dX7_worked_119 (fun h H locs hf hS => ?_)
                refine lv_goto (pc := 120) (tgt := 329) hx hb dX7_worked_120 (by decide) ?_
                exact wX7_worked_329 cx e1 e2 a0 hth ih _ _ _ _ _ _ _ _ _ hf hS (lv_sub hl [1, 2, 3, 4] rfl)
            · have hf := jI_t hf hc
              exact wX7_worked_89 cx e1 e2 a0 hth ih _ _ _ _ _ _ _ _ _ _ hf hS (lv_sub hl [1, 2, 3, 4, 0] rfl)
        · have hf := jI_t hf hc
          exact wX7_worked_46 cx e1 e2 a0 hth ih _ _ _ _ _ _ _ _ _ _ hf hS (lv_sub hl [1, 2, 3, 4, 0] rfl)
theorem wX7_worked_0 {N : Nat} {r : Int32} (cx : jCx p s m args meth c cX7_worked "WornSkinModel" 6 (Option.some Jvm.ClassFile.FieldType.int) D dA H0 hs.2.2.2.2) (e1 : h'.2.2.1 = hs.2.2.1 + mc) (e2 : h'.2.2.2.1 = hs.2.2.2.1 + ms) (a0 : Nat) (hth : jTh hs a0 7) : ∀ (x1 : Int32), ∀ (h : jH) (H : Heap) (locs : List Loc) (cells slots : Nat) (ls : Array Slot), (fX7_worked N a0 x1).1 h = some (r, h') → jS D dA H0 hs h H locs cells slots → lv_has ls 6 [(0, .ref a0), (1, .int x1)] → W p l e { frames := 2, cells := mc, slots := ms, locals := 43 } s m args below meth c H locs cells slots (jQ D dA H0 below s (.returned (some (.int r))) h' mc ms) (F0 m 0 ls []) := by
  have hx := cx.1
  have hb := cx.2.1
  have hown := cx.2.2.2.1
  have hts := cx.2.2.2.2.1
  have hm : h'.2.2.1 ≤ hs.2.2.1 + mc ∧ h'.2.2.2.1 ≤ hs.2.2.2.1 + ms := ⟨Nat.le_of_eq e1, Nat.le_of_eq e2⟩
  intro x1 h H locs cells slots ls hf hS hl
  unfold fX7_worked at hf
  refine lv_iconst (pc := 0) (v := 0) hx hb dX7_worked_0 rfl ?_
  refine lv_istore_n (pc := 1) (i := 2) (lv' := [(2, .int 0), (0, .ref a0), (1, .int x1)]) hx hb dX7_worked_1 rfl hl (Nat.le_of_ble_eq_true rfl) rfl (fun ls hl => ?_)
  refine lv_aload_n (pc := 2) hx hb dX7_worked_2 rfl (lv_at hl 1 rfl) ?_
  refine lv_iconst (pc := 3) (v := 0) hx hb dX7_worked_3 rfl ?_
  obtain ⟨_, h1, e9, hf⟩ := jB_some hf
  refine j_callV (pc := 4) (st1 := []) (As := [.int 0]) (rest := []) cx hS rfl hl.1 hm (metX7_opens l _ _ _ _ _ (hth.at hS) e9) (jle hf) (hth.at hS) rfl (lw_V q2055 q2057 qs86 q123 q2058) pdX7_opens rfl rfl (Nat.le_of_ble_eq_true rfl) ⟨Nat.le_of_ble_eq_true rfl, Nat.le_of_ble_eq_true rfl⟩ dX7_worked_4 rfl (fun H locs cells slots hS => ?_)
  refine lv_aload_n (pc := 7) hx hb dX7_worked_7 rfl (lv_at hl 1 rfl) ?_
  refine j_gR (pc := 8) cx hS hf fd_WornSkinModel_lineFrom q1704 dX7_worked_8 (fun y2 hf => ?_)
  refine lv_iload_n (pc := 11) hx hb dX7_worked_11 rfl (lv_at hl 2 rfl) ?_
  refine j_aI (pc := 12) cx hS hf rfl dX7_worked_12 (fun y3 hf => ?_)
  refine lv_istore_n (pc := 13) (i := 3) (lv' := [(3, .int y3), (2, .int 0), (0, .ref a0), (1, .int x1)]) hx hb dX7_worked_13 rfl hl (Nat.le_of_ble_eq_true rfl) rfl (fun ls hl => ?_)
  exact wX7_worked_14 cx e1 e2 a0 hth N _ _ _ _ _ _ _ _ _ hf hS (lv_sub hl [2, 3, 1, 0] rfl)
theorem metX7_worked (l : Launch) (N : Nat) (a0 : Nat) (x1 : Int32) (h h' : jH) (r : Int32) (hth : jcd h a0 = some 7) (hf : (fX7_worked N a0 x1).1 h = some (r, h')) : jMet l yX7_worked (ws_ yX7_worked cX7_worked 6 (Option.some Jvm.ClassFile.FieldType.int)) (2) (43) [.ref a0, .int x1] h h' (.returned (some (.int r))) := by
  refine jStart rfl (jle hf) (Nat.le_of_ble_eq_true rfl) ?_
  intro p e s m below meth c D dA H0 mc ms ls cx hnm e1 e2 hS hl
  have hth := jTh.mk hS hth
  exact wX7_worked_0 cx e1 e2 a0 hth _ _ _ _ _ _ _ hf hS hl
def fX7_showsBy_125 (N : Nat) (a0 : Nat) (v0 : Int32) : jM Int32 := jRn .boolean v0
def fX7_showsBy_76 (N : Nat) (a0 : Nat) (v0 : Int32) : jM Int32 := jRn .boolean v0
def fX7_showsBy_38 (N : Nat) (a0 : Nat) (x1 : Int32) (x3 : Int32) (x5 : Int32) (v0 : Int32) : jM Int32 := jB (jgR [7] 21 (some a0)) fun y1 => jB (jaI 0 y1 0) fun y2 => jB (jgR [7] 20 (some a0)) fun y3 => jB (jaI 0 y3 0) fun y4 => if y2 = y4 then (jB (jgR [7] 17 (some a0)) fun y12 => jB (jaI 0 y12 x1) fun y13 => if x5 ≤ ((v0 * 2) - y13) then (fX7_showsBy_76 N a0 0) else (fX7_showsBy_76 N a0 1)) else (jB (jgR [7] 35 (some a0)) fun y5 => jB (jsI 0 y5 1 x5) fun _ => jB (jgR [7] 35 (some a0)) fun y6 => jB (jsI 0 y6 2 v0) fun _ => jB (jgR [7] 35 (some a0)) fun y7 => jB (jgR [7] 17 (some a0)) fun y8 => jB (jaI 0 y8 x1) fun y9 => jB (jsI 0 y7 3 y9) fun _ => jB (jgR [7] 35 (some a0)) fun y10 => jB (jsI 0 y10 4 x3) fun _ => jB (fX7_worked N a0 0) fun y11 => if y11 = 0 then (fX7_showsBy_125 N a0 0) else (fX7_showsBy_125 N a0 1))
def fX7_showsBy_19 (N : Nat) (a0 : Nat) (x1 : Int32) (x2 : Int32) (x3 : Int32) (v0 : Int32) : jM Int32 := jB (jgR [7] 16 (some a0)) fun y1 => jB (jaI 0 y1 x1) fun y2 => if y2 = 2 then (fX7_showsBy_38 N a0 x1 x3 v0 (x2 - 1)) else (fX7_showsBy_38 N a0 x1 x3 v0 x2)
def fX7_showsBy (N : Nat) (a0 : Nat) (x1 : Int32) (x2 : Int32) (x3 : Int32) (x4 : Int32) : jM Int32 := jB (jgR [7] 16 (some a0)) fun y1 => jB (jaI 0 y1 x1) fun y2 => if y2 = 1 then (fX7_showsBy_19 N a0 x1 x2 x3 (x4 + 1)) else (fX7_showsBy_19 N a0 x1 x2 x3 x4)
theorem wX7_showsBy_125 {N : Nat} {r : Int32} (cx : jCx p s m args meth c cX7_showsBy "WornSkinModel" 7 (Option.some Jvm.ClassFile.FieldType.boolean) D dA H0 hs.2.2.2.2) (e1 : h'.2.2.1 = hs.2.2.1 + mc) (e2 : h'.2.2.2.1 = hs.2.2.2.1 + ms) (a0 : Nat) (hth : jTh hs a0 7) : ∀ (v0 : Int32), ∀ (h : jH) (H : Heap) (locs : List Loc) (cells slots : Nat) (ls : Array Slot), (fX7_showsBy_125 N a0 v0).1 h = some (r, h') → jS D dA H0 hs h H locs cells slots → lv_has ls 7 [(0, .ref a0)] → W p l e { frames := 3, cells := mc, slots := ms, locals := 68 } s m args below meth c H locs cells slots (jQ D dA H0 below s (.returned (some (.int r))) h' mc ms) (F0 m 125 ls [.int v0]) := by
  have hx := cx.1
  have hb := cx.2.1
  have hown := cx.2.2.2.1
  have hts := cx.2.2.2.2.1
  have hm : h'.2.2.1 ≤ hs.2.2.1 + mc ∧ h'.2.2.2.1 ≤ hs.2.2.2.1 + ms := ⟨Nat.le_of_eq e1, Nat.le_of_eq e2⟩
  intro v0 h H locs cells slots ls hf hS hl
  unfold fX7_showsBy_125 at hf
  exact j_zret (pc := 125) cx (Or.inl rfl) hS hf e1 e2 dX7_showsBy_125
theorem wX7_showsBy_76 {N : Nat} {r : Int32} (cx : jCx p s m args meth c cX7_showsBy "WornSkinModel" 7 (Option.some Jvm.ClassFile.FieldType.boolean) D dA H0 hs.2.2.2.2) (e1 : h'.2.2.1 = hs.2.2.1 + mc) (e2 : h'.2.2.2.1 = hs.2.2.2.1 + ms) (a0 : Nat) (hth : jTh hs a0 7) : ∀ (v0 : Int32), ∀ (h : jH) (H : Heap) (locs : List Loc) (cells slots : Nat) (ls : Array Slot), (fX7_showsBy_76 N a0 v0).1 h = some (r, h') → jS D dA H0 hs h H locs cells slots → lv_has ls 7 [(0, .ref a0)] → W p l e { frames := 3, cells := mc, slots := ms, locals := 68 } s m args below meth c H locs cells slots (jQ D dA H0 below s (.returned (some (.int r))) h' mc ms) (F0 m 76 ls [.int v0]) := by
  have hx := cx.1
  have hb := cx.2.1
  have hown := cx.2.2.2.1
  have hts := cx.2.2.2.2.1
  have hm : h'.2.2.1 ≤ hs.2.2.1 + mc ∧ h'.2.2.2.1 ≤ hs.2.2.2.1 + ms := ⟨Nat.le_of_eq e1, Nat.le_of_eq e2⟩
  intro v0 h H locs cells slots ls hf hS hl
  unfold fX7_showsBy_76 at hf
  exact j_zret (pc := 76) cx (Or.inl rfl) hS hf e1 e2 dX7_showsBy_76
theorem wX7_showsBy_38 {N : Nat} {r : Int32} (cx : jCx p s m args meth c cX7_showsBy "WornSkinModel" 7 (Option.some Jvm.ClassFile.FieldType.boolean) D dA H0 hs.2.2.2.2) (e1 : h'.2.2.1 = hs.2.2.1 + mc) (e2 : h'.2.2.2.1 = hs.2.2.2.1 + ms) (a0 : Nat) (hth : jTh hs a0 7) : ∀ (x1 : Int32) (x3 : Int32) (x5 : Int32) (v0 : Int32), ∀ (h : jH) (H : Heap) (locs : List Loc) (cells slots : Nat) (ls : Array Slot), (fX7_showsBy_38 N a0 x1 x3 x5 v0).1 h = some (r, h') → jS D dA H0 hs h H locs cells slots → lv_has ls 7 [(0, .ref a0), (1, .int x1), (3, .int x3), (5, .int x5)] → W p l e { frames := 3, cells := mc, slots := ms, locals := 68 } s m args below meth c H locs cells slots (jQ D dA H0 below s (.returned (some (.int r))) h' mc ms) (F0 m 38 ls [.int v0]) := by
  have hx := cx.1
  have hb := cx.2.1
  have hown := cx.2.2.2.1
  have hts := cx.2.2.2.2.1
  have hm : h'.2.2.1 ≤ hs.2.2.1 + mc ∧ h'.2.2.2.1 ≤ hs.2.2.2.1 + ms := ⟨Nat.le_of_eq e1, Nat.le_of_eq e2⟩
  intro x1 x3 x5 v0 h H locs cells slots ls hf hS hl
  unfold fX7_showsBy_38 at hf
  refine lv_istore (pc := 38) (i := 6) (lv' := [(6, .int v0), (0, .ref a0), (1, .int x1), (3, .int x3), (5, .int x5)]) hx hb dX7_showsBy_38 hl (Nat.le_of_ble_eq_true rfl) rfl (fun ls hl => ?_)
  refine lv_aload_n (pc := 40) hx hb dX7_showsBy_40 rfl (lv_at hl 1 rfl) ?_
  refine j_gR (pc := 41) cx hS hf fd_WornSkinModel_lineTo q1705 dX7_showsBy_41 (fun y1 hf => ?_)
  refine lv_iconst (pc := 44) (v := 0) hx hb dX7_showsBy_44 rfl ?_
  refine j_aI (pc := 45) cx hS hf rfl dX7_showsBy_45 (fun y2 hf => ?_)
  refine lv_aload_n (pc := 46) hx hb dX7_showsBy_46 rfl (lv_at hl 1 rfl) ?_
  refine j_gR (pc := 47) cx hS hf fd_WornSkinModel_lineFrom q1704 dX7_showsBy_47 (fun y3 hf => ?_)
  refine lv_iconst (pc := 50) (v := 0) hx hb dX7_showsBy_50 rfl ?_
  refine j_aI (pc := 51) cx hS hf rfl dX7_showsBy_51 (fun y4 hf => ?_)
  refine lv_icmp_ne (pc := 52) (tgt := 77) hx hb dX7_showsBy_52 (by decide) (fun hc => ?_) (fun hc => ?_)
  · have hf := jI_f hf hc
    refine lv_aload_n (pc := 77) hx hb dX7_showsBy_77 rfl (lv_at hl 1 rfl) ?_
    refine j_gR (pc := 78) cx hS hf fd_WornSkinModel_valueOf q1719 dX7_showsBy_78 (fun y5 hf => ?_)
    refine lv_iconst (pc := 81) (v := 1) hx hb dX7_showsBy_81 rfl ?_
    refine lv_iload (pc := 82) hx hb dX7_showsBy_82 (lv_at hl 4 rfl) ?_
    refine j_sI (pc := 84) cx hS hf rfl dX7_showsBy_84 (fun h H locs hf hS => ?_)
    refine lv_aload_n (pc := 85) hx hb dX7_showsBy_85 rfl (lv_at hl 1 rfl) ?_
    refine j_gR (pc := 86) cx hS hf fd_WornSkinModel_valueOf q1719 dX7_showsBy_86 (fun y6 hf => ?_)
    refine lv_iconst (pc := 89) (v := 2) hx hb dX7_showsBy_89 rfl ?_
    refine lv_iload (pc := 90) hx hb dX7_showsBy_90 (lv_at hl 0 rfl) ?_
    refine j_sI (pc := 92) cx hS hf rfl dX7_showsBy_92 (fun h H locs hf hS => ?_)
    refine lv_aload_n (pc := 93) hx hb dX7_showsBy_93 rfl (lv_at hl 1 rfl) ?_
    refine j_gR (pc := 94) cx hS hf fd_WornSkinModel_valueOf q1719 dX7_showsBy_94 (fun y7 hf => ?_)
    refine lv_iconst (pc := 97) (v := 3) hx hb dX7_showsBy_97 rfl ?_
    refine lv_aload_n (pc := 98) hx hb dX7_showsBy_98 rfl (lv_at hl 1 rfl) ?_
    refine j_gR (pc := 99) cx hS hf fd_WornSkinModel_gall q1701 dX7_showsBy_99 (fun y8 hf => ?_)
    refine lv_iload_n (pc := 102) hx hb dX7_showsBy_102 rfl (lv_at hl 2 rfl) ?_
    refine j_aI (pc := 103) cx hS hf rfl dX7_showsBy_103 (fun y9 hf => ?_)
    refine j_sI (pc := 104) cx hS hf rfl dX7_showsBy_104 (fun h H locs hf hS => ?_)
    refine lv_aload_n (pc := 105) hx hb dX7_showsBy_105 rfl (lv_at hl 1 rfl) ?_
    refine j_gR (pc := 106) cx hS hf fd_WornSkinModel_valueOf q1719 dX7_showsBy_106 (fun y10 hf => ?_)
    refine lv_iconst (pc := 109) (v := 4) hx hb dX7_showsBy_109 rfl ?_
    refine lv_iload_n (pc := 110) hx hb dX7_showsBy_110 rfl (lv_at hl 3 rfl) ?_
    refine j_sI (pc := 111) cx hS hf rfl dX7_showsBy_111 (fun h H locs hf hS => ?_)
    refine lv_aload_n (pc := 112) hx hb dX7_showsBy_112 rfl (lv_at hl 1 rfl) ?_
    refine lv_iconst (pc := 113) (v := 0) hx hb dX7_showsBy_113 rfl ?_
    obtain ⟨y11, h1, e9, hf⟩ := jB_some hf
    refine j_callV (pc := 114) (st1 := [.int y11]) (As := [.int 0]) (rest := []) cx hS rfl hl.1 hm (metX7_worked l _ _ _ _ _ _ (hth.at hS) e9) (jle hf) (hth.at hS) rfl (lw_V q2051 q2053 qs85 q123 q2054) pdX7_worked rfl rfl (Nat.le_of_ble_eq_true rfl) ⟨Nat.le_of_ble_eq_true rfl, Nat.le_of_ble_eq_true rfl⟩ dX7_showsBy_114 rfl (fun H locs cells slots hS => ?_)
    refine lv_if_eq (pc := 117) (tgt := 124) hx hb dX7_showsBy_117 (by decide) (fun hc => ?_) (fun hc => ?_)
    · have hf := jI_t hf hc
      refine lv_iconst (pc := 124) (v := 0) hx hb dX7_showsBy_124 rfl ?_
      exact wX7_showsBy_125 cx e1 e2 a0 hth _ _ _ _ _ _ _ hf hS (lv_sub hl [1] rfl)
    · have hf := jI_f hf hc
      refine lv_iconst (pc := 120) (v := 1) hx hb dX7_showsBy_120 rfl ?_
      refine lv_goto (pc := 121) (tgt := 125) hx hb dX7_showsBy_121 (by decide) ?_
      exact wX7_showsBy_125 cx e1 e2 a0 hth _ _ _ _ _ _ _ hf hS (lv_sub hl [1] rfl)
  · have hf := jI_t hf hc
    refine lv_iload (pc := 55) hx hb dX7_showsBy_55 (lv_at hl 0 rfl) ?_
    refine lv_iconst (pc := 57) (v := 2) hx hb dX7_showsBy_57 rfl ?_
    refine lv_imul (pc := 58) hx hb dX7_showsBy_58 ?_
    refine lv_aload_n (pc := 59) hx hb dX7_showsBy_59 rfl (lv_at hl 1 rfl) ?_
    refine j_gR (pc := 60) cx hS hf fd_WornSkinModel_gall q1701 dX7_showsBy_60 (fun y12 hf => ?_)
    refine lv_iload_n (pc := 63) hx hb dX7_showsBy_63 rfl (lv_at hl 2 rfl) ?_
    refine j_aI (pc := 64) cx hS hf rfl dX7_showsBy_64 (fun y13 hf => ?_)
    refine lv_isub (pc := 65) hx hb dX7_showsBy_65 ?_
    refine lv_iload (pc := 66) hx hb dX7_showsBy_66 (lv_at hl 4 rfl) ?_
    refine lv_icmp_ge (pc := 68) (tgt := 75) hx hb dX7_showsBy_68 (by decide) (fun hc => ?_) (fun hc => ?_)
    · have hf := jI_t hf hc
      refine lv_iconst (pc := 75) (v := 0) hx hb dX7_showsBy_75 rfl ?_
      exact wX7_showsBy_76 cx e1 e2 a0 hth _ _ _ _ _ _ _ hf hS (lv_sub hl [1] rfl)
    · have hf := jI_f hf hc
      refine lv_iconst (pc := 71) (v := 1) hx hb dX7_showsBy_71 rfl ?_
      refine lv_goto (pc := 72) (tgt := 76) hx hb dX7_showsBy_72 (by decide) ?_
      exact wX7_showsBy_76 cx e1 e2 a0 hth _ _ _ _ _ _ _ hf hS (lv_sub hl [1] rfl)
theorem wX7_showsBy_19 {N : Nat} {r : Int32} (cx : jCx p s m args meth c cX7_showsBy "WornSkinModel" 7 (Option.some Jvm.ClassFile.FieldType.boolean) D dA H0 hs.2.2.2.2) (e1 : h'.2.2.1 = hs.2.2.1 + mc) (e2 : h'.2.2.2.1 = hs.2.2.2.1 + ms) (a0 : Nat) (hth : jTh hs a0 7) : ∀ (x1 : Int32) (x2 : Int32) (x3 : Int32) (v0 : Int32), ∀ (h : jH) (H : Heap) (locs : List Loc) (cells slots : Nat) (ls : Array Slot), (fX7_showsBy_19 N a0 x1 x2 x3 v0).1 h = some (r, h') → jS D dA H0 hs h H locs cells slots → lv_has ls 7 [(0, .ref a0), (1, .int x1), (2, .int x2), (3, .int x3)] → W p l e { frames := 3, cells := mc, slots := ms, locals := 68 } s m args below meth c H locs cells slots (jQ D dA H0 below s (.returned (some (.int r))) h' mc ms) (F0 m 19 ls [.int v0]) := by
  have hx := cx.1
  have hb := cx.2.1
  have hown := cx.2.2.2.1
  have hts := cx.2.2.2.2.1
  have hm : h'.2.2.1 ≤ hs.2.2.1 + mc ∧ h'.2.2.2.1 ≤ hs.2.2.2.1 + ms := ⟨Nat.le_of_eq e1, Nat.le_of_eq e2⟩
  intro x1 x2 x3 v0 h H locs cells slots ls hf hS hl
  unfold fX7_showsBy_19 at hf
  refine lv_istore (pc := 19) (i := 5) (lv' := [(5, .int v0), (0, .ref a0), (1, .int x1), (2, .int x2), (3, .int x3)]) hx hb dX7_showsBy_19 hl (Nat.le_of_ble_eq_true rfl) rfl (fun ls hl => ?_)
  refine lv_aload_n (pc := 21) hx hb dX7_showsBy_21 rfl (lv_at hl 1 rfl) ?_
  refine j_gR (pc := 22) cx hS hf fd_WornSkinModel_kind q1700 dX7_showsBy_22 (fun y1 hf => ?_)
  refine lv_iload_n (pc := 25) hx hb dX7_showsBy_25 rfl (lv_at hl 2 rfl) ?_
  refine j_aI (pc := 26) cx hS hf rfl dX7_showsBy_26 (fun y2 hf => ?_)
  refine lv_iconst (pc := 27) (v := 2) hx hb dX7_showsBy_27 rfl ?_
  refine lv_icmp_ne (pc := 28) (tgt := 37) hx hb dX7_showsBy_28 (by decide) (fun hc => ?_) (fun hc => ?_)
  · have hf := jI_f hf hc
    refine lv_iload_n (pc := 37) hx hb dX7_showsBy_37 rfl (lv_at hl 3 rfl) ?_
    exact wX7_showsBy_38 cx e1 e2 a0 hth _ _ _ _ _ _ _ _ _ _ hf hS (lv_sub hl [1, 2, 4, 0] rfl)
  · have hf := jI_t hf hc
    refine lv_iload_n (pc := 31) hx hb dX7_showsBy_31 rfl (lv_at hl 3 rfl) ?_
    refine lv_iconst (pc := 32) (v := 1) hx hb dX7_showsBy_32 rfl ?_
    refine lv_isub (pc := 33) hx hb dX7_showsBy_33 ?_
    refine lv_goto (pc := 34) (tgt := 38) hx hb dX7_showsBy_34 (by decide) ?_
    exact wX7_showsBy_38 cx e1 e2 a0 hth _ _ _ _ _ _ _ _ _ _ hf hS (lv_sub hl [1, 2, 4, 0] rfl)
theorem wX7_showsBy_0 {N : Nat} {r : Int32} (cx : jCx p s m args meth c cX7_showsBy "WornSkinModel" 7 (Option.some Jvm.ClassFile.FieldType.boolean) D dA H0 hs.2.2.2.2) (e1 : h'.2.2.1 = hs.2.2.1 + mc) (e2 : h'.2.2.2.1 = hs.2.2.2.1 + ms) (a0 : Nat) (hth : jTh hs a0 7) : ∀ (x1 : Int32) (x2 : Int32) (x3 : Int32) (x4 : Int32), ∀ (h : jH) (H : Heap) (locs : List Loc) (cells slots : Nat) (ls : Array Slot), (fX7_showsBy N a0 x1 x2 x3 x4).1 h = some (r, h') → jS D dA H0 hs h H locs cells slots → lv_has ls 7 [(0, .ref a0), (1, .int x1), (2, .int x2), (3, .int x3), (4, .int x4)] → W p l e { frames := 3, cells := mc, slots := ms, locals := 68 } s m args below meth c H locs cells slots (jQ D dA H0 below s (.returned (some (.int r))) h' mc ms) (F0 m 0 ls []) := by
  have hx := cx.1
  have hb := cx.2.1
  have hown := cx.2.2.2.1
  have hts := cx.2.2.2.2.1
  have hm : h'.2.2.1 ≤ hs.2.2.1 + mc ∧ h'.2.2.2.1 ≤ hs.2.2.2.1 + ms := ⟨Nat.le_of_eq e1, Nat.le_of_eq e2⟩
  intro x1 x2 x3 x4 h H locs cells slots ls hf hS hl
  unfold fX7_showsBy at hf
  refine lv_aload_n (pc := 0) hx hb dX7_showsBy_0 rfl (lv_at hl 0 rfl) ?_
  refine j_gR (pc := 1) cx hS hf fd_WornSkinModel_kind q1700 dX7_showsBy_1 (fun y1 hf => ?_)
  refine lv_iload_n (pc := 4) hx hb dX7_showsBy_4 rfl (lv_at hl 1 rfl) ?_
  refine j_aI (pc := 5) cx hS hf rfl dX7_showsBy_5 (fun y2 hf => ?_)
  refine lv_iconst (pc := 6) (v := 1) hx hb dX7_showsBy_6 rfl ?_
  refine lv_icmp_ne (pc := 7) (tgt := 17) hx hb dX7_showsBy_7 (by decide) (fun hc => ?_) (fun hc => ?_)
  · have hf := jI_f hf hc
    refine lv_iload (pc := 17) hx hb dX7_showsBy_17 (lv_at hl 4 rfl) ?_
    exact wX7_showsBy_19 cx e1 e2 a0 hth _ _ _ _ _ _ _ _ _ _ hf hS (lv_sub hl [0, 1, 2, 3] rfl)
  · have hf := jI_t hf hc
    refine lv_iload (pc := 10) hx hb dX7_showsBy_10 (lv_at hl 4 rfl) ?_
    refine lv_iconst (pc := 12) (v := 1) hx hb dX7_showsBy_12 rfl ?_
    refine lv_iadd (pc := 13) hx hb dX7_showsBy_13 ?_
    refine lv_goto (pc := 14) (tgt := 19) hx hb dX7_showsBy_14 (by decide) ?_
    exact wX7_showsBy_19 cx e1 e2 a0 hth _ _ _ _ _ _ _ _ _ _ hf hS (lv_sub hl [0, 1, 2, 3] rfl)
theorem metX7_showsBy (l : Launch) (N : Nat) (a0 : Nat) (x1 : Int32) (x2 : Int32) (x3 : Int32) (x4 : Int32) (h h' : jH) (r : Int32) (hth : jcd h a0 = some 7) (hf : (fX7_showsBy N a0 x1 x2 x3 x4).1 h = some (r, h')) : jMet l yX7_showsBy (ws_ yX7_showsBy cX7_showsBy 7 (Option.some Jvm.ClassFile.FieldType.boolean)) (3) (68) [.ref a0, .int x1, .int x2, .int x3, .int x4] h h' (.returned (some (.int r))) := by
  refine jStart rfl (jle hf) (Nat.le_of_ble_eq_true rfl) ?_
  intro p e s m below meth c D dA H0 mc ms ls cx hnm e1 e2 hS hl
  have hth := jTh.mk hS hth
  exact wX7_showsBy_0 cx e1 e2 a0 hth _ _ _ _ _ _ _ _ _ _ hf hS hl
def fX7_readBy_98 (N : Nat) (a0 : Nat) : jM Int32 := jR (-1)
def fX7_readBy_77 (N : Nat) (a0 : Nat) (x6 : Int32) : jM Int32 := jB (jnz 7) fun _ => jR ((x6 - x6 / 7 * 7) - 1)
def fX7_readBy_47 (N : Nat) (a0 : Nat) : Nat → Int32 → Int32 → Int32 → Int32 → jM Int32
  | 0, _, _, _, _ => jE
  | n + 1, x1, x3, x5, x6 => if x6 ≤ 0 then (fX7_readBy_98 N a0) else (jB (jnz 7) fun _ => jB (jgR [7] 48 (some a0)) fun y1 => jB (jaI 0 y1 (1 + x1)) fun y2 => jB (fX7_showsBy N a0 ((x6 - x6 / 7 * 7) - 1) x5 y2 x3) fun y3 => if y3 = 0 then (jB (jnz 7) fun _ => fX7_readBy_47 N a0 n x1 x3 (x5 + 1) (x6 / 7)) else (fX7_readBy_77 N a0 x6))
def fX7_readBy (N : Nat) (a0 : Nat) (x1 : Int32) (x2 : Int32) (x3 : Int32) : jM Int32 := jB (jgR [7] 48 (some a0)) fun y1 => jB (jaI 0 y1 ((7 + (6 * x1)) + x2)) fun y2 => jB (jgR [7] 48 (some a0)) fun y3 => jB (jaI 0 y3 (4 + x1)) fun y4 => if ((y4 >>> (x2 &&& 31)) &&& 1) = 1 then (jB (jnz 7) fun _ => jR ((y2 - y2 / 7 * 7) - 1)) else (fX7_readBy_47 N a0 N x1 x3 1 y2)
theorem wX7_readBy_98 {N : Nat} {r : Int32} (cx : jCx p s m args meth c cX7_readBy "WornSkinModel" 7 (Option.some Jvm.ClassFile.FieldType.int) D dA H0 hs.2.2.2.2) (e1 : h'.2.2.1 = hs.2.2.1 + mc) (e2 : h'.2.2.2.1 = hs.2.2.2.1 + ms) (a0 : Nat) (hth : jTh hs a0 7) : ∀ (h : jH) (H : Heap) (locs : List Loc) (cells slots : Nat) (ls : Array Slot), (fX7_readBy_98 N a0).1 h = some (r, h') → jS D dA H0 hs h H locs cells slots → lv_has ls 7 [(0, .ref a0)] → W p l e { frames := 4, cells := mc, slots := ms, locals := 94 } s m args below meth c H locs cells slots (jQ D dA H0 below s (.returned (some (.int r))) h' mc ms) (F0 m 98 ls []) := by
  have hx := cx.1
  have hb := cx.2.1
  have hown := cx.2.2.2.1
  have hts := cx.2.2.2.2.1
  have hm : h'.2.2.1 ≤ hs.2.2.1 + mc ∧ h'.2.2.2.1 ≤ hs.2.2.2.1 + ms := ⟨Nat.le_of_eq e1, Nat.le_of_eq e2⟩
  intro h H locs cells slots ls hf hS hl
  unfold fX7_readBy_98 at hf
  refine lv_iconst (pc := 98) (v := (-1)) hx hb dX7_readBy_98 rfl ?_
  exact j_iret (pc := 99) cx hS hf e1 e2 dX7_readBy_99
theorem wX7_readBy_77 {N : Nat} {r : Int32} (cx : jCx p s m args meth c cX7_readBy "WornSkinModel" 7 (Option.some Jvm.ClassFile.FieldType.int) D dA H0 hs.2.2.2.2) (e1 : h'.2.2.1 = hs.2.2.1 + mc) (e2 : h'.2.2.2.1 = hs.2.2.2.1 + ms) (a0 : Nat) (hth : jTh hs a0 7) : ∀ (x6 : Int32), ∀ (h : jH) (H : Heap) (locs : List Loc) (cells slots : Nat) (ls : Array Slot), (fX7_readBy_77 N a0 x6).1 h = some (r, h') → jS D dA H0 hs h H locs cells slots → lv_has ls 7 [(0, .ref a0), (6, .int x6)] → W p l e { frames := 4, cells := mc, slots := ms, locals := 94 } s m args below meth c H locs cells slots (jQ D dA H0 below s (.returned (some (.int r))) h' mc ms) (F0 m 77 ls []) := by
  have hx := cx.1
  have hb := cx.2.1
  have hown := cx.2.2.2.1
  have hts := cx.2.2.2.2.1
  have hm : h'.2.2.1 ≤ hs.2.2.1 + mc ∧ h'.2.2.2.1 ≤ hs.2.2.2.1 + ms := ⟨Nat.le_of_eq e1, Nat.le_of_eq e2⟩
  intro x6 h H locs cells slots ls hf hS hl
  unfold fX7_readBy_77 at hf
  refine lv_iload (pc := 77) hx hb dX7_readBy_77 (lv_at hl 1 rfl) ?_
  refine lv_bipush (pc := 79) (v := 7) hx hb dX7_readBy_79 rfl ?_
  obtain ⟨hne, hf⟩ := jnz_s hf
  refine lv_irem (pc := 81) hx hb dX7_readBy_81 hne ?_
  refine lv_iconst (pc := 82) (v := 1) hx hb dX7_readBy_82 rfl ?_
  refine lv_isub (pc := 83) hx hb dX7_readBy_83 ?_
  exact j_iret (pc := 84) cx hS hf e1 e2 dX7_readBy_84
theorem wX7_readBy_47 {N : Nat} {r : Int32} (cx : jCx p s m args meth c cX7_readBy "WornSkinModel" 7 (Option.some Jvm.ClassFile.FieldType.int) D dA H0 hs.2.2.2.2) (e1 : h'.2.2.1 = hs.2.2.1 + mc) (e2 : h'.2.2.2.1 = hs.2.2.2.1 + ms) (a0 : Nat) (hth : jTh hs a0 7) : ∀ (n : Nat) (x1 : Int32) (x3 : Int32) (x5 : Int32) (x6 : Int32), ∀ (h : jH) (H : Heap) (locs : List Loc) (cells slots : Nat) (ls : Array Slot), (fX7_readBy_47 N a0 n x1 x3 x5 x6).1 h = some (r, h') → jS D dA H0 hs h H locs cells slots → lv_has ls 7 [(0, .ref a0), (1, .int x1), (3, .int x3), (5, .int x5), (6, .int x6)] → W p l e { frames := 4, cells := mc, slots := ms, locals := 94 } s m args below meth c H locs cells slots (jQ D dA H0 below s (.returned (some (.int r))) h' mc ms) (F0 m 47 ls []) := by
  have hx := cx.1
  have hb := cx.2.1
  have hown := cx.2.2.2.1
  have hts := cx.2.2.2.2.1
  have hm : h'.2.2.1 ≤ hs.2.2.1 + mc ∧ h'.2.2.2.1 ≤ hs.2.2.2.1 + ms := ⟨Nat.le_of_eq e1, Nat.le_of_eq e2⟩
  intro n
  induction n with
  | zero =>
    intro x1 x3 x5 x6 h H locs cells slots ls hf hS hl
    exact jE_f hf
  | succ n ih =>
    intro x1 x3 x5 x6 h H locs cells slots ls hf hS hl
    unfold fX7_readBy_47 at hf
    refine lv_iload (pc := 47) hx hb dX7_readBy_47 (lv_at hl 4 rfl) ?_
    refine lv_if_le (pc := 49) (tgt := 98) hx hb dX7_readBy_49 (by decide) (fun hc => ?_) (fun hc => ?_)
    · have hf := jI_t hf hc
      exact wX7_readBy_98 cx e1 e2 a0 hth _ _ _ _ _ _ hf hS (lv_sub hl [0] rfl)
    · have hf := jI_f hf hc
      refine lv_aload_n (pc := 52) hx hb dX7_readBy_52 rfl (lv_at hl 0 rfl) ?_
      refine lv_iload (pc := 53) hx hb dX7_readBy_53 (lv_at hl 4 rfl) ?_
      refine lv_bipush (pc := 55) (v := 7) hx hb dX7_readBy_55 rfl ?_
      obtain ⟨hne, hf⟩ := jnz_s hf
      refine lv_irem (pc := 57) hx hb dX7_readBy_57 hne ?_
      refine lv_iconst (pc := 58) (v := 1) hx hb dX7_readBy_58 rfl ?_
      refine lv_isub (pc := 59) hx hb dX7_readBy_59 ?_
      refine lv_iload (pc := 60) hx hb dX7_readBy_60 (lv_at hl 3 rfl) ?_
      refine lv_aload_n (pc := 62) hx hb dX7_readBy_62 rfl (lv_at hl 0 rfl) ?_
      refine j_gR (pc := 63) cx hS hf fd_WornSkinModel_s q1732 dX7_readBy_63 (fun y1 hf => ?_)
      refine lv_iconst (pc := 66) (v := 1) hx hb dX7_readBy_66 rfl ?_
      refine lv_iload_n (pc := 67) hx hb dX7_readBy_67 rfl (lv_at hl 1 rfl) ?_
      refine lv_iadd (pc := 68) hx hb dX7_readBy_68 ?_
      refine j_aI (pc := 69) cx hS hf rfl dX7_readBy_69 (fun y2 hf => ?_)
      refine lv_iload_n (pc := 70) hx hb dX7_readBy_70 rfl (lv_at hl 2 rfl) ?_
      obtain ⟨y3, h1, e9, hf⟩ := jB_some hf
      refine j_callV (pc := 71) (st1 := [.int y3]) (As := [.int ((x6 - x6 / 7 * 7) - 1), .int x5, .int y2, .int x3]) (rest := []) cx hS rfl hl.1 hm (metX7_showsBy l _ _ _ _ _ _ _ _ _ (hth.at hS) e9) (jle hf) (hth.at hS) rfl (lw_V q2047 q2049 qs84 q123 q2050) pdX7_showsBy rfl rfl (Nat.le_of_ble_eq_true rfl) ⟨Nat.le_of_ble_eq_true rfl, Nat.le_of_ble_eq_true rfl⟩ dX7_readBy_71 rfl (fun H locs cells slots hS => ?_)
      refine lv_if_eq (pc := 74) (tgt := 85) hx hb dX7_readBy_74 (by decide) (fun hc => ?_) (fun hc => ?_)
      · have hf := jI_t hf hc
        refine lv_iinc (pc := 85) (v := (x5 + 1)) (lv' := [(5, .int (x5 + 1)), (0, .ref a0), (1, .int x1), (3, .int x3), (6, .int x6)]) hx hb dX7_readBy_85 hl (k := 3) rfl rfl (Nat.le_of_ble_eq_true rfl) rfl (fun ls hl => ?_)
        refine lv_iload (pc := 88) hx hb dX7_readBy_88 (lv_at hl 4 rfl) ?_
        refine lv_bipush (pc := 90) (v := 7) hx hb dX7_readBy_90 rfl ?_
        obtain ⟨hne, hf⟩ := jnz_s hf
        refine lv_idiv (pc := 92) hx hb dX7_readBy_92 hne ?_
        refine lv_istore (pc := 93) (i := 6) (lv' := [(6, .int (x6 / 7)), (5, .int (x5 + 1)), (0, .ref a0), (1, .int x1), (3, .int x3)]) hx hb dX7_readBy_93 hl (Nat.le_of_ble_eq_true rfl) rfl (fun ls hl => ?_)
        refine lv_goto (pc := 95) (tgt := 47) hx hb dX7_readBy_95 (by decide) ?_
        exact ih _ _ _ _ _ _ _ _ _ _ hf hS (lv_sub hl [2, 3, 4, 1, 0] rfl)
      · have hf := jI_f hf hc
        exact wX7_readBy_77 cx e1 e2 a0 hth _ _ _ _ _ _ _ hf hS (lv_sub hl [0, 4] rfl)
theorem wX7_readBy_0 {N : Nat} {r : Int32} (cx : jCx p s m args meth c cX7_readBy "WornSkinModel" 7 (Option.some Jvm.ClassFile.FieldType.int) D dA H0 hs.2.2.2.2) (e1 : h'.2.2.1 = hs.2.2.1 + mc) (e2 : h'.2.2.2.1 = hs.2.2.2.1 + ms) (a0 : Nat) (hth : jTh hs a0 7) : ∀ (x1 : Int32) (x2 : Int32) (x3 : Int32), ∀ (h : jH) (H : Heap) (locs : List Loc) (cells slots : Nat) (ls : Array Slot), (fX7_readBy N a0 x1 x2 x3).1 h = some (r, h') → jS D dA H0 hs h H locs cells slots → lv_has ls 7 [(0, .ref a0), (1, .int x1), (2, .int x2), (3, .int x3)] → W p l e { frames := 4, cells := mc, slots := ms, locals := 94 } s m args below meth c H locs cells slots (jQ D dA H0 below s (.returned (some (.int r))) h' mc ms) (F0 m 0 ls []) := by
  have hx := cx.1
  have hb := cx.2.1
  have hown := cx.2.2.2.1
  have hts := cx.2.2.2.2.1
  have hm : h'.2.2.1 ≤ hs.2.2.1 + mc ∧ h'.2.2.2.1 ≤ hs.2.2.2.1 + ms := ⟨Nat.le_of_eq e1, Nat.le_of_eq e2⟩
  intro x1 x2 x3 h H locs cells slots ls hf hS hl
  unfold fX7_readBy at hf
  refine lv_aload_n (pc := 0) hx hb dX7_readBy_0 rfl (lv_at hl 0 rfl) ?_
  refine j_gR (pc := 1) cx hS hf fd_WornSkinModel_s q1732 dX7_readBy_1 (fun y1 hf => ?_)
  refine lv_bipush (pc := 4) (v := 7) hx hb dX7_readBy_4 rfl ?_
  refine lv_bipush (pc := 6) (v := 6) hx hb dX7_readBy_6 rfl ?_
  refine lv_iload_n (pc := 8) hx hb dX7_readBy_8 rfl (lv_at hl 1 rfl) ?_
  refine lv_imul (pc := 9) hx hb dX7_readBy_9 ?_
  refine lv_iadd (pc := 10) hx hb dX7_readBy_10 ?_
  refine lv_iload_n (pc := 11) hx hb dX7_readBy_11 rfl (lv_at hl 2 rfl) ?_
  refine lv_iadd (pc := 12) hx hb dX7_readBy_12 ?_
  refine j_aI (pc := 13) cx hS hf rfl dX7_readBy_13 (fun y2 hf => ?_)
  refine lv_istore (pc := 14) (i := 4) (lv' := [(4, .int y2), (0, .ref a0), (1, .int x1), (2, .int x2), (3, .int x3)]) hx hb dX7_readBy_14 hl (Nat.le_of_ble_eq_true rfl) rfl (fun ls hl => ?_)
  refine lv_aload_n (pc := 16) hx hb dX7_readBy_16 rfl (lv_at hl 1 rfl) ?_
  refine j_gR (pc := 17) cx hS hf fd_WornSkinModel_s q1732 dX7_readBy_17 (fun y3 hf => ?_)
  refine lv_iconst (pc := 20) (v := 4) hx hb dX7_readBy_20 rfl ?_
  refine lv_iload_n (pc := 21) hx hb dX7_readBy_21 rfl (lv_at hl 2 rfl) ?_
  refine lv_iadd (pc := 22) hx hb dX7_readBy_22 ?_
  refine j_aI (pc := 23) cx hS hf rfl dX7_readBy_23 (fun y4 hf => ?_)
  refine lv_iload_n (pc := 24) hx hb dX7_readBy_24 rfl (lv_at hl 3 rfl) ?_
  refine lv_ishr (pc := 25) hx hb dX7_readBy_25 ?_
  refine lv_iconst (pc := 26) (v := 1) hx hb dX7_readBy_26 rfl ?_
  refine lv_iand (pc := 27) hx hb dX7_readBy_27 ?_
  refine lv_iconst (pc := 28) (v := 1) hx hb dX7_readBy_28 rfl ?_
  refine lv_icmp_ne (pc := 29) (tgt := 40) hx hb dX7_readBy_29 (by decide) (fun hc => ?_) (fun hc => ?_)
  · have hf := jI_f hf hc
    refine lv_iconst (pc := 40) (v := 1) hx hb dX7_readBy_40 rfl ?_
    refine lv_istore (pc := 41) (i := 5) (lv' := [(5, .int 1), (4, .int y2), (0, .ref a0), (1, .int x1), (2, .int x2), (3, .int x3)]) hx hb dX7_readBy_41 hl (Nat.le_of_ble_eq_true rfl) rfl (fun ls hl => ?_)
    refine lv_iload (pc := 43) hx hb dX7_readBy_43 (lv_at hl 1 rfl) ?_
    refine lv_istore (pc := 45) (i := 6) (lv' := [(6, .int y2), (5, .int 1), (4, .int y2), (0, .ref a0), (1, .int x1), (2, .int x2), (3, .int x3)]) hx hb dX7_readBy_45 hl (Nat.le_of_ble_eq_true rfl) rfl (fun ls hl => ?_)
    exact wX7_readBy_47 cx e1 e2 a0 hth N _ _ _ _ _ _ _ _ _ _ hf hS (lv_sub hl [3, 4, 6, 1, 0] rfl)
  · have hf := jI_t hf hc
    refine lv_iload (pc := 32) hx hb dX7_readBy_32 (lv_at hl 0 rfl) ?_
    refine lv_bipush (pc := 34) (v := 7) hx hb dX7_readBy_34 rfl ?_
    obtain ⟨hne, hf⟩ := jnz_s hf
    refine lv_irem (pc := 36) hx hb dX7_readBy_36 hne ?_
    refine lv_iconst (pc := 37) (v := 1) hx hb dX7_readBy_37 rfl ?_
    refine lv_isub (pc := 38) hx hb dX7_readBy_38 ?_
    exact j_iret (pc := 39) cx hS hf e1 e2 dX7_readBy_39
theorem metX7_readBy (l : Launch) (N : Nat) (a0 : Nat) (x1 : Int32) (x2 : Int32) (x3 : Int32) (h h' : jH) (r : Int32) (hth : jcd h a0 = some 7) (hf : (fX7_readBy N a0 x1 x2 x3).1 h = some (r, h')) : jMet l yX7_readBy (ws_ yX7_readBy cX7_readBy 7 (Option.some Jvm.ClassFile.FieldType.int)) (4) (94) [.ref a0, .int x1, .int x2, .int x3] h h' (.returned (some (.int r))) := by
  refine jStart rfl (jle hf) (Nat.le_of_ble_eq_true rfl) ?_
  intro p e s m below meth c D dA H0 mc ms ls cx hnm e1 e2 hS hl
  have hth := jTh.mk hS hth
  exact wX7_readBy_0 cx e1 e2 a0 hth _ _ _ _ _ _ _ _ _ hf hS hl
def fX7_readIn_67 (N : Nat) (a0 : Nat) (x3 : Int32) : jM Int32 := jR x3
def fX7_readIn_59 (N : Nat) (k5 : Int32 → Int32 → Int32 → Int32 → jM Int32) (a0 : Nat) (x1 : Int32) (x2 : Int32) (x4 : Int32) (v0 : Int32) (v1 : Int32) : jM Int32 := k5 x1 x2 (v0 ||| v1) (x4 + 1)
def fX7_readIn_58 (N : Nat) (k5 : Int32 → Int32 → Int32 → Int32 → jM Int32) (a0 : Nat) (x1 : Int32) (x2 : Int32) (x4 : Int32) (v0 : Int32) : jM Int32 := fX7_readIn_59 N k5 a0 x1 x2 x4 v0 0
def fX7_readIn_51 (N : Nat) (k5 : Int32 → Int32 → Int32 → Int32 → jM Int32) (a0 : Nat) (x1 : Int32) (x2 : Int32) (x4 : Int32) (v0 : Int32) : jM Int32 := fX7_readIn_59 N k5 a0 x1 x2 x4 v0 (1 <<< (x4 &&& 31))
def fX7_readIn_5 (N : Nat) (a0 : Nat) : Nat → Int32 → Int32 → Int32 → Int32 → jM Int32
  | 0, _, _, _, _ => jE
  | n + 1, x1, x2, x3, x4 => jB (jgR [7] 13 (some a0)) fun y1 => jB (jaI 0 y1 x1) fun y2 => if y2 ≤ x4 then (fX7_readIn_67 N a0 x3) else (jB (jgR [7] 48 (some a0)) fun y3 => jB (jaI 0 y3 0) fun y4 => jB (fX7_dampOf a0 y4) fun y5 => jB (fX7_readBy N a0 x1 x4 y5) fun y6 => if y6 < 0 then (fX7_readIn_58 N (fX7_readIn_5 N a0 n) a0 x1 x2 x4 x3) else (if x2 < 0 then (fX7_readIn_51 N (fX7_readIn_5 N a0 n) a0 x1 x2 x4 x3) else (if y6 = x2 then (fX7_readIn_51 N (fX7_readIn_5 N a0 n) a0 x1 x2 x4 x3) else (fX7_readIn_58 N (fX7_readIn_5 N a0 n) a0 x1 x2 x4 x3))))
def fX7_readIn (N : Nat) (a0 : Nat) (x1 : Int32) (x2 : Int32) : jM Int32 := fX7_readIn_5 N a0 N x1 x2 0 0
theorem wX7_readIn_67 {N : Nat} {r : Int32} (cx : jCx p s m args meth c cX7_readIn "WornSkinModel" 6 (Option.some Jvm.ClassFile.FieldType.int) D dA H0 hs.2.2.2.2) (e1 : h'.2.2.1 = hs.2.2.1 + mc) (e2 : h'.2.2.2.1 = hs.2.2.2.1 + ms) (a0 : Nat) (hth : jTh hs a0 7) : ∀ (x3 : Int32), ∀ (h : jH) (H : Heap) (locs : List Loc) (cells slots : Nat) (ls : Array Slot), (fX7_readIn_67 N a0 x3).1 h = some (r, h') → jS D dA H0 hs h H locs cells slots → lv_has ls 6 [(0, .ref a0), (3, .int x3)] → W p l e { frames := 5, cells := mc, slots := ms, locals := 120 } s m args below meth c H locs cells slots (jQ D dA H0 below s (.returned (some (.int r))) h' mc ms) (F0 m 67 ls []) := by
  have hx := cx.1
  have hb := cx.2.1
  have hown := cx.2.2.2.1
  have hts := cx.2.2.2.2.1
  have hm : h'.2.2.1 ≤ hs.2.2.1 + mc ∧ h'.2.2.2.1 ≤ hs.2.2.2.1 + ms := ⟨Nat.le_of_eq e1, Nat.le_of_eq e2⟩
  intro x3 h H locs cells slots ls hf hS hl
  unfold fX7_readIn_67 at hf
  refine lv_iload_n (pc := 67) hx hb dX7_readIn_67 rfl (lv_at hl 1 rfl) ?_
  exact j_iret (pc := 68) cx hS hf e1 e2 dX7_readIn_68
theorem wX7_readIn_59 {N : Nat} {k5 : Int32 → Int32 → Int32 → Int32 → jM Int32} {r : Int32} (cx : jCx p s m args meth c cX7_readIn "WornSkinModel" 6 (Option.some Jvm.ClassFile.FieldType.int) D dA H0 hs.2.2.2.2) (e1 : h'.2.2.1 = hs.2.2.1 + mc) (e2 : h'.2.2.2.1 = hs.2.2.2.1 + ms) (a0 : Nat) (hth : jTh hs a0 7) (hk5 : ∀ (x1 : Int32) (x2 : Int32) (x3 : Int32) (x4 : Int32), ∀ (h : jH) (H : Heap) (locs : List Loc) (cells slots : Nat) (ls : Array Slot), (k5 x1 x2 x3 x4).1 h = some (r, h') → jS D dA H0 hs h H locs cells slots → lv_has ls 6 [(0, .ref a0), (1, .int x1), (2, .int x2), (3, .int x3), (4, .int x4)] → W p l e { frames := 5, cells := mc, slots := ms, locals := 120 } s m args below meth c H locs cells slots (jQ D dA H0 below s (.returned (some (.int r))) h' mc ms) (F0 m 5 ls [])) : ∀ (x1 : Int32) (x2 : Int32) (x4 : Int32) (v0 : Int32) (v1 : Int32), ∀ (h : jH) (H : Heap) (locs : List Loc) (cells slots : Nat) (ls : Array Slot), (fX7_readIn_59 N k5 a0 x1 x2 x4 v0 v1).1 h = some (r, h') → jS D dA H0 hs h H locs cells slots → lv_has ls 6 [(0, .ref a0), (1, .int x1), (2, .int x2), (4, .int x4)] → W p l e { frames := 5, cells := mc, slots := ms, locals := 120 } s m args below meth c H locs cells slots (jQ D dA H0 below s (.returned (some (.int r))) h' mc ms) (F0 m 59 ls [.int v1, .int v0]) := by
  have hx := cx.1
  have hb := cx.2.1
  have hown := cx.2.2.2.1
  have hts := cx.2.2.2.2.1
  have hm : h'.2.2.1 ≤ hs.2.2.1 + mc ∧ h'.2.2.2.1 ≤ hs.2.2.2.1 + ms := ⟨Nat.le_of_eq e1, Nat.le_of_eq e2⟩
  intro x1 x2 x4 v0 v1 h H locs cells slots ls hf hS hl
  unfold fX7_readIn_59 at hf
  refine lv_ior (pc := 59) hx hb dX7_readIn_59 ?_
  refine lv_istore_n (pc := 60) (i := 3) (lv' := [(3, .int (v0 ||| v1)), (0, .ref a0), (1, .int x1), (2, .int x2), (4, .int x4)]) hx hb dX7_readIn_60 rfl hl (Nat.le_of_ble_eq_true rfl) rfl (fun ls hl => ?_)
  refine lv_iinc (pc := 61) (v := (x4 + 1)) (lv' := [(4, .int (x4 + 1)), (3, .int (v0 ||| v1)), (0, .ref a0), (1, .int x1), (2, .int x2)]) hx hb dX7_readIn_61 hl (k := 4) rfl rfl (Nat.le_of_ble_eq_true rfl) rfl (fun ls hl => ?_)
  refine lv_goto (pc := 64) (tgt := 5) hx hb dX7_readIn_64 (by decide) ?_
  exact hk5 _ _ _ _ _ _ _ _ _ _ hf hS (lv_sub hl [2, 3, 4, 1, 0] rfl)
theorem wX7_readIn_58 {N : Nat} {k5 : Int32 → Int32 → Int32 → Int32 → jM Int32} {r : Int32} (cx : jCx p s m args meth c cX7_readIn "WornSkinModel" 6 (Option.some Jvm.ClassFile.FieldType.int) D dA H0 hs.2.2.2.2) (e1 : h'.2.2.1 = hs.2.2.1 + mc) (e2 : h'.2.2.2.1 = hs.2.2.2.1 + ms) (a0 : Nat) (hth : jTh hs a0 7) (hk5 : ∀ (x1 : Int32) (x2 : Int32) (x3 : Int32) (x4 : Int32), ∀ (h : jH) (H : Heap) (locs : List Loc) (cells slots : Nat) (ls : Array Slot), (k5 x1 x2 x3 x4).1 h = some (r, h') → jS D dA H0 hs h H locs cells slots → lv_has ls 6 [(0, .ref a0), (1, .int x1), (2, .int x2), (3, .int x3), (4, .int x4)] → W p l e { frames := 5, cells := mc, slots := ms, locals := 120 } s m args below meth c H locs cells slots (jQ D dA H0 below s (.returned (some (.int r))) h' mc ms) (F0 m 5 ls [])) : ∀ (x1 : Int32) (x2 : Int32) (x4 : Int32) (v0 : Int32), ∀ (h : jH) (H : Heap) (locs : List Loc) (cells slots : Nat) (ls : Array Slot), (fX7_readIn_58 N k5 a0 x1 x2 x4 v0).1 h = some (r, h') → jS D dA H0 hs h H locs cells slots → lv_has ls 6 [(0, .ref a0), (1, .int x1), (2, .int x2), (4, .int x4)] → W p l e { frames := 5, cells := mc, slots := ms, locals := 120 } s m args below meth c H locs cells slots (jQ D dA H0 below s (.returned (some (.int r))) h' mc ms) (F0 m 58 ls [.int v0]) := by
  have hx := cx.1
  have hb := cx.2.1
  have hown := cx.2.2.2.1
  have hts := cx.2.2.2.2.1
  have hm : h'.2.2.1 ≤ hs.2.2.1 + mc ∧ h'.2.2.2.1 ≤ hs.2.2.2.1 + ms := ⟨Nat.le_of_eq e1, Nat.le_of_eq e2⟩
  intro x1 x2 x4 v0 h H locs cells slots ls hf hS hl
  unfold fX7_readIn_58 at hf
  refine lv_iconst (pc := 58) (v := 0) hx hb dX7_readIn_58 rfl ?_
  exact wX7_readIn_59 cx e1 e2 a0 hth hk5 _ _ _ _ _ _ _ _ _ _ _ hf hS hl
theorem wX7_readIn_51 {N : Nat} {k5 : Int32 → Int32 → Int32 → Int32 → jM Int32} {r : Int32} (cx : jCx p s m args meth c cX7_readIn "WornSkinModel" 6 (Option.some Jvm.ClassFile.FieldType.int) D dA H0 hs.2.2.2.2) (e1 : h'.2.2.1 = hs.2.2.1 + mc) (e2 : h'.2.2.2.1 = hs.2.2.2.1 + ms) (a0 : Nat) (hth : jTh hs a0 7) (hk5 : ∀ (x1 : Int32) (x2 : Int32) (x3 : Int32) (x4 : Int32), ∀ (h : jH) (H : Heap) (locs : List Loc) (cells slots : Nat) (ls : Array Slot), (k5 x1 x2 x3 x4).1 h = some (r, h') → jS D dA H0 hs h H locs cells slots → lv_has ls 6 [(0, .ref a0), (1, .int x1), (2, .int x2), (3, .int x3), (4, .int x4)] → W p l e { frames := 5, cells := mc, slots := ms, locals := 120 } s m args below meth c H locs cells slots (jQ D dA H0 below s (.returned (some (.int r))) h' mc ms) (F0 m 5 ls [])) : ∀ (x1 : Int32) (x2 : Int32) (x4 : Int32) (v0 : Int32), ∀ (h : jH) (H : Heap) (locs : List Loc) (cells slots : Nat) (ls : Array Slot), (fX7_readIn_51 N k5 a0 x1 x2 x4 v0).1 h = some (r, h') → jS D dA H0 hs h H locs cells slots → lv_has ls 6 [(0, .ref a0), (1, .int x1), (2, .int x2), (4, .int x4)] → W p l e { frames := 5, cells := mc, slots := ms, locals := 120 } s m args below meth c H locs cells slots (jQ D dA H0 below s (.returned (some (.int r))) h' mc ms) (F0 m 51 ls [.int v0]) := by
  have hx := cx.1
  have hb := cx.2.1
  have hown := cx.2.2.2.1
  have hts := cx.2.2.2.2.1
  have hm : h'.2.2.1 ≤ hs.2.2.1 + mc ∧ h'.2.2.2.1 ≤ hs.2.2.2.1 + ms := ⟨Nat.le_of_eq e1, Nat.le_of_eq e2⟩
  intro x1 x2 x4 v0 h H locs cells slots ls hf hS hl
  unfold fX7_readIn_51 at hf
  refine lv_iconst (pc := 51) (v := 1) hx hb dX7_readIn_51 rfl ?_
  refine lv_iload (pc := 52) hx hb dX7_readIn_52 (lv_at hl 3 rfl) ?_
  refine lv_ishl (pc := 54) hx hb dX7_readIn_54 ?_
  refine lv_goto (pc := 55) (tgt := 59) hx hb dX7_readIn_55 (by decide) ?_
  exact wX7_readIn_59 cx e1 e2 a0 hth hk5 _ _ _ _ _ _ _ _ _ _ _ hf hS hl
theorem wX7_readIn_5 {N : Nat} {r : Int32} (cx : jCx p s m args meth c cX7_readIn "WornSkinModel" 6 (Option.some Jvm.ClassFile.FieldType.int) D dA H0 hs.2.2.2.2) (e1 : h'.2.2.1 = hs.2.2.1 + mc) (e2 : h'.2.2.2.1 = hs.2.2.2.1 + ms) (a0 : Nat) (hth : jTh hs a0 7) : ∀ (n : Nat) (x1 : Int32) (x2 : Int32) (x3 : Int32) (x4 : Int32), ∀ (h : jH) (H : Heap) (locs : List Loc) (cells slots : Nat) (ls : Array Slot), (fX7_readIn_5 N a0 n x1 x2 x3 x4).1 h = some (r, h') → jS D dA H0 hs h H locs cells slots → lv_has ls 6 [(0, .ref a0), (1, .int x1), (2, .int x2), (3, .int x3), (4, .int x4)] → W p l e { frames := 5, cells := mc, slots := ms, locals := 120 } s m args below meth c H locs cells slots (jQ D dA H0 below s (.returned (some (.int r))) h' mc ms) (F0 m 5 ls []) := by
  have hx := cx.1
  have hb := cx.2.1
  have hown := cx.2.2.2.1
  have hts := cx.2.2.2.2.1
  have hm : h'.2.2.1 ≤ hs.2.2.1 + mc ∧ h'.2.2.2.1 ≤ hs.2.2.2.1 + ms := ⟨Nat.le_of_eq e1, Nat.le_of_eq e2⟩
  intro n
  induction n with
  | zero =>
    intro x1 x2 x3 x4 h H locs cells slots ls hf hS hl
    exact jE_f hf
  | succ n ih =>
    intro x1 x2 x3 x4 h H locs cells slots ls hf hS hl
    unfold fX7_readIn_5 at hf
    refine lv_iload (pc := 5) hx hb dX7_readIn_5 (lv_at hl 4 rfl) ?_
    refine lv_aload_n (pc := 7) hx hb dX7_readIn_7 rfl (lv_at hl 0 rfl) ?_
    refine j_gR (pc := 8) cx hS hf fd_WornSkinModel_linesOf q1697 dX7_readIn_8 (fun y1 hf => ?_)
    refine lv_iload_n (pc := 11) hx hb dX7_readIn_11 rfl (lv_at hl 1 rfl) ?_
    refine j_aI (pc := 12) cx hS hf rfl dX7_readIn_12 (fun y2 hf => ?_)
    refine lv_icmp_ge (pc := 13) (tgt := 67) hx hb dX7_readIn_13 (by decide) (fun hc => ?_) (fun hc => ?_)
    · have hf := jI_t hf hc
      exact wX7_readIn_67 cx e1 e2 a0 hth _ _ _ _ _ _ _ hf hS (lv_sub hl [0, 3] rfl)
    · have hf := jI_f hf hc
      refine lv_aload_n (pc := 16) hx hb dX7_readIn_16 rfl (lv_at hl 0 rfl) ?_
      refine lv_iload_n (pc := 17) hx hb dX7_readIn_17 rfl (lv_at hl 1 rfl) ?_
      refine lv_iload (pc := 18) hx hb dX7_readIn_18 (lv_at hl 4 rfl) ?_
      refine lv_aload_n (pc := 20) hx hb dX7_readIn_20 rfl (lv_at hl 0 rfl) ?_
      refine lv_aload_n (pc := 21) hx hb dX7_readIn_21 rfl (lv_at hl 0 rfl) ?_
      refine j_gR (pc := 22) cx hS hf fd_WornSkinModel_s q1732 dX7_readIn_22 (fun y3 hf => ?_)
      refine lv_iconst (pc := 25) (v := 0) hx hb dX7_readIn_25 rfl ?_
      refine j_aI (pc := 26) cx hS hf rfl dX7_readIn_26 (fun y4 hf => ?_)
      obtain ⟨y5, h1, e9, hf⟩ := jB_some hf
      refine j_callV (pc := 27) (st1 := [.int y5, .int x4, .int x1, .ref a0]) (As := [.int y4]) (rest := [.int x4, .int x1, .ref a0]) cx hS rfl hl.1 hm (metX7_dampOf l _ _ _ _ _ (hth.at hS) e9) (jle hf) (hth.at hS) rfl (lw_V q2039 q2041 qs82 q123 q2042) pdX7_dampOf rfl rfl (Nat.le_of_ble_eq_true rfl) ⟨Nat.le_of_ble_eq_true rfl, Nat.le_of_ble_eq_true rfl⟩ dX7_readIn_27 rfl (fun H locs cells slots hS => ?_)
      obtain ⟨y6, h1, e9, hf⟩ := jB_some hf
      refine j_callV (pc := 30) (st1 := [.int y6]) (As := [.int x1, .int x4, .int y5]) (rest := []) cx hS rfl hl.1 hm (metX7_readBy l _ _ _ _ _ _ _ _ (hth.at hS) e9) (jle hf) (hth.at hS) rfl (lw_V q2043 q2045 qs83 q123 q2046) pdX7_readBy rfl rfl (Nat.le_of_ble_eq_true rfl) ⟨Nat.le_of_ble_eq_true rfl, Nat.le_of_ble_eq_true rfl⟩ dX7_readIn_30 rfl (fun H locs cells slots hS => ?_)
      refine lv_istore (pc := 33) (i := 5) (lv' := [(5, .int y6), (0, .ref a0), (1, .int x1), (2, .int x2), (3, .int x3), (4, .int x4)]) hx hb dX7_readIn_33 hl (Nat.le_of_ble_eq_true rfl) rfl (fun ls hl => ?_)
      refine lv_iload_n (pc := 35) hx hb dX7_readIn_35 rfl (lv_at hl 4 rfl) ?_
      refine lv_iload (pc := 36) hx hb dX7_readIn_36 (lv_at hl 0 rfl) ?_
      refine lv_if_lt (pc := 38) (tgt := 58) hx hb dX7_readIn_38 (by decide) (fun hc => ?_) (fun hc => ?_)
      · have hf := jI_t hf hc
        exact wX7_readIn_58 cx e1 e2 a0 hth ih _ _ _ _ _ _ _ _ _ _ hf hS (lv_sub hl [1, 2, 3, 5] rfl)
      · have hf := jI_f hf hc
        refine lv_iload_n (pc := 41) hx hb dX7_readIn_41 rfl (lv_at hl 3 rfl) ?_
        refine lv_if_lt (pc := 42) (tgt := 51) hx hb dX7_readIn_42 (by decide) (fun hc => ?_) (fun hc => ?_)
        · have hf := jI_t hf hc
          exact wX7_readIn_51 cx e1 e2 a0 hth ih _ _ _ _ _ _ _ _ _ _ hf hS (lv_sub hl [1, 2, 3, 5] rfl)
        · have hf := jI_f hf hc
          refine lv_iload (pc := 45) hx hb dX7_readIn_45 (lv_at hl 0 rfl) ?_
          refine lv_iload_n (pc := 47) hx hb dX7_readIn_47 rfl (lv_at hl 3 rfl) ?_
          refine lv_icmp_ne (pc := 48) (tgt := 58) hx hb dX7_readIn_48 (by decide) (fun hc => ?_) (fun hc => ?_)
          · have hf := jI_f hf hc
            exact wX7_readIn_58 cx e1 e2 a0 hth ih _ _ _ _ _ _ _ _ _ _ hf hS (lv_sub hl [1, 2, 3, 5] rfl)
          · have hf := jI_t hf hc
            exact wX7_readIn_51 cx e1 e2 a0 hth ih _ _ _ _ _ _ _ _ _ _ hf hS (lv_sub hl [1, 2, 3, 5] rfl)
theorem wX7_readIn_0 {N : Nat} {r : Int32} (cx : jCx p s m args meth c cX7_readIn "WornSkinModel" 6 (Option.some Jvm.ClassFile.FieldType.int) D dA H0 hs.2.2.2.2) (e1 : h'.2.2.1 = hs.2.2.1 + mc) (e2 : h'.2.2.2.1 = hs.2.2.2.1 + ms) (a0 : Nat) (hth : jTh hs a0 7) : ∀ (x1 : Int32) (x2 : Int32), ∀ (h : jH) (H : Heap) (locs : List Loc) (cells slots : Nat) (ls : Array Slot), (fX7_readIn N a0 x1 x2).1 h = some (r, h') → jS D dA H0 hs h H locs cells slots → lv_has ls 6 [(0, .ref a0), (1, .int x1), (2, .int x2)] → W p l e { frames := 5, cells := mc, slots := ms, locals := 120 } s m args below meth c H locs cells slots (jQ D dA H0 below s (.returned (some (.int r))) h' mc ms) (F0 m 0 ls []) := by
  have hx := cx.1
  have hb := cx.2.1
  have hown := cx.2.2.2.1
  have hts := cx.2.2.2.2.1
  have hm : h'.2.2.1 ≤ hs.2.2.1 + mc ∧ h'.2.2.2.1 ≤ hs.2.2.2.1 + ms := ⟨Nat.le_of_eq e1, Nat.le_of_eq e2⟩
  intro x1 x2 h H locs cells slots ls hf hS hl
  unfold fX7_readIn at hf
  refine lv_iconst (pc := 0) (v := 0) hx hb dX7_readIn_0 rfl ?_
  refine lv_istore_n (pc := 1) (i := 3) (lv' := [(3, .int 0), (0, .ref a0), (1, .int x1), (2, .int x2)]) hx hb dX7_readIn_1 rfl hl (Nat.le_of_ble_eq_true rfl) rfl (fun ls hl => ?_)
  refine lv_iconst (pc := 2) (v := 0) hx hb dX7_readIn_2 rfl ?_
  refine lv_istore (pc := 3) (i := 4) (lv' := [(4, .int 0), (3, .int 0), (0, .ref a0), (1, .int x1), (2, .int x2)]) hx hb dX7_readIn_3 hl (Nat.le_of_ble_eq_true rfl) rfl (fun ls hl => ?_)
  exact wX7_readIn_5 cx e1 e2 a0 hth N _ _ _ _ _ _ _ _ _ _ hf hS (lv_sub hl [2, 3, 4, 1, 0] rfl)
theorem metX7_readIn (l : Launch) (N : Nat) (a0 : Nat) (x1 : Int32) (x2 : Int32) (h h' : jH) (r : Int32) (hth : jcd h a0 = some 7) (hf : (fX7_readIn N a0 x1 x2).1 h = some (r, h')) : jMet l yX7_readIn (ws_ yX7_readIn cX7_readIn 6 (Option.some Jvm.ClassFile.FieldType.int)) (5) (120) [.ref a0, .int x1, .int x2] h h' (.returned (some (.int r))) := by
  refine jStart rfl (jle hf) (Nat.le_of_ble_eq_true rfl) ?_
  intro p e s m below meth c D dA H0 mc ms ls cx hnm e1 e2 hS hl
  have hth := jTh.mk hS hth
  exact wX7_readIn_0 cx e1 e2 a0 hth _ _ _ _ _ _ _ _ hf hS hl
def fX7_skin_87 (N : Nat) (a0 : Nat) (v0 : Int32) : jM Int32 := jR v0
def fX7_skin_50 (N : Nat) (a0 : Nat) (v0 : Int32) : jM Int32 := jR v0
def fX7_skin_22 (N : Nat) (a0 : Nat) : jM Int32 := jR (-1)
def fX7_skin (N : Nat) (a0 : Nat) (x1 : Int32) (x2 : Int32) : jM Int32 := jB (jpI [7] 0 (some a0) 0) fun _ => jB (fX7_isSkin a0 x1) fun y1 => if y1 = 0 then (fX7_skin_22 N a0) else (jB (fX7_within x2 0 4) fun y2 => if y2 = 0 then (fX7_skin_22 N a0) else (if 2 ≤ x2 then (if x2 = 2 then (jB (jgR [7] 15 (some a0)) fun y6 => jB (jaI 0 y6 x1) fun y7 => fX7_skin_87 N a0 y7) else (if x2 = 3 then (jB (jgR [7] 48 (some a0)) fun y4 => jB (jaI 0 y4 (4 + x1)) fun y5 => fX7_skin_87 N a0 y5) else (jB (fX7_readIn N a0 x1 (-1)) fun y3 => fX7_skin_87 N a0 y3))) else (if x2 = 0 then (jB (jgR [7] 13 (some a0)) fun y10 => jB (jaI 0 y10 x1) fun y11 => fX7_skin_50 N a0 y11) else (jB (jgR [7] 48 (some a0)) fun y8 => jB (jaI 0 y8 (1 + x1)) fun y9 => fX7_skin_50 N a0 y9))))
theorem wX7_skin_87 {N : Nat} {r : Int32} (cx : jCx p s m args meth c cX7_skin "WornSkinModel" 3 (Option.some Jvm.ClassFile.FieldType.int) D dA H0 hs.2.2.2.2) (e1 : h'.2.2.1 = hs.2.2.1 + mc) (e2 : h'.2.2.2.1 = hs.2.2.2.1 + ms) (a0 : Nat) (hth : jTh hs a0 7) : ∀ (v0 : Int32), ∀ (h : jH) (H : Heap) (locs : List Loc) (cells slots : Nat) (ls : Array Slot), (fX7_skin_87 N a0 v0).1 h = some (r, h') → jS D dA H0 hs h H locs cells slots → lv_has ls 3 [(0, .ref a0)] → W p l e { frames := 6, cells := mc, slots := ms, locals := 145 } s m args below meth c H locs cells slots (jQ D dA H0 below s (.returned (some (.int r))) h' mc ms) (F0 m 87 ls [.int v0]) := by
  have hx := cx.1
  have hb := cx.2.1
  have hown := cx.2.2.2.1
  have hts := cx.2.2.2.2.1
  have hm : h'.2.2.1 ≤ hs.2.2.1 + mc ∧ h'.2.2.2.1 ≤ hs.2.2.2.1 + ms := ⟨Nat.le_of_eq e1, Nat.le_of_eq e2⟩
  intro v0 h H locs cells slots ls hf hS hl
  unfold fX7_skin_87 at hf
  exact j_iret (pc := 87) cx hS hf e1 e2 dX7_skin_87
theorem wX7_skin_50 {N : Nat} {r : Int32} (cx : jCx p s m args meth c cX7_skin "WornSkinModel" 3 (Option.some Jvm.ClassFile.FieldType.int) D dA H0 hs.2.2.2.2) (e1 : h'.2.2.1 = hs.2.2.1 + mc) (e2 : h'.2.2.2.1 = hs.2.2.2.1 + ms) (a0 : Nat) (hth : jTh hs a0 7) : ∀ (v0 : Int32), ∀ (h : jH) (H : Heap) (locs : List Loc) (cells slots : Nat) (ls : Array Slot), (fX7_skin_50 N a0 v0).1 h = some (r, h') → jS D dA H0 hs h H locs cells slots → lv_has ls 3 [(0, .ref a0)] → W p l e { frames := 6, cells := mc, slots := ms, locals := 145 } s m args below meth c H locs cells slots (jQ D dA H0 below s (.returned (some (.int r))) h' mc ms) (F0 m 50 ls [.int v0]) := by
  have hx := cx.1
  have hb := cx.2.1
  have hown := cx.2.2.2.1
  have hts := cx.2.2.2.2.1
  have hm : h'.2.2.1 ≤ hs.2.2.1 + mc ∧ h'.2.2.2.1 ≤ hs.2.2.2.1 + ms := ⟨Nat.le_of_eq e1, Nat.le_of_eq e2⟩
  intro v0 h H locs cells slots ls hf hS hl
  unfold fX7_skin_50 at hf
  exact j_iret (pc := 50) cx hS hf e1 e2 dX7_skin_50
theorem wX7_skin_22 {N : Nat} {r : Int32} (cx : jCx p s m args meth c cX7_skin "WornSkinModel" 3 (Option.some Jvm.ClassFile.FieldType.int) D dA H0 hs.2.2.2.2) (e1 : h'.2.2.1 = hs.2.2.1 + mc) (e2 : h'.2.2.2.1 = hs.2.2.2.1 + ms) (a0 : Nat) (hth : jTh hs a0 7) : ∀ (h : jH) (H : Heap) (locs : List Loc) (cells slots : Nat) (ls : Array Slot), (fX7_skin_22 N a0).1 h = some (r, h') → jS D dA H0 hs h H locs cells slots → lv_has ls 3 [(0, .ref a0)] → W p l e { frames := 6, cells := mc, slots := ms, locals := 145 } s m args below meth c H locs cells slots (jQ D dA H0 below s (.returned (some (.int r))) h' mc ms) (F0 m 22 ls []) := by
  have hx := cx.1
  have hb := cx.2.1
  have hown := cx.2.2.2.1
  have hts := cx.2.2.2.2.1
  have hm : h'.2.2.1 ≤ hs.2.2.1 + mc ∧ h'.2.2.2.1 ≤ hs.2.2.2.1 + ms := ⟨Nat.le_of_eq e1, Nat.le_of_eq e2⟩
  intro h H locs cells slots ls hf hS hl
  unfold fX7_skin_22 at hf
  refine lv_iconst (pc := 22) (v := (-1)) hx hb dX7_skin_22 rfl ?_
  exact j_iret (pc := 23) cx hS hf e1 e2 dX7_skin_23
theorem wX7_skin_0 {N : Nat} {r : Int32} (cx : jCx p s m args meth c cX7_skin "WornSkinModel" 3 (Option.some Jvm.ClassFile.FieldType.int) D dA H0 hs.2.2.2.2) (e1 : h'.2.2.1 = hs.2.2.1 + mc) (e2 : h'.2.2.2.1 = hs.2.2.2.1 + ms) (a0 : Nat) (hth : jTh hs a0 7) : ∀ (x1 : Int32) (x2 : Int32), ∀ (h : jH) (H : Heap) (locs : List Loc) (cells slots : Nat) (ls : Array Slot), (fX7_skin N a0 x1 x2).1 h = some (r, h') → jS D dA H0 hs h H locs cells slots → lv_has ls 3 [(0, .ref a0), (1, .int x1), (2, .int x2)] → W p l e { frames := 6, cells := mc, slots := ms, locals := 145 } s m args below meth c H locs cells slots (jQ D dA H0 below s (.returned (some (.int r))) h' mc ms) (F0 m 0 ls []) := by
  have hx := cx.1
  have hb := cx.2.1
  have hown := cx.2.2.2.1
  have hts := cx.2.2.2.2.1
  have hm : h'.2.2.1 ≤ hs.2.2.1 + mc ∧ h'.2.2.2.1 ≤ hs.2.2.2.1 + ms := ⟨Nat.le_of_eq e1, Nat.le_of_eq e2⟩
  intro x1 x2 h H locs cells slots ls hf hS hl
  unfold fX7_skin at hf
  refine lv_aload_n (pc := 0) hx hb dX7_skin_0 rfl (lv_at hl 0 rfl) ?_
  refine lv_iconst (pc := 1) (v := 0) hx hb dX7_skin_1 rfl ?_
  refine j_pI (pc := 2) cx hS hf fp_WornSkinModel_thrown (Or.inl rfl) q1684 dX7_skin_2 (fun h H locs hf hS => ?_)
  refine lv_aload_n (pc := 5) hx hb dX7_skin_5 rfl (lv_at hl 0 rfl) ?_
  refine lv_iload_n (pc := 6) hx hb dX7_skin_6 rfl (lv_at hl 1 rfl) ?_
  obtain ⟨y1, h1, e9, hf⟩ := jB_some hf
  refine j_callV (pc := 7) (st1 := [.int y1]) (As := [.int x1]) (rest := []) cx hS rfl hl.1 hm (metX7_isSkin l _ _ _ _ _ (hth.at hS) e9) (jle hf) (hth.at hS) rfl (lw_V q2031 q2033 qs80 q123 q2034) pdX7_isSkin rfl rfl (Nat.le_of_ble_eq_true rfl) ⟨Nat.le_of_ble_eq_true rfl, Nat.le_of_ble_eq_true rfl⟩ dX7_skin_7 rfl (fun H locs cells slots hS => ?_)
  refine lv_if_eq (pc := 10) (tgt := 22) hx hb dX7_skin_10 (by decide) (fun hc => ?_) (fun hc => ?_)
  · have hf := jI_t hf hc
    exact wX7_skin_22 cx e1 e2 a0 hth _ _ _ _ _ _ hf hS (lv_sub hl [0] rfl)
  · have hf := jI_f hf hc
    refine lv_iload_n (pc := 13) hx hb dX7_skin_13 rfl (lv_at hl 2 rfl) ?_
    refine lv_iconst (pc := 14) (v := 0) hx hb dX7_skin_14 rfl ?_
    refine lv_iconst (pc := 15) (v := 4) hx hb dX7_skin_15 rfl ?_
    obtain ⟨y2, h1, e9, hf⟩ := jB_some hf
    refine j_callS (pc := 16) (st1 := [.int y2]) (As := [.int x2, .int 0, .int 4]) (rest := []) cx hS rfl hl.1 hm (metX7_within l _ _ _ _ _ _ e9) (jle hf) (lw_S q1950 q1951 q123 q1952) pdX7_within rfl rfl (Nat.le_of_ble_eq_true rfl) ⟨Nat.le_of_ble_eq_true rfl, Nat.le_of_ble_eq_true rfl⟩ dX7_skin_16 rfl (fun H locs cells slots hS => ?_)
    refine lv_if_ne (pc := 19) (tgt := 24) hx hb dX7_skin_19 (by decide) (fun hc => ?_) (fun hc => ?_)
    · have hf := jI_f hf hc
      refine lv_iload_n (pc := 24) hx hb dX7_skin_24 rfl (lv_at hl 2 rfl) ?_
      refine lv_iconst (pc := 25) (v := 2) hx hb dX7_skin_25 rfl ?_
      refine lv_icmp_ge (pc := 26) (tgt := 51) hx hb dX7_skin_26 (by decide) (fun hc => ?_) (fun hc => ?_)
      · have hf := jI_t hf hc
        refine lv_iload_n (pc := 51) hx hb dX7_skin_51 rfl (lv_at hl 2 rfl) ?_
        refine lv_iconst (pc := 52) (v := 2) hx hb dX7_skin_52 rfl ?_
        refine lv_icmp_ne (pc := 53) (tgt := 65) hx hb dX7_skin_53 (by decide) (fun hc => ?_) (fun hc => ?_)
        · have hf := jI_f hf hc
          refine lv_iload_n (pc := 65) hx hb dX7_skin_65 rfl (lv_at hl 2 rfl) ?_
          refine lv_iconst (pc := 66) (v := 3) hx hb dX7_skin_66 rfl ?_
          refine lv_icmp_ne (pc := 67) (tgt := 81) hx hb dX7_skin_67 (by decide) (fun hc => ?_) (fun hc => ?_)
          · have hf := jI_f hf hc
            refine lv_aload_n (pc := 81) hx hb dX7_skin_81 rfl (lv_at hl 0 rfl) ?_
            refine lv_iload_n (pc := 82) hx hb dX7_skin_82 rfl (lv_at hl 1 rfl) ?_
            refine lv_iconst (pc := 83) (v := (-1)) hx hb dX7_skin_83 rfl ?_
            obtain ⟨y3, h1, e9, hf⟩ := jB_some hf
            refine j_callV (pc := 84) (st1 := [.int y3]) (As := [.int x1, .int (-1)]) (rest := []) cx hS rfl hl.1 hm (metX7_readIn l _ _ _ _ _ _ _ (hth.at hS) e9) (jle hf) (hth.at hS) rfl (lw_V q2035 q2037 qs81 q123 q2038) pdX7_readIn rfl rfl (Nat.le_of_ble_eq_true rfl) ⟨Nat.le_of_ble_eq_true rfl, Nat.le_of_ble_eq_true rfl⟩ dX7_skin_84 rfl (fun H locs cells slots hS => ?_)
            exact wX7_skin_87 cx e1 e2 a0 hth _ _ _ _ _ _ _ hf hS (lv_sub hl [0] rfl)
          · have hf := jI_t hf hc
            refine lv_aload_n (pc := 70) hx hb dX7_skin_70 rfl (lv_at hl 0 rfl) ?_
            refine j_gR (pc := 71) cx hS hf fd_WornSkinModel_s q1732 dX7_skin_71 (fun y4 hf => ?_)
            refine lv_iconst (pc := 74) (v := 4) hx hb dX7_skin_74 rfl ?_
            refine lv_iload_n (pc := 75) hx hb dX7_skin_75 rfl (lv_at hl 1 rfl) ?_
            refine lv_iadd (pc := 76) hx hb dX7_skin_76 ?_
            refine j_aI (pc := 77) cx hS hf rfl dX7_skin_77 (fun y5 hf => ?_)
            refine lv_goto (pc := 78) (tgt := 87) hx hb dX7_skin_78 (by decide) ?_
            exact wX7_skin_87 cx e1 e2 a0 hth _ _ _ _ _ _ _ hf hS (lv_sub hl [0] rfl)
        · have hf := jI_t hf hc
          refine lv_aload_n (pc := 56) hx hb dX7_skin_56 rfl (lv_at hl 0 rfl) ?_
          refine j_gR (pc := 57) cx hS hf fd_WornSkinModel_holes q1699 dX7_skin_57 (fun y6 hf => ?_)
          refine lv_iload_n (pc := 60) hx hb dX7_skin_60 rfl (lv_at hl 1 rfl) ?_
          refine j_aI (pc := 61) cx hS hf rfl dX7_skin_61 (fun y7 hf => ?_)
          refine lv_goto (pc := 62) (tgt := 87) hx hb dX7_skin_62 (by decide) ?_
          exact wX7_skin_87 cx e1 e2 a0 hth _ _ _ _ _ _ _ hf hS (lv_sub hl [0] rfl)
      · have hf := jI_f hf hc
        refine lv_iload_n (pc := 29) hx hb dX7_skin_29 rfl (lv_at hl 2 rfl) ?_
        refine lv_if_ne (pc := 30) (tgt := 42) hx hb dX7_skin_30 (by decide) (fun hc => ?_) (fun hc => ?_)
        · have hf := jI_f hf hc
          refine lv_aload_n (pc := 42) hx hb dX7_skin_42 rfl (lv_at hl 0 rfl) ?_
          refine j_gR (pc := 43) cx hS hf fd_WornSkinModel_s q1732 dX7_skin_43 (fun y8 hf => ?_)
          refine lv_iconst (pc := 46) (v := 1) hx hb dX7_skin_46 rfl ?_
          refine lv_iload_n (pc := 47) hx hb dX7_skin_47 rfl (lv_at hl 1 rfl) ?_
          refine lv_iadd (pc := 48) hx hb dX7_skin_48 ?_
          refine j_aI (pc := 49) cx hS hf rfl dX7_skin_49 (fun y9 hf => ?_)
          exact wX7_skin_50 cx e1 e2 a0 hth _ _ _ _ _ _ _ hf hS (lv_sub hl [0] rfl)
        · have hf := jI_t hf hc
          refine lv_aload_n (pc := 33) hx hb dX7_skin_33 rfl (lv_at hl 0 rfl) ?_
          refine j_gR (pc := 34) cx hS hf fd_WornSkinModel_linesOf q1697 dX7_skin_34 (fun y10 hf => ?_)
          refine lv_iload_n (pc := 37) hx hb dX7_skin_37 rfl (lv_at hl 1 rfl) ?_
          refine j_aI (pc := 38) cx hS hf rfl dX7_skin_38 (fun y11 hf => ?_)
          refine lv_goto (pc := 39) (tgt := 50) hx hb dX7_skin_39 (by decide) ?_
          exact wX7_skin_50 cx e1 e2 a0 hth _ _ _ _ _ _ _ hf hS (lv_sub hl [0] rfl)
    · have hf := jI_t hf hc
      exact wX7_skin_22 cx e1 e2 a0 hth _ _ _ _ _ _ hf hS (lv_sub hl [0] rfl)
theorem metX7_skin (l : Launch) (N : Nat) (a0 : Nat) (x1 : Int32) (x2 : Int32) (h h' : jH) (r : Int32) (hth : jcd h a0 = some 7) (hf : (fX7_skin N a0 x1 x2).1 h = some (r, h')) : jMet l yX7_skin (ws_ yX7_skin cX7_skin 3 (Option.some Jvm.ClassFile.FieldType.int)) (6) (145) [.ref a0, .int x1, .int x2] h h' (.returned (some (.int r))) := by
  refine jStart rfl (jle hf) (Nat.le_of_ble_eq_true rfl) ?_
  intro p e s m below meth c D dA H0 mc ms ls cx hnm e1 e2 hS hl
  have hth := jTh.mk hS hth
  exact wX7_skin_0 cx e1 e2 a0 hth _ _ _ _ _ _ _ _ hf hS hl
def fX7_isText_19 (a0 : Nat) (v0 : Int32) : jM Int32 := jRn .boolean v0
def fX7_isText_18 (a0 : Nat) : jM Int32 := fX7_isText_19 a0 0
def fX7_isText (a0 : Nat) (x1 : Int32) : jM Int32 := if x1 < 0 then (fX7_isText_18 a0) else (jB (jgR [7] 10 (some a0)) fun y1 => jB (jaI 0 y1 1) fun y2 => if y2 ≤ x1 then (fX7_isText_18 a0) else (fX7_isText_19 a0 1))
theorem wX7_isText_19 {r : Int32} (cx : jCx p s m args meth c cX7_isText "WornSkinModel" 2 (Option.some Jvm.ClassFile.FieldType.boolean) D dA H0 hs.2.2.2.2) (e1 : h'.2.2.1 = hs.2.2.1 + mc) (e2 : h'.2.2.2.1 = hs.2.2.2.1 + ms) (a0 : Nat) (hth : jTh hs a0 7) : ∀ (v0 : Int32), ∀ (h : jH) (H : Heap) (locs : List Loc) (cells slots : Nat) (ls : Array Slot), (fX7_isText_19 a0 v0).1 h = some (r, h') → jS D dA H0 hs h H locs cells slots → lv_has ls 2 [(0, .ref a0)] → W p l e { frames := 0, cells := mc, slots := ms, locals := 0 } s m args below meth c H locs cells slots (jQ D dA H0 below s (.returned (some (.int r))) h' mc ms) (F0 m 19 ls [.int v0]) := by
  have hx := cx.1
  have hb := cx.2.1
  have hown := cx.2.2.2.1
  have hts := cx.2.2.2.2.1
  have hm : h'.2.2.1 ≤ hs.2.2.1 + mc ∧ h'.2.2.2.1 ≤ hs.2.2.2.1 + ms := ⟨Nat.le_of_eq e1, Nat.le_of_eq e2⟩
  intro v0 h H locs cells slots ls hf hS hl
  unfold fX7_isText_19 at hf
  exact j_zret (pc := 19) cx (Or.inl rfl) hS hf e1 e2 dX7_isText_19
theorem wX7_isText_18 {r : Int32} (cx : jCx p s m args meth c cX7_isText "WornSkinModel" 2 (Option.some Jvm.ClassFile.FieldType.boolean) D dA H0 hs.2.2.2.2) (e1 : h'.2.2.1 = hs.2.2.1 + mc) (e2 : h'.2.2.2.1 = hs.2.2.2.1 + ms) (a0 : Nat) (hth : jTh hs a0 7) : ∀ (h : jH) (H : Heap) (locs : List Loc) (cells slots : Nat) (ls : Array Slot), (fX7_isText_18 a0).1 h = some (r, h') → jS D dA H0 hs h H locs cells slots → lv_has ls 2 [(0, .ref a0)] → W p l e { frames := 0, cells := mc, slots := ms, locals := 0 } s m args below meth c H locs cells slots (jQ D dA H0 below s (.returned (some (.int r))) h' mc ms) (F0 m 18 ls []) := by
  have hx := cx.1
  have hb := cx.2.1
  have hown := cx.2.2.2.1
  have hts := cx.2.2.2.2.1
  have hm : h'.2.2.1 ≤ hs.2.2.1 + mc ∧ h'.2.2.2.1 ≤ hs.2.2.2.1 + ms := ⟨Nat.le_of_eq e1, Nat.le_of_eq e2⟩
  intro h H locs cells slots ls hf hS hl
  unfold fX7_isText_18 at hf
  refine lv_iconst (pc := 18) (v := 0) hx hb dX7_isText_18 rfl ?_
  exact wX7_isText_19 cx e1 e2 a0 hth _ _ _ _ _ _ _ hf hS hl
theorem wX7_isText_0 {r : Int32} (cx : jCx p s m args meth c cX7_isText "WornSkinModel" 2 (Option.some Jvm.ClassFile.FieldType.boolean) D dA H0 hs.2.2.2.2) (e1 : h'.2.2.1 = hs.2.2.1 + mc) (e2 : h'.2.2.2.1 = hs.2.2.2.1 + ms) (a0 : Nat) (hth : jTh hs a0 7) : ∀ (x1 : Int32), ∀ (h : jH) (H : Heap) (locs : List Loc) (cells slots : Nat) (ls : Array Slot), (fX7_isText a0 x1).1 h = some (r, h') → jS D dA H0 hs h H locs cells slots → lv_has ls 2 [(0, .ref a0), (1, .int x1)] → W p l e { frames := 0, cells := mc, slots := ms, locals := 0 } s m args below meth c H locs cells slots (jQ D dA H0 below s (.returned (some (.int r))) h' mc ms) (F0 m 0 ls []) := by
  have hx := cx.1
  have hb := cx.2.1
  have hown := cx.2.2.2.1
  have hts := cx.2.2.2.2.1
  have hm : h'.2.2.1 ≤ hs.2.2.1 + mc ∧ h'.2.2.2.1 ≤ hs.2.2.2.1 + ms := ⟨Nat.le_of_eq e1, Nat.le_of_eq e2⟩
  intro x1 h H locs cells slots ls hf hS hl
  unfold fX7_isText at hf
  refine lv_iload_n (pc := 0) hx hb dX7_isText_0 rfl (lv_at hl 1 rfl) ?_
  refine lv_if_lt (pc := 1) (tgt := 18) hx hb dX7_isText_1 (by decide) (fun hc => ?_) (fun hc => ?_)
  · have hf := jI_t hf hc
    exact wX7_isText_18 cx e1 e2 a0 hth _ _ _ _ _ _ hf hS (lv_sub hl [0] rfl)
  · have hf := jI_f hf hc
    refine lv_iload_n (pc := 4) hx hb dX7_isText_4 rfl (lv_at hl 1 rfl) ?_
    refine lv_aload_n (pc := 5) hx hb dX7_isText_5 rfl (lv_at hl 0 rfl) ?_
    refine j_gR (pc := 6) cx hS hf fd_WornSkinModel_library q1694 dX7_isText_6 (fun y1 hf => ?_)
    refine lv_iconst (pc := 9) (v := 1) hx hb dX7_isText_9 rfl ?_
    refine j_aI (pc := 10) cx hS hf rfl dX7_isText_10 (fun y2 hf => ?_)
    refine lv_icmp_ge (pc := 11) (tgt := 18) hx hb dX7_isText_11 (by decide) (fun hc => ?_) (fun hc => ?_)
    · have hf := jI_t hf hc
      exact wX7_isText_18 cx e1 e2 a0 hth _ _ _ _ _ _ hf hS (lv_sub hl [0] rfl)
    · have hf := jI_f hf hc
      refine lv_iconst (pc := 14) (v := 1) hx hb dX7_isText_14 rfl ?_
      refine lv_goto (pc := 15) (tgt := 19) hx hb dX7_isText_15 (by decide) ?_
      exact wX7_isText_19 cx e1 e2 a0 hth _ _ _ _ _ _ _ hf hS (lv_sub hl [0] rfl)
theorem metX7_isText (l : Launch) (a0 : Nat) (x1 : Int32) (h h' : jH) (r : Int32) (hth : jcd h a0 = some 7) (hf : (fX7_isText a0 x1).1 h = some (r, h')) : jMet l yX7_isText (ws_ yX7_isText cX7_isText 2 (Option.some Jvm.ClassFile.FieldType.boolean)) (0) (0) [.ref a0, .int x1] h h' (.returned (some (.int r))) := by
  refine jStart rfl (jle hf) (Nat.le_of_ble_eq_true rfl) ?_
  intro p e s m below meth c D dA H0 mc ms ls cx hnm e1 e2 hS hl
  have hth := jTh.mk hS hth
  exact wX7_isText_0 cx e1 e2 a0 hth _ _ _ _ _ _ _ hf hS hl
def fX7_wholeBy_101 (N : Nat) (a0 : Nat) (x2 : Int32) : jM Int32 := jR x2
def fX7_wholeBy_95 (N : Nat) (k4 : Int32 → Int32 → Int32 → jM Int32) (a0 : Nat) (x1 : Int32) (x2 : Int32) (x3 : Int32) : jM Int32 := k4 x1 x2 (x3 + 1)
def fX7_wholeBy_89 (N : Nat) (k23 : Int32 → Int32 → Int32 → Int32 → Int32 → Int32 → jM Int32) (a0 : Nat) (x1 : Int32) (x2 : Int32) (x3 : Int32) (x4 : Int32) (x5 : Int32) (x6 : Int32) : jM Int32 := k23 x1 x2 x3 x4 x5 (x6 + 1)
def fX7_wholeBy_59 (N : Nat) (k23 : Int32 → Int32 → Int32 → Int32 → Int32 → Int32 → jM Int32) (a0 : Nat) (x1 : Int32) (x2 : Int32) (x3 : Int32) (x6 : Int32) (x7 : Int32) (v0 : Int32) : jM Int32 := if x7 < 0 then (fX7_wholeBy_89 N k23 a0 x1 x2 x3 x7 v0 x6) else (jB (jgR [7] 18 (some a0)) fun y1 => jB (jaI 0 y1 x7) fun y2 => if v0 < y2 then (fX7_wholeBy_89 N k23 a0 x1 x2 x3 x7 v0 x6) else (fX7_wholeBy_89 N k23 a0 x1 (x2 ||| (1 <<< (x7 &&& 31))) x3 x7 v0 x6))
def fX7_wholeBy_23 (N : Nat) (k4 : Int32 → Int32 → Int32 → jM Int32) (a0 : Nat) : Nat → Int32 → Int32 → Int32 → Int32 → Int32 → Int32 → jM Int32
  | 0, _, _, _, _, _, _ => jE
  | n + 1, x1, x2, x3, x4, x5, x6 => jB (jgR [7] 13 (some a0)) fun y1 => jB (jaI 0 y1 x3) fun y2 => if y2 ≤ x6 then (fX7_wholeBy_95 N k4 a0 x1 x2 x3) else (jB (fX7_readBy N a0 x3 x6 x1) fun y3 => if y3 = x4 then (fX7_wholeBy_59 N (fX7_wholeBy_23 N k4 a0 n) a0 x1 x2 x3 x6 y3 (x5 + 1)) else (fX7_wholeBy_59 N (fX7_wholeBy_23 N k4 a0 n) a0 x1 x2 x3 x6 y3 1))
def fX7_wholeBy_4 (N : Nat) (a0 : Nat) : Nat → Int32 → Int32 → Int32 → jM Int32
  | 0, _, _, _ => jE
  | n + 1, x1, x2, x3 => jB (jgR [7] 10 (some a0)) fun y1 => jB (jaI 0 y1 0) fun y2 => if y2 ≤ x3 then (fX7_wholeBy_101 N a0 x2) else (fX7_wholeBy_23 N (fX7_wholeBy_4 N a0 n) a0 N x1 x2 x3 (-1) 0 0)
def fX7_wholeBy (N : Nat) (a0 : Nat) (x1 : Int32) : jM Int32 := fX7_wholeBy_4 N a0 N x1 0 0
theorem wX7_wholeBy_101 {N : Nat} {r : Int32} (cx : jCx p s m args meth c cX7_wholeBy "WornSkinModel" 8 (Option.some Jvm.ClassFile.FieldType.int) D dA H0 hs.2.2.2.2) (e1 : h'.2.2.1 = hs.2.2.1 + mc) (e2 : h'.2.2.2.1 = hs.2.2.2.1 + ms) (a0 : Nat) (hth : jTh hs a0 7) : ∀ (x2 : Int32), ∀ (h : jH) (H : Heap) (locs : List Loc) (cells slots : Nat) (ls : Array Slot), (fX7_wholeBy_101 N a0 x2).1 h = some (r, h') → jS D dA H0 hs h H locs cells slots → lv_has ls 8 [(0, .ref a0), (2, .int x2)] → W p l e { frames := 5, cells := mc, slots := ms, locals := 120 } s m args below meth c H locs cells slots (jQ D dA H0 below s (.returned (some (.int r))) h' mc ms) (F0 m 101 ls []) := by
  have hx := cx.1
  have hb := cx.2.1
  have hown := cx.2.2.2.1
  have hts := cx.2.2.2.2.1
  have hm : h'.2.2.1 ≤ hs.2.2.1 + mc ∧ h'.2.2.2.1 ≤ hs.2.2.2.1 + ms := ⟨Nat.le_of_eq e1, Nat.le_of_eq e2⟩
  intro x2 h H locs cells slots ls hf hS hl
  unfold fX7_wholeBy_101 at hf
  refine lv_iload_n (pc := 101) hx hb dX7_wholeBy_101 rfl (lv_at hl 1 rfl) ?_
  exact j_iret (pc := 102) cx hS hf e1 e2 dX7_wholeBy_102
theorem wX7_wholeBy_95 {N : Nat} {k4 : Int32 → Int32 → Int32 → jM Int32} {r : Int32} (cx : jCx p s m args meth c cX7_wholeBy "WornSkinModel" 8 (Option.some Jvm.ClassFile.FieldType.int) D dA H0 hs.2.2.2.2) (e1 : h'.2.2.1 = hs.2.2.1 + mc) (e2 : h'.2.2.2.1 = hs.2.2.2.1 + ms) (a0 : Nat) (hth : jTh hs a0 7) (hk4 : ∀ (x1 : Int32) (x2 : Int32) (x3 : Int32), ∀ (h : jH) (H : Heap) (locs : List Loc) (cells slots : Nat) (ls : Array Slot), (k4 x1 x2 x3).1 h = some (r, h') → jS D dA H0 hs h H locs cells slots → lv_has ls 8 [(0, .ref a0), (1, .int x1), (2, .int x2), (3, .int x3)] → W p l e { frames := 5, cells := mc, slots := ms, locals := 120 } s m args below meth c H locs cells slots (jQ D dA H0 below s (.returned (some (.int r))) h' mc ms) (F0 m 4 ls [])) : ∀ (x1 : Int32) (x2 : Int32) (x3 : Int32), ∀ (h : jH) (H : Heap) (locs : List Loc) (cells slots : Nat) (ls : Array Slot), (fX7_wholeBy_95 N k4 a0 x1 x2 x3).1 h = some (r, h') → jS D dA H0 hs h H locs cells slots → lv_has ls 8 [(0, .ref a0), (1, .int x1), (2, .int x2), (3, .int x3)] → W p l e { frames := 5, cells := mc, slots := ms, locals := 120 } s m args below meth c H locs cells slots (jQ D dA H0 below s (.returned (some (.int r))) h' mc ms) (F0 m 95 ls []) := by
  have hx := cx.1
  have hb := cx.2.1
  have hown := cx.2.2.2.1
  have hts := cx.2.2.2.2.1
  have hm : h'.2.2.1 ≤ hs.2.2.1 + mc ∧ h'.2.2.2.1 ≤ hs.2.2.2.1 + ms := ⟨Nat.le_of_eq e1, Nat.le_of_eq e2⟩
  intro x1 x2 x3 h H locs cells slots ls hf hS hl
  unfold fX7_wholeBy_95 at hf
  refine lv_iinc (pc := 95) (v := (x3 + 1)) (lv' := [(3, .int (x3 + 1)), (0, .ref a0), (1, .int x1), (2, .int x2)]) hx hb dX7_wholeBy_95 hl (k := 3) rfl rfl (Nat.le_of_ble_eq_true rfl) rfl (fun ls hl => ?_)
  refine lv_goto (pc := 98) (tgt := 4) hx hb dX7_wholeBy_98 (by decide) ?_
  exact hk4 _ _ _ _ _ _ _ _ _ hf hS (lv_sub hl [1, 2, 3, 0] rfl)
theorem wX7_wholeBy_89 {N : Nat} {k23 : Int32 → Int32 → Int32 → Int32 → Int32 → Int32 → jM Int32} {r : Int32} (cx : jCx p s m args meth c cX7_wholeBy "WornSkinModel" 8 (Option.some Jvm.ClassFile.FieldType.int) D dA H0 hs.2.2.2.2) (e1 : h'.2.2.1 = hs.2.2.1 + mc) (e2 : h'.2.2.2.1 = hs.2.2.2.1 + ms) (a0 : Nat) (hth : jTh hs a0 7) (hk23 : ∀ (x1 : Int32) (x2 : Int32) (x3 : Int32) (x4 : Int32) (x5 : Int32) (x6 : Int32), ∀ (h : jH) (H : Heap) (locs : List Loc) (cells slots : Nat) (ls : Array Slot), (k23 x1 x2 x3 x4 x5 x6).1 h = some (r, h') → jS D dA H0 hs h H locs cells slots → lv_has ls 8 [(0, .ref a0), (1, .int x1), (2, .int x2), (3, .int x3), (4, .int x4), (5, .int x5), (6, .int x6)] → W p l e { frames := 5, cells := mc, slots := ms, locals := 120 } s m args below meth c H locs cells slots (jQ D dA H0 below s (.returned (some (.int r))) h' mc ms) (F0 m 23 ls [])) : ∀ (x1 : Int32) (x2 : Int32) (x3 : Int32) (x4 : Int32) (x5 : Int32) (x6 : Int32), ∀ (h : jH) (H : Heap) (locs : List Loc) (cells slots : Nat) (ls : Array Slot), (fX7_wholeBy_89 N k23 a0 x1 x2 x3 x4 x5 x6).1 h = some (r, h') → jS D dA H0 hs h H locs cells slots → lv_has ls 8 [(0, .ref a0), (1, .int x1), (2, .int x2), (3, .int x3), (4, .int x4), (5, .int x5), (6, .int x6)] → W p l e { frames := 5, cells := mc, slots := ms, locals := 120 } s m args below meth c H locs cells slots (jQ D dA H0 below s (.returned (some (.int r))) h' mc ms) (F0 m 89 ls []) := by
  have hx := cx.1
  have hb := cx.2.1
  have hown := cx.2.2.2.1
  have hts := cx.2.2.2.2.1
  have hm : h'.2.2.1 ≤ hs.2.2.1 + mc ∧ h'.2.2.2.1 ≤ hs.2.2.2.1 + ms := ⟨Nat.le_of_eq e1, Nat.le_of_eq e2⟩
  intro x1 x2 x3 x4 x5 x6 h H locs cells slots ls hf hS hl
  unfold fX7_wholeBy_89 at hf
  refine lv_iinc (pc := 89) (v := (x6 + 1)) (lv' := [(6, .int (x6 + 1)), (0, .ref a0), (1, .int x1), (2, .int x2), (3, .int x3), (4, .int x4), (5, .int x5)]) hx hb dX7_wholeBy_89 hl (k := 6) rfl rfl (Nat.le_of_ble_eq_true rfl) rfl (fun ls hl => ?_)
  refine lv_goto (pc := 92) (tgt := 23) hx hb dX7_wholeBy_92 (by decide) ?_
  exact hk23 _ _ _ _ _ _ _ _ _ _ _ _ hf hS (lv_sub hl [1, 2, 3, 4, 5, 6, 0] rfl)
theorem wX7_wholeBy_59 {N : Nat} {k23 : Int32 → Int32 → Int32 → Int32 → Int32 → Int32 → jM Int32} {r : Int32} (cx : jCx p s m args meth c cX7_wholeBy "WornSkinModel" 8 (Option.some Jvm.ClassFile.FieldType.int) D dA H0 hs.2.2.2.2) (e1 : h'.2.2.1 = hs.2.2.1 + mc) (e2 : h'.2.2.2.1 = hs.2.2.2.1 + ms) (a0 : Nat) (hth : jTh hs a0 7) (hk23 : ∀ (x1 : Int32) (x2 : Int32) (x3 : Int32) (x4 : Int32) (x5 : Int32) (x6 : Int32), ∀ (h : jH) (H : Heap) (locs : List Loc) (cells slots : Nat) (ls : Array Slot), (k23 x1 x2 x3 x4 x5 x6).1 h = some (r, h') → jS D dA H0 hs h H locs cells slots → lv_has ls 8 [(0, .ref a0), (1, .int x1), (2, .int x2), (3, .int x3), (4, .int x4), (5, .int x5), (6, .int x6)] → W p l e { frames := 5, cells := mc, slots := ms, locals := 120 } s m args below meth c H locs cells slots (jQ D dA H0 below s (.returned (some (.int r))) h' mc ms) (F0 m 23 ls [])) : ∀ (x1 : Int32) (x2 : Int32) (x3 : Int32) (x6 : Int32) (x7 : Int32) (v0 : Int32), ∀ (h : jH) (H : Heap) (locs : List Loc) (cells slots : Nat) (ls : Array Slot), (fX7_wholeBy_59 N k23 a0 x1 x2 x3 x6 x7 v0).1 h = some (r, h') → jS D dA H0 hs h H locs cells slots → lv_has ls 8 [(0, .ref a0), (1, .int x1), (2, .int x2), (3, .int x3), (6, .int x6), (7, .int x7)] → W p l e { frames := 5, cells := mc, slots := ms, locals := 120 } s m args below meth c H locs cells slots (jQ D dA H0 below s (.returned (some (.int r))) h' mc ms) (F0 m 59 ls [.int v0]) := by
  have hx := cx.1
  have hb := cx.2.1
  have hown := cx.2.2.2.1
  have hts := cx.2.2.2.2.1
  have hm : h'.2.2.1 ≤ hs.2.2.1 + mc ∧ h'.2.2.2.1 ≤ hs.2.2.2.1 + ms := ⟨Nat.le_of_eq e1, Nat.le_of_eq e2⟩
  intro x1 x2 x3 x6 x7 v0 h H locs cells slots ls hf hS hl
  unfold fX7_wholeBy_59 at hf
  refine lv_istore (pc := 59) (i := 5) (lv' := [(5, .int v0), (0, .ref a0), (1, .int x1), (2, .int x2), (3, .int x3), (6, .int x6), (7, .int x7)]) hx hb dX7_wholeBy_59 hl (Nat.le_of_ble_eq_true rfl) rfl (fun ls hl => ?_)
  refine lv_iload (pc := 61) hx hb dX7_wholeBy_61 (lv_at hl 6 rfl) ?_
  refine lv_istore (pc := 63) (i := 4) (lv' := [(4, .int x7), (5, .int v0), (0, .ref a0), (1, .int x1), (2, .int x2), (3, .int x3), (6, .int x6), (7, .int x7)]) hx hb dX7_wholeBy_63 hl (Nat.le_of_ble_eq_true rfl) rfl (fun ls hl => ?_)
  refine lv_iload (pc := 65) hx hb dX7_wholeBy_65 (lv_at hl 7 rfl) ?_
  refine lv_if_lt (pc := 67) (tgt := 89) hx hb dX7_wholeBy_67 (by decide) (fun hc => ?_) (fun hc => ?_)
  · have hf := jI_t hf hc
    exact wX7_wholeBy_89 cx e1 e2 a0 hth hk23 _ _ _ _ _ _ _ _ _ _ _ _ hf hS (lv_sub hl [2, 3, 4, 5, 0, 1, 6] rfl)
  · have hf := jI_f hf hc
    refine lv_iload (pc := 70) hx hb dX7_wholeBy_70 (lv_at hl 1 rfl) ?_
    refine lv_aload_n (pc := 72) hx hb dX7_wholeBy_72 rfl (lv_at hl 2 rfl) ?_
    refine j_gR (pc := 73) cx hS hf fd_WornSkinModel_long0 q1702 dX7_wholeBy_73 (fun y1 hf => ?_)
    refine lv_iload (pc := 76) hx hb dX7_wholeBy_76 (lv_at hl 7 rfl) ?_
    refine j_aI (pc := 78) cx hS hf rfl dX7_wholeBy_78 (fun y2 hf => ?_)
    refine lv_icmp_lt (pc := 79) (tgt := 89) hx hb dX7_wholeBy_79 (by decide) (fun hc => ?_) (fun hc => ?_)
    · have hf := jI_t hf hc
      exact wX7_wholeBy_89 cx e1 e2 a0 hth hk23 _ _ _ _ _ _ _ _ _ _ _ _ hf hS (lv_sub hl [2, 3, 4, 5, 0, 1, 6] rfl)
    · have hf := jI_f hf hc
      refine lv_iload_n (pc := 82) hx hb dX7_wholeBy_82 rfl (lv_at hl 4 rfl) ?_
      refine lv_iconst (pc := 83) (v := 1) hx hb dX7_wholeBy_83 rfl ?_
      refine lv_iload (pc := 84) hx hb dX7_wholeBy_84 (lv_at hl 7 rfl) ?_
      refine lv_ishl (pc := 86) hx hb dX7_wholeBy_86 ?_
      refine lv_ior (pc := 87) hx hb dX7_wholeBy_87 ?_
      refine lv_istore_n (pc := 88) (i := 2) (lv' := [(2, .int (x2 ||| (1 <<< (x7 &&& 31)))), (4, .int x7), (5, .int v0), (0, .ref a0), (1, .int x1), (3, .int x3), (6, .int x6), (7, .int x7)]) hx hb dX7_wholeBy_88 rfl hl (Nat.le_of_ble_eq_true rfl) rfl (fun ls hl => ?_)
      exact wX7_wholeBy_89 cx e1 e2 a0 hth hk23 _ _ _ _ _ _ _ _ _ _ _ _ hf hS (lv_sub hl [3, 4, 0, 5, 1, 2, 6] rfl)
theorem wX7_wholeBy_23 {N : Nat} {k4 : Int32 → Int32 → Int32 → jM Int32} {r : Int32} (cx : jCx p s m args meth c cX7_wholeBy "WornSkinModel" 8 (Option.some Jvm.ClassFile.FieldType.int) D dA H0 hs.2.2.2.2) (e1 : h'.2.2.1 = hs.2.2.1 + mc) (e2 : h'.2.2.2.1 = hs.2.2.2.1 + ms) (a0 : Nat) (hth : jTh hs a0 7) (hk4 : ∀ (x1 : Int32) (x2 : Int32) (x3 : Int32), ∀ (h : jH) (H : Heap) (locs : List Loc) (cells slots : Nat) (ls : Array Slot), (k4 x1 x2 x3).1 h = some (r, h') → jS D dA H0 hs h H locs cells slots → lv_has ls 8 [(0, .ref a0), (1, .int x1), (2, .int x2), (3, .int x3)] → W p l e { frames := 5, cells := mc, slots := ms, locals := 120 } s m args below meth c H locs cells slots (jQ D dA H0 below s (.returned (some (.int r))) h' mc ms) (F0 m 4 ls [])) : ∀ (n : Nat) (x1 : Int32) (x2 : Int32) (x3 : Int32) (x4 : Int32) (x5 : Int32) (x6 : Int32), ∀ (h : jH) (H : Heap) (locs : List Loc) (cells slots : Nat) (ls : Array Slot), (fX7_wholeBy_23 N k4 a0 n x1 x2 x3 x4 x5 x6).1 h = some (r, h') → jS D dA H0 hs h H locs cells slots → lv_has ls 8 [(0, .ref a0), (1, .int x1), (2, .int x2), (3, .int x3), (4, .int x4), (5, .int x5), (6, .int x6)] → W p l e { frames := 5, cells := mc, slots := ms, locals := 120 } s m args below meth c H locs cells slots (jQ D dA H0 below s (.returned (some (.int r))) h' mc ms) (F0 m 23 ls []) := by
  have hx := cx.1
  have hb := cx.2.1
  have hown := cx.2.2.2.1
  have hts := cx.2.2.2.2.1
  have hm : h'.2.2.1 ≤ hs.2.2.1 + mc ∧ h'.2.2.2.1 ≤ hs.2.2.2.1 + ms := ⟨Nat.le_of_eq e1, Nat.le_of_eq e2⟩
  intro n
  induction n with
  | zero =>
    intro x1 x2 x3 x4 x5 x6 h H locs cells slots ls hf hS hl
    exact jE_f hf
  | succ n ih =>
    intro x1 x2 x3 x4 x5 x6 h H locs cells slots ls hf hS hl
    unfold fX7_wholeBy_23 at hf
    refine lv_iload (pc := 23) hx hb dX7_wholeBy_23 (lv_at hl 6 rfl) ?_
    refine lv_aload_n (pc := 25) hx hb dX7_wholeBy_25 rfl (lv_at hl 0 rfl) ?_
    refine j_gR (pc := 26) cx hS hf fd_WornSkinModel_linesOf q1697 dX7_wholeBy_26 (fun y1 hf => ?_)
    refine lv_iload_n (pc := 29) hx hb dX7_wholeBy_29 rfl (lv_at hl 3 rfl) ?_
    refine j_aI (pc := 30) cx hS hf rfl dX7_wholeBy_30 (fun y2 hf => ?_)
    refine lv_icmp_ge (pc := 31) (tgt := 95) hx hb dX7_wholeBy_31 (by decide) (fun hc => ?_) (fun hc => ?_)
    · have hf := jI_t hf hc
      exact wX7_wholeBy_95 cx e1 e2 a0 hth hk4 _ _ _ _ _ _ _ _ _ hf hS (lv_sub hl [0, 1, 2, 3] rfl)
    · have hf := jI_f hf hc
      refine lv_aload_n (pc := 34) hx hb dX7_wholeBy_34 rfl (lv_at hl 0 rfl) ?_
      refine lv_iload_n (pc := 35) hx hb dX7_wholeBy_35 rfl (lv_at hl 3 rfl) ?_
      refine lv_iload (pc := 36) hx hb dX7_wholeBy_36 (lv_at hl 6 rfl) ?_
      refine lv_iload_n (pc := 38) hx hb dX7_wholeBy_38 rfl (lv_at hl 1 rfl) ?_
      obtain ⟨y3, h1, e9, hf⟩ := jB_some hf
      refine j_callV (pc := 39) (st1 := [.int y3]) (As := [.int x3, .int x6, .int x1]) (rest := []) cx hS rfl hl.1 hm (metX7_readBy l _ _ _ _ _ _ _ _ (hth.at hS) e9) (jle hf) (hth.at hS) rfl (lw_V q2043 q2045 qs83 q123 q2046) pdX7_readBy rfl rfl (Nat.le_of_ble_eq_true rfl) ⟨Nat.le_of_ble_eq_true rfl, Nat.le_of_ble_eq_true rfl⟩ dX7_wholeBy_39 rfl (fun H locs cells slots hS => ?_)
      refine lv_istore (pc := 42) (i := 7) (lv' := [(7, .int y3), (0, .ref a0), (1, .int x1), (2, .int x2), (3, .int x3), (4, .int x4), (5, .int x5), (6, .int x6)]) hx hb dX7_wholeBy_42 hl (Nat.le_of_ble_eq_true rfl) rfl (fun ls hl => ?_)
      refine lv_iload (pc := 44) hx hb dX7_wholeBy_44 (lv_at hl 0 rfl) ?_
      refine lv_iload (pc := 46) hx hb dX7_wholeBy_46 (lv_at hl 5 rfl) ?_
      refine lv_icmp_ne (pc := 48) (tgt := 58) hx hb dX7_wholeBy_48 (by decide) (fun hc => ?_) (fun hc => ?_)
      · have hf := jI_f hf hc
        refine lv_iconst (pc := 58) (v := 1) hx hb dX7_wholeBy_58 rfl ?_
        exact wX7_wholeBy_59 cx e1 e2 a0 hth ih _ _ _ _ _ _ _ _ _ _ _ _ hf hS (lv_sub hl [1, 2, 3, 4, 7, 0] rfl)
      · have hf := jI_t hf hc
        refine lv_iload (pc := 51) hx hb dX7_wholeBy_51 (lv_at hl 6 rfl) ?_
        refine lv_iconst (pc := 53) (v := 1) hx hb dX7_wholeBy_53 rfl ?_
        refine lv_iadd (pc := 54) hx hb dX7_wholeBy_54 ?_
        refine lv_goto (pc := 55) (tgt := 59) hx hb dX7_wholeBy_55 (by decide) ?_
        exact wX7_wholeBy_59 cx e1 e2 a0 hth ih _ _ _ _ _ _ _ _ _ _ _ _ hf hS (lv_sub hl [1, 2, 3, 4, 7, 0] rfl)
theorem wX7_wholeBy_4 {N : Nat} {r : Int32} (cx : jCx p s m args meth c cX7_wholeBy "WornSkinModel" 8 (Option.some Jvm.ClassFile.FieldType.int) D dA H0 hs.2.2.2.2) (e1 : h'.2.2.1 = hs.2.2.1 + mc) (e2 : h'.2.2.2.1 = hs.2.2.2.1 + ms) (a0 : Nat) (hth : jTh hs a0 7) : ∀ (n : Nat) (x1 : Int32) (x2 : Int32) (x3 : Int32), ∀ (h : jH) (H : Heap) (locs : List Loc) (cells slots : Nat) (ls : Array Slot), (fX7_wholeBy_4 N a0 n x1 x2 x3).1 h = some (r, h') → jS D dA H0 hs h H locs cells slots → lv_has ls 8 [(0, .ref a0), (1, .int x1), (2, .int x2), (3, .int x3)] → W p l e { frames := 5, cells := mc, slots := ms, locals := 120 } s m args below meth c H locs cells slots (jQ D dA H0 below s (.returned (some (.int r))) h' mc ms) (F0 m 4 ls []) := by
  have hx := cx.1
  have hb := cx.2.1
  have hown := cx.2.2.2.1
  have hts := cx.2.2.2.2.1
  have hm : h'.2.2.1 ≤ hs.2.2.1 + mc ∧ h'.2.2.2.1 ≤ hs.2.2.2.1 + ms := ⟨Nat.le_of_eq e1, Nat.le_of_eq e2⟩
  intro n
  induction n with
  | zero =>
    intro x1 x2 x3 h H locs cells slots ls hf hS hl
    exact jE_f hf
  | succ n ih =>
    intro x1 x2 x3 h H locs cells slots ls hf hS hl
    unfold fX7_wholeBy_4 at hf
    refine lv_iload_n (pc := 4) hx hb dX7_wholeBy_4 rfl (lv_at hl 3 rfl) ?_
    refine lv_aload_n (pc := 5) hx hb dX7_wholeBy_5 rfl (lv_at hl 0 rfl) ?_
    refine j_gR (pc := 6) cx hS hf fd_WornSkinModel_library q1694 dX7_wholeBy_6 (fun y1 hf => ?_)
    refine lv_iconst (pc := 9) (v := 0) hx hb dX7_wholeBy_9 rfl ?_
    refine j_aI (pc := 10) cx hS hf rfl dX7_wholeBy_10 (fun y2 hf => ?_)
    refine lv_icmp_ge (pc := 11) (tgt := 101) hx hb dX7_wholeBy_11 (by decide) (fun hc => ?_) (fun hc => ?_)
    · have hf := jI_t hf hc
      exact wX7_wholeBy_101 cx e1 e2 a0 hth _ _ _ _ _ _ _ hf hS (lv_sub hl [0, 2] rfl)
    · have hf := jI_f hf hc
      refine lv_iconst (pc := 14) (v := (-1)) hx hb dX7_wholeBy_14 rfl ?_
      refine lv_istore (pc := 15) (i := 4) (lv' := [(4, .int (-1)), (0, .ref a0), (1, .int x1), (2, .int x2), (3, .int x3)]) hx hb dX7_wholeBy_15 hl (Nat.le_of_ble_eq_true rfl) rfl (fun ls hl => ?_)
      refine lv_iconst (pc := 17) (v := 0) hx hb dX7_wholeBy_17 rfl ?_
      refine lv_istore (pc := 18) (i := 5) (lv' := [(5, .int 0), (4, .int (-1)), (0, .ref a0), (1, .int x1), (2, .int x2), (3, .int x3)]) hx hb dX7_wholeBy_18 hl (Nat.le_of_ble_eq_true rfl) rfl (fun ls hl => ?_)
      refine lv_iconst (pc := 20) (v := 0) hx hb dX7_wholeBy_20 rfl ?_
      refine lv_istore (pc := 21) (i := 6) (lv' := [(6, .int 0), (5, .int 0), (4, .int (-1)), (0, .ref a0), (1, .int x1), (2, .int x2), (3, .int x3)]) hx hb dX7_wholeBy_21 hl (Nat.le_of_ble_eq_true rfl) rfl (fun ls hl => ?_)
      exact wX7_wholeBy_23 cx e1 e2 a0 hth ih N _ _ _ _ _ _ _ _ _ _ _ _ hf hS (lv_sub hl [3, 4, 5, 6, 2, 1, 0] rfl)
theorem wX7_wholeBy_0 {N : Nat} {r : Int32} (cx : jCx p s m args meth c cX7_wholeBy "WornSkinModel" 8 (Option.some Jvm.ClassFile.FieldType.int) D dA H0 hs.2.2.2.2) (e1 : h'.2.2.1 = hs.2.2.1 + mc) (e2 : h'.2.2.2.1 = hs.2.2.2.1 + ms) (a0 : Nat) (hth : jTh hs a0 7) : ∀ (x1 : Int32), ∀ (h : jH) (H : Heap) (locs : List Loc) (cells slots : Nat) (ls : Array Slot), (fX7_wholeBy N a0 x1).1 h = some (r, h') → jS D dA H0 hs h H locs cells slots → lv_has ls 8 [(0, .ref a0), (1, .int x1)] → W p l e { frames := 5, cells := mc, slots := ms, locals := 120 } s m args below meth c H locs cells slots (jQ D dA H0 below s (.returned (some (.int r))) h' mc ms) (F0 m 0 ls []) := by
  have hx := cx.1
  have hb := cx.2.1
  have hown := cx.2.2.2.1
  have hts := cx.2.2.2.2.1
  have hm : h'.2.2.1 ≤ hs.2.2.1 + mc ∧ h'.2.2.2.1 ≤ hs.2.2.2.1 + ms := ⟨Nat.le_of_eq e1, Nat.le_of_eq e2⟩
  intro x1 h H locs cells slots ls hf hS hl
  unfold fX7_wholeBy at hf
  refine lv_iconst (pc := 0) (v := 0) hx hb dX7_wholeBy_0 rfl ?_
  refine lv_istore_n (pc := 1) (i := 2) (lv' := [(2, .int 0), (0, .ref a0), (1, .int x1)]) hx hb dX7_wholeBy_1 rfl hl (Nat.le_of_ble_eq_true rfl) rfl (fun ls hl => ?_)
  refine lv_iconst (pc := 2) (v := 0) hx hb dX7_wholeBy_2 rfl ?_
  refine lv_istore_n (pc := 3) (i := 3) (lv' := [(3, .int 0), (2, .int 0), (0, .ref a0), (1, .int x1)]) hx hb dX7_wholeBy_3 rfl hl (Nat.le_of_ble_eq_true rfl) rfl (fun ls hl => ?_)
  exact wX7_wholeBy_4 cx e1 e2 a0 hth N _ _ _ _ _ _ _ _ _ hf hS (lv_sub hl [2, 3, 1, 0] rfl)
theorem metX7_wholeBy (l : Launch) (N : Nat) (a0 : Nat) (x1 : Int32) (h h' : jH) (r : Int32) (hth : jcd h a0 = some 7) (hf : (fX7_wholeBy N a0 x1).1 h = some (r, h')) : jMet l yX7_wholeBy (ws_ yX7_wholeBy cX7_wholeBy 8 (Option.some Jvm.ClassFile.FieldType.int)) (5) (120) [.ref a0, .int x1] h h' (.returned (some (.int r))) := by
  refine jStart rfl (jle hf) (Nat.le_of_ble_eq_true rfl) ?_
  intro p e s m below meth c D dA H0 mc ms ls cx hnm e1 e2 hS hl
  have hth := jTh.mk hS hth
  exact wX7_wholeBy_0 cx e1 e2 a0 hth _ _ _ _ _ _ _ hf hS hl
def fX7_wholeNow (N : Nat) (a0 : Nat) : jM Int32 := jB (jgR [7] 48 (some a0)) fun y1 => jB (jaI 0 y1 0) fun y2 => jB (fX7_dampOf a0 y2) fun y3 => jB (fX7_wholeBy N a0 y3) fun y4 => jR y4
theorem wX7_wholeNow_0 {N : Nat} {r : Int32} (cx : jCx p s m args meth c cX7_wholeNow "WornSkinModel" 1 (Option.some Jvm.ClassFile.FieldType.int) D dA H0 hs.2.2.2.2) (e1 : h'.2.2.1 = hs.2.2.1 + mc) (e2 : h'.2.2.2.1 = hs.2.2.2.1 + ms) (a0 : Nat) (hth : jTh hs a0 7) : ∀ (h : jH) (H : Heap) (locs : List Loc) (cells slots : Nat) (ls : Array Slot), (fX7_wholeNow N a0).1 h = some (r, h') → jS D dA H0 hs h H locs cells slots → lv_has ls 1 [(0, .ref a0)] → W p l e { frames := 6, cells := mc, slots := ms, locals := 147 } s m args below meth c H locs cells slots (jQ D dA H0 below s (.returned (some (.int r))) h' mc ms) (F0 m 0 ls []) := by
  have hx := cx.1
  have hb := cx.2.1
  have hown := cx.2.2.2.1
  have hts := cx.2.2.2.2.1
  have hm : h'.2.2.1 ≤ hs.2.2.1 + mc ∧ h'.2.2.2.1 ≤ hs.2.2.2.1 + ms := ⟨Nat.le_of_eq e1, Nat.le_of_eq e2⟩
  intro h H locs cells slots ls hf hS hl
  unfold fX7_wholeNow at hf
  refine lv_aload_n (pc := 0) hx hb dX7_wholeNow_0 rfl (lv_at hl 0 rfl) ?_
  refine lv_aload_n (pc := 1) hx hb dX7_wholeNow_1 rfl (lv_at hl 0 rfl) ?_
  refine lv_aload_n (pc := 2) hx hb dX7_wholeNow_2 rfl (lv_at hl 0 rfl) ?_
  refine j_gR (pc := 3) cx hS hf fd_WornSkinModel_s q1732 dX7_wholeNow_3 (fun y1 hf => ?_)
  refine lv_iconst (pc := 6) (v := 0) hx hb dX7_wholeNow_6 rfl ?_
  refine j_aI (pc := 7) cx hS hf rfl dX7_wholeNow_7 (fun y2 hf => ?_)
  obtain ⟨y3, h1, e9, hf⟩ := jB_some hf
  refine j_callV (pc := 8) (st1 := [.int y3, .ref a0]) (As := [.int y2]) (rest := [.ref a0]) cx hS rfl hl.1 hm (metX7_dampOf l _ _ _ _ _ (hth.at hS) e9) (jle hf) (hth.at hS) rfl (lw_V q2039 q2041 qs82 q123 q2042) pdX7_dampOf rfl rfl (Nat.le_of_ble_eq_true rfl) ⟨Nat.le_of_ble_eq_true rfl, Nat.le_of_ble_eq_true rfl⟩ dX7_wholeNow_8 rfl (fun H locs cells slots hS => ?_)
  obtain ⟨y4, h1, e9, hf⟩ := jB_some hf
  refine j_callV (pc := 11) (st1 := [.int y4]) (As := [.int y3]) (rest := []) cx hS rfl hl.1 hm (metX7_wholeBy l _ _ _ _ _ _ (hth.at hS) e9) (jle hf) (hth.at hS) rfl (lw_V q2079 q2081 qs91 q123 q2082) pdX7_wholeBy rfl rfl (Nat.le_of_ble_eq_true rfl) ⟨Nat.le_of_ble_eq_true rfl, Nat.le_of_ble_eq_true rfl⟩ dX7_wholeNow_11 rfl (fun H locs cells slots hS => ?_)
  exact j_iret (pc := 14) cx hS hf e1 e2 dX7_wholeNow_14
theorem metX7_wholeNow (l : Launch) (N : Nat) (a0 : Nat) (h h' : jH) (r : Int32) (hth : jcd h a0 = some 7) (hf : (fX7_wholeNow N a0).1 h = some (r, h')) : jMet l yX7_wholeNow (ws_ yX7_wholeNow cX7_wholeNow 1 (Option.some Jvm.ClassFile.FieldType.int)) (6) (147) [.ref a0] h h' (.returned (some (.int r))) := by
  refine jStart rfl (jle hf) (Nat.le_of_ble_eq_true rfl) ?_
  intro p e s m below meth c D dA H0 mc ms ls cx hnm e1 e2 hS hl
  have hth := jTh.mk hS hth
  exact wX7_wholeNow_0 cx e1 e2 a0 hth  _ _ _ _ _ _ hf hS hl
def fX7_bits_24 (N : Nat) (x1 : Int32) : jM Int32 := jR x1
def fX7_bits_4 (N : Nat) : Nat → Int32 → Int32 → Int32 → jM Int32
  | 0, _, _, _ => jE
  | n + 1, x0, x1, x2 => if 6 ≤ x2 then (fX7_bits_24 N x1) else (fX7_bits_4 N n x0 (x1 + ((x0 >>> (x2 &&& 31)) &&& 1)) (x2 + 1))
def fX7_bits (N : Nat) (x0 : Int32) : jM Int32 := fX7_bits_4 N N x0 0 0
theorem wX7_bits_24 {N : Nat} {r : Int32} (cx : jCx p s m args meth c cX7_bits "WornSkinModel" 3 (Option.some Jvm.ClassFile.FieldType.int) D dA H0 hs.2.2.2.2) (e1 : h'.2.2.1 = hs.2.2.1 + mc) (e2 : h'.2.2.2.1 = hs.2.2.2.1 + ms) : ∀ (x1 : Int32), ∀ (h : jH) (H : Heap) (locs : List Loc) (cells slots : Nat) (ls : Array Slot), (fX7_bits_24 N x1).1 h = some (r, h') → jS D dA H0 hs h H locs cells slots → lv_has ls 3 [(1, .int x1)] → W p l e { frames := 0, cells := mc, slots := ms, locals := 0 } s m args below meth c H locs cells slots (jQ D dA H0 below s (.returned (some (.int r))) h' mc ms) (F0 m 24 ls []) := by
  have hx := cx.1
  have hb := cx.2.1
  have hown := cx.2.2.2.1
  have hts := cx.2.2.2.2.1
  have hm : h'.2.2.1 ≤ hs.2.2.1 + mc ∧ h'.2.2.2.1 ≤ hs.2.2.2.1 + ms := ⟨Nat.le_of_eq e1, Nat.le_of_eq e2⟩
  intro x1 h H locs cells slots ls hf hS hl
  unfold fX7_bits_24 at hf
  refine lv_iload_n (pc := 24) hx hb dX7_bits_24 rfl (lv_at hl 0 rfl) ?_
  exact j_iret (pc := 25) cx hS hf e1 e2 dX7_bits_25
theorem wX7_bits_4 {N : Nat} {r : Int32} (cx : jCx p s m args meth c cX7_bits "WornSkinModel" 3 (Option.some Jvm.ClassFile.FieldType.int) D dA H0 hs.2.2.2.2) (e1 : h'.2.2.1 = hs.2.2.1 + mc) (e2 : h'.2.2.2.1 = hs.2.2.2.1 + ms) : ∀ (n : Nat) (x0 : Int32) (x1 : Int32) (x2 : Int32), ∀ (h : jH) (H : Heap) (locs : List Loc) (cells slots : Nat) (ls : Array Slot), (fX7_bits_4 N n x0 x1 x2).1 h = some (r, h') → jS D dA H0 hs h H locs cells slots → lv_has ls 3 [(0, .int x0), (1, .int x1), (2, .int x2)] → W p l e { frames := 0, cells := mc, slots := ms, locals := 0 } s m args below meth c H locs cells slots (jQ D dA H0 below s (.returned (some (.int r))) h' mc ms) (F0 m 4 ls []) := by
  have hx := cx.1
  have hb := cx.2.1
  have hown := cx.2.2.2.1
  have hts := cx.2.2.2.2.1
  have hm : h'.2.2.1 ≤ hs.2.2.1 + mc ∧ h'.2.2.2.1 ≤ hs.2.2.2.1 + ms := ⟨Nat.le_of_eq e1, Nat.le_of_eq e2⟩
  intro n
  induction n with
  | zero =>
    intro x0 x1 x2 h H locs cells slots ls hf hS hl
    exact jE_f hf
  | succ n ih =>
    intro x0 x1 x2 h H locs cells slots ls hf hS hl
    unfold fX7_bits_4 at hf
    refine lv_iload_n (pc := 4) hx hb dX7_bits_4 rfl (lv_at hl 2 rfl) ?_
    refine lv_bipush (pc := 5) (v := 6) hx hb dX7_bits_5 rfl ?_
    refine lv_icmp_ge (pc := 7) (tgt := 24) hx hb dX7_bits_7 (by decide) (fun hc => ?_) (fun hc => ?_)
    · have hf := jI_t hf hc
      exact wX7_bits_24 cx e1 e2 _ _ _ _ _ _ _ hf hS (lv_sub hl [1] rfl)
    · have hf := jI_f hf hc
      refine lv_iload_n (pc := 10) hx hb dX7_bits_10 rfl (lv_at hl 1 rfl) ?_
      refine lv_iload_n (pc := 11) hx hb dX7_bits_11 rfl (lv_at hl 0 rfl) ?_
      refine lv_iload_n (pc := 12) hx hb dX7_bits_12 rfl (lv_at hl 2 rfl) ?_
      refine lv_ishr (pc := 13) hx hb dX7_bits_13 ?_
      refine lv_iconst (pc := 14) (v := 1) hx hb dX7_bits_14 rfl ?_
      refine lv_iand (pc := 15) hx hb dX7_bits_15 ?_
      refine lv_iadd (pc := 16) hx hb dX7_bits_16 ?_
      refine lv_istore_n (pc := 17) (i := 1) (lv' := [(1, .int (x1 + ((x0 >>> (x2 &&& 31)) &&& 1))), (0, .int x0), (2, .int x2)]) hx hb dX7_bits_17 rfl hl (Nat.le_of_ble_eq_true rfl) rfl (fun ls hl => ?_)
      refine lv_iinc (pc := 18) (v := (x2 + 1)) (lv' := [(2, .int (x2 + 1)), (1, .int (x1 + ((x0 >>> (x2 &&& 31)) &&& 1))), (0, .int x0)]) hx hb dX7_bits_18 hl (k := 2) rfl rfl (Nat.le_of_ble_eq_true rfl) rfl (fun ls hl => ?_)
      refine lv_goto (pc := 21) (tgt := 4) hx hb dX7_bits_21 (by decide) ?_
      exact ih _ _ _ _ _ _ _ _ _ hf hS (lv_sub hl [2, 1, 0] rfl)
theorem wX7_bits_0 {N : Nat} {r : Int32} (cx : jCx p s m args meth c cX7_bits "WornSkinModel" 3 (Option.some Jvm.ClassFile.FieldType.int) D dA H0 hs.2.2.2.2) (e1 : h'.2.2.1 = hs.2.2.1 + mc) (e2 : h'.2.2.2.1 = hs.2.2.2.1 + ms) : ∀ (x0 : Int32), ∀ (h : jH) (H : Heap) (locs : List Loc) (cells slots : Nat) (ls : Array Slot), (fX7_bits N x0).1 h = some (r, h') → jS D dA H0 hs h H locs cells slots → lv_has ls 3 [(0, .int x0)] → W p l e { frames := 0, cells := mc, slots := ms, locals := 0 } s m args below meth c H locs cells slots (jQ D dA H0 below s (.returned (some (.int r))) h' mc ms) (F0 m 0 ls []) := by
  have hx := cx.1
  have hb := cx.2.1
  have hown := cx.2.2.2.1
  have hts := cx.2.2.2.2.1
  have hm : h'.2.2.1 ≤ hs.2.2.1 + mc ∧ h'.2.2.2.1 ≤ hs.2.2.2.1 + ms := ⟨Nat.le_of_eq e1, Nat.le_of_eq e2⟩
  intro x0 h H locs cells slots ls hf hS hl
  unfold fX7_bits at hf
  refine lv_iconst (pc := 0) (v := 0) hx hb dX7_bits_0 rfl ?_
  refine lv_istore_n (pc := 1) (i := 1) (lv' := [(1, .int 0), (0, .int x0)]) hx hb dX7_bits_1 rfl hl (Nat.le_of_ble_eq_true rfl) rfl (fun ls hl => ?_)
  refine lv_iconst (pc := 2) (v := 0) hx hb dX7_bits_2 rfl ?_
  refine lv_istore_n (pc := 3) (i := 2) (lv' := [(2, .int 0), (1, .int 0), (0, .int x0)]) hx hb dX7_bits_3 rfl hl (Nat.le_of_ble_eq_true rfl) rfl (fun ls hl => ?_)
  exact wX7_bits_4 cx e1 e2 N _ _ _ _ _ _ _ _ _ hf hS (lv_sub hl [2, 1, 0] rfl)
theorem metX7_bits (l : Launch) (N : Nat) (x0 : Int32) (h h' : jH) (r : Int32) (hf : (fX7_bits N x0).1 h = some (r, h')) : jMet l yX7_bits (ws_ yX7_bits cX7_bits 3 (Option.some Jvm.ClassFile.FieldType.int)) (0) (0) [.int x0] h h' (.returned (some (.int r))) := by
  refine jStart rfl (jle hf) (Nat.le_of_ble_eq_true rfl) ?_
  intro p e s m below meth c D dA H0 mc ms ls cx hnm e1 e2 hS hl
  exact wX7_bits_0 cx e1 e2 _ _ _ _ _ _ _ hf hS hl
def fX7_madeOf_32 (N : Nat) (a0 : Nat) (x2 : Int32) : jM Int32 := jR x2
def fX7_madeOf_4 (N : Nat) (a0 : Nat) : Nat → Int32 → Int32 → Int32 → jM Int32
  | 0, _, _, _ => jE
  | n + 1, x1, x2, x3 => jB (jgR [7] 10 (some a0)) fun y1 => jB (jaI 0 y1 0) fun y2 => if y2 ≤ x3 then (fX7_madeOf_32 N a0 x2) else (jB (fX7_readIn N a0 x3 x1) fun y3 => jB (fX7_bits N y3) fun y4 => fX7_madeOf_4 N a0 n x1 (x2 + y4) (x3 + 1))
def fX7_madeOf (N : Nat) (a0 : Nat) (x1 : Int32) : jM Int32 := fX7_madeOf_4 N a0 N x1 0 0
theorem wX7_madeOf_32 {N : Nat} {r : Int32} (cx : jCx p s m args meth c cX7_madeOf "WornSkinModel" 4 (Option.some Jvm.ClassFile.FieldType.int) D dA H0 hs.2.2.2.2) (e1 : h'.2.2.1 = hs.2.2.1 + mc) (e2 : h'.2.2.2.1 = hs.2.2.2.1 + ms) (a0 : Nat) (hth : jTh hs a0 7) : ∀ (x2 : Int32), ∀ (h : jH) (H : Heap) (locs : List Loc) (cells slots : Nat) (ls : Array Slot), (fX7_madeOf_32 N a0 x2).1 h = some (r, h') → jS D dA H0 hs h H locs cells slots → lv_has ls 4 [(0, .ref a0), (2, .int x2)] → W p l e { frames := 6, cells := mc, slots := ms, locals := 145 } s m args below meth c H locs cells slots (jQ D dA H0 below s (.returned (some (.int r))) h' mc ms) (F0 m 32 ls []) := by
  have hx := cx.1
  have hb := cx.2.1
  have hown := cx.2.2.2.1
  have hts := cx.2.2.2.2.1
  have hm : h'.2.2.1 ≤ hs.2.2.1 + mc ∧ h'.2.2.2.1 ≤ hs.2.2.2.1 + ms := ⟨Nat.le_of_eq e1, Nat.le_of_eq e2⟩
  intro x2 h H locs cells slots ls hf hS hl
  unfold fX7_madeOf_32 at hf
  refine lv_iload_n (pc := 32) hx hb dX7_madeOf_32 rfl (lv_at hl 1 rfl) ?_
  exact j_iret (pc := 33) cx hS hf e1 e2 dX7_madeOf_33
theorem wX7_madeOf_4 {N : Nat} {r : Int32} (cx : jCx p s m args meth c cX7_madeOf "WornSkinModel" 4 (Option.some Jvm.ClassFile.FieldType.int) D dA H0 hs.2.2.2.2) (e1 : h'.2.2.1 = hs.2.2.1 + mc) (e2 : h'.2.2.2.1 = hs.2.2.2.1 + ms) (a0 : Nat) (hth : jTh hs a0 7) : ∀ (n : Nat) (x1 : Int32) (x2 : Int32) (x3 : Int32), ∀ (h : jH) (H : Heap) (locs : List Loc) (cells slots : Nat) (ls : Array Slot), (fX7_madeOf_4 N a0 n x1 x2 x3).1 h = some (r, h') → jS D dA H0 hs h H locs cells slots → lv_has ls 4 [(0, .ref a0), (1, .int x1), (2, .int x2), (3, .int x3)] → W p l e { frames := 6, cells := mc, slots := ms, locals := 145 } s m args below meth c H locs cells slots (jQ D dA H0 below s (.returned (some (.int r))) h' mc ms) (F0 m 4 ls []) := by
  have hx := cx.1
  have hb := cx.2.1
  have hown := cx.2.2.2.1
  have hts := cx.2.2.2.2.1
  have hm : h'.2.2.1 ≤ hs.2.2.1 + mc ∧ h'.2.2.2.1 ≤ hs.2.2.2.1 + ms := ⟨Nat.le_of_eq e1, Nat.le_of_eq e2⟩
  intro n
  induction n with
  | zero =>
    intro x1 x2 x3 h H locs cells slots ls hf hS hl
    exact jE_f hf
  | succ n ih =>
    intro x1 x2 x3 h H locs cells slots ls hf hS hl
    unfold fX7_madeOf_4 at hf
    refine lv_iload_n (pc := 4) hx hb dX7_madeOf_4 rfl (lv_at hl 3 rfl) ?_
    refine lv_aload_n (pc := 5) hx hb dX7_madeOf_5 rfl (lv_at hl 0 rfl) ?_
    refine j_gR (pc := 6) cx hS hf fd_WornSkinModel_library q1694 dX7_madeOf_6 (fun y1 hf => ?_)
    refine lv_iconst (pc := 9) (v := 0) hx hb dX7_madeOf_9 rfl ?_
    refine j_aI (pc := 10) cx hS hf rfl dX7_madeOf_10 (fun y2 hf => ?_)
    refine lv_icmp_ge (pc := 11) (tgt := 32) hx hb dX7_madeOf_11 (by decide) (fun hc => ?_) (fun hc => ?_)
    · have hf := jI_t hf hc
      exact wX7_madeOf_32 cx e1 e2 a0 hth _ _ _ _ _ _ _ hf hS (lv_sub hl [0, 2] rfl)
    · have hf := jI_f hf hc
      refine lv_iload_n (pc := 14) hx hb dX7_madeOf_14 rfl (lv_at hl 2 rfl) ?_
      refine lv_aload_n (pc := 15) hx hb dX7_madeOf_15 rfl (lv_at hl 0 rfl) ?_
      refine lv_iload_n (pc := 16) hx hb dX7_madeOf_16 rfl (lv_at hl 3 rfl) ?_
      refine lv_iload_n (pc := 17) hx hb dX7_madeOf_17 rfl (lv_at hl 1 rfl) ?_
      obtain ⟨y3, h1, e9, hf⟩ := jB_some hf
      refine j_callV (pc := 18) (st1 := [.int y3, .int x2]) (As := [.int x3, .int x1]) (rest := [.int x2]) cx hS rfl hl.1 hm (metX7_readIn l _ _ _ _ _ _ _ (hth.at hS) e9) (jle hf) (hth.at hS) rfl (lw_V q2035 q2037 qs81 q123 q2038) pdX7_readIn rfl rfl (Nat.le_of_ble_eq_true rfl) ⟨Nat.le_of_ble_eq_true rfl, Nat.le_of_ble_eq_true rfl⟩ dX7_madeOf_18 rfl (fun H locs cells slots hS => ?_)
      obtain ⟨y4, h1, e9, hf⟩ := jB_some hf
      refine j_callS (pc := 21) (st1 := [.int y4, .int x2]) (As := [.int y3]) (rest := [.int x2]) cx hS rfl hl.1 hm (metX7_bits l _ _ _ _ _ e9) (jle hf) (lw_S q2087 q2088 q123 q2089) pdX7_bits rfl rfl (Nat.le_of_ble_eq_true rfl) ⟨Nat.le_of_ble_eq_true rfl, Nat.le_of_ble_eq_true rfl⟩ dX7_madeOf_21 rfl (fun H locs cells slots hS => ?_)
      refine lv_iadd (pc := 24) hx hb dX7_madeOf_24 ?_
      refine lv_istore_n (pc := 25) (i := 2) (lv' := [(2, .int (x2 + y4)), (0, .ref a0), (1, .int x1), (3, .int x3)]) hx hb dX7_madeOf_25 rfl hl (Nat.le_of_ble_eq_true rfl) rfl (fun ls hl => ?_)
      refine lv_iinc (pc := 26) (v := (x3 + 1)) (lv' := [(3, .int (x3 + 1)), (2, .int (x2 + y4)), (0, .ref a0), (1, .int x1)]) hx hb dX7_madeOf_26 hl (k := 3) rfl rfl (Nat.le_of_ble_eq_true rfl) rfl (fun ls hl => ?_)
      refine lv_goto (pc := 29) (tgt := 4) hx hb dX7_madeOf_29 (by decide) ?_
      exact ih _ _ _ _ _ _ _ _ _ hf hS (lv_sub hl [2, 3, 1, 0] rfl)
theorem wX7_madeOf_0 {N : Nat} {r : Int32} (cx : jCx p s m args meth c cX7_madeOf "WornSkinModel" 4 (Option.some Jvm.ClassFile.FieldType.int) D dA H0 hs.2.2.2.2) (e1 : h'.2.2.1 = hs.2.2.1 + mc) (e2 : h'.2.2.2.1 = hs.2.2.2.1 + ms) (a0 : Nat) (hth : jTh hs a0 7) : ∀ (x1 : Int32), ∀ (h : jH) (H : Heap) (locs : List Loc) (cells slots : Nat) (ls : Array Slot), (fX7_madeOf N a0 x1).1 h = some (r, h') → jS D dA H0 hs h H locs cells slots → lv_has ls 4 [(0, .ref a0), (1, .int x1)] → W p l e { frames := 6, cells := mc, slots := ms, locals := 145 } s m args below meth c H locs cells slots (jQ D dA H0 below s (.returned (some (.int r))) h' mc ms) (F0 m 0 ls []) := by
  have hx := cx.1
  have hb := cx.2.1
  have hown := cx.2.2.2.1
  have hts := cx.2.2.2.2.1
  have hm : h'.2.2.1 ≤ hs.2.2.1 + mc ∧ h'.2.2.2.1 ≤ hs.2.2.2.1 + ms := ⟨Nat.le_of_eq e1, Nat.le_of_eq e2⟩
  intro x1 h H locs cells slots ls hf hS hl
  unfold fX7_madeOf at hf
  refine lv_iconst (pc := 0) (v := 0) hx hb dX7_madeOf_0 rfl ?_
  refine lv_istore_n (pc := 1) (i := 2) (lv' := [(2, .int 0), (0, .ref a0), (1, .int x1)]) hx hb dX7_madeOf_1 rfl hl (Nat.le_of_ble_eq_true rfl) rfl (fun ls hl => ?_)
  refine lv_iconst (pc := 2) (v := 0) hx hb dX7_madeOf_2 rfl ?_
  refine lv_istore_n (pc := 3) (i := 3) (lv' := [(3, .int 0), (2, .int 0), (0, .ref a0), (1, .int x1)]) hx hb dX7_madeOf_3 rfl hl (Nat.le_of_ble_eq_true rfl) rfl (fun ls hl => ?_)
  exact wX7_madeOf_4 cx e1 e2 a0 hth N _ _ _ _ _ _ _ _ _ hf hS (lv_sub hl [2, 3, 1, 0] rfl)
theorem metX7_madeOf (l : Launch) (N : Nat) (a0 : Nat) (x1 : Int32) (h h' : jH) (r : Int32) (hth : jcd h a0 = some 7) (hf : (fX7_madeOf N a0 x1).1 h = some (r, h')) : jMet l yX7_madeOf (ws_ yX7_madeOf cX7_madeOf 4 (Option.some Jvm.ClassFile.FieldType.int)) (6) (145) [.ref a0, .int x1] h h' (.returned (some (.int r))) := by
  refine jStart rfl (jle hf) (Nat.le_of_ble_eq_true rfl) ?_
  intro p e s m below meth c D dA H0 mc ms ls cx hnm e1 e2 hS hl
  have hth := jTh.mk hS hth
  exact wX7_madeOf_0 cx e1 e2 a0 hth _ _ _ _ _ _ _ hf hS hl
def fX7_text_85 (N : Nat) (a0 : Nat) (v0 : Int32) : jM Int32 := jR v0
def fX7_text_63 (N : Nat) (a0 : Nat) (v0 : Int32) : jM Int32 := jR v0
def fX7_text_22 (N : Nat) (a0 : Nat) : jM Int32 := jR (-2)
def fX7_text (N : Nat) (a0 : Nat) (x1 : Int32) (x2 : Int32) : jM Int32 := jB (jpI [7] 0 (some a0) 0) fun _ => jB (fX7_isText a0 x1) fun y1 => if y1 = 0 then (fX7_text_22 N a0) else (jB (fX7_within x2 0 4) fun y2 => if y2 = 0 then (fX7_text_22 N a0) else (if 3 ≤ x2 then (if x2 = 3 then (jB (fX7_wholeNow N a0) fun y4 => fX7_text_85 N a0 ((y4 >>> (x1 &&& 31)) &&& 1)) else (jB (fX7_madeOf N a0 x1) fun y3 => fX7_text_85 N a0 y3)) else (if x2 = 0 then (jB (jgR [7] 16 (some a0)) fun y9 => jB (jaI 0 y9 x1) fun y10 => fX7_text_63 N a0 y10) else (if x2 = 1 then (jB (jgR [7] 17 (some a0)) fun y7 => jB (jaI 0 y7 x1) fun y8 => fX7_text_63 N a0 y8) else (jB (jgR [7] 18 (some a0)) fun y5 => jB (jaI 0 y5 x1) fun y6 => fX7_text_63 N a0 y6)))))
theorem wX7_text_85 {N : Nat} {r : Int32} (cx : jCx p s m args meth c cX7_text "WornSkinModel" 3 (Option.some Jvm.ClassFile.FieldType.int) D dA H0 hs.2.2.2.2) (e1 : h'.2.2.1 = hs.2.2.1 + mc) (e2 : h'.2.2.2.1 = hs.2.2.2.1 + ms) (a0 : Nat) (hth : jTh hs a0 7) : ∀ (v0 : Int32), ∀ (h : jH) (H : Heap) (locs : List Loc) (cells slots : Nat) (ls : Array Slot), (fX7_text_85 N a0 v0).1 h = some (r, h') → jS D dA H0 hs h H locs cells slots → lv_has ls 3 [(0, .ref a0)] → W p l e { frames := 7, cells := mc, slots := ms, locals := 168 } s m args below meth c H locs cells slots (jQ D dA H0 below s (.returned (some (.int r))) h' mc ms) (F0 m 85 ls [.int v0]) := by
  have hx := cx.1
  have hb := cx.2.1
  have hown := cx.2.2.2.1
  have hts := cx.2.2.2.2.1
  have hm : h'.2.2.1 ≤ hs.2.2.1 + mc ∧ h'.2.2.2.1 ≤ hs.2.2.2.1 + ms := ⟨Nat.le_of_eq e1, Nat.le_of_eq e2⟩
  intro v0 h H locs cells slots ls hf hS hl
  unfold fX7_text_85 at hf
  exact j_iret (pc := 85) cx hS hf e1 e2 dX7_text_85
theorem wX7_text_63 {N : Nat} {r : Int32} (cx : jCx p s m args meth c cX7_text "WornSkinModel" 3 (Option.some Jvm.ClassFile.FieldType.int) D dA H0 hs.2.2.2.2) (e1 : h'.2.2.1 = hs.2.2.1 + mc) (e2 : h'.2.2.2.1 = hs.2.2.2.1 + ms) (a0 : Nat) (hth : jTh hs a0 7) : ∀ (v0 : Int32), ∀ (h : jH) (H : Heap) (locs : List Loc) (cells slots : Nat) (ls : Array Slot), (fX7_text_63 N a0 v0).1 h = some (r, h') → jS D dA H0 hs h H locs cells slots → lv_has ls 3 [(0, .ref a0)] → W p l e { frames := 7, cells := mc, slots := ms, locals := 168 } s m args below meth c H locs cells slots (jQ D dA H0 below s (.returned (some (.int r))) h' mc ms) (F0 m 63 ls [.int v0]) := by
  have hx := cx.1
  have hb := cx.2.1
  have hown := cx.2.2.2.1
  have hts := cx.2.2.2.2.1
  have hm : h'.2.2.1 ≤ hs.2.2.1 + mc ∧ h'.2.2.2.1 ≤ hs.2.2.2.1 + ms := ⟨Nat.le_of_eq e1, Nat.le_of_eq e2⟩
  intro v0 h H locs cells slots ls hf hS hl
  unfold fX7_text_63 at hf
  exact j_iret (pc := 63) cx hS hf e1 e2 dX7_text_63
theorem wX7_text_22 {N : Nat} {r : Int32} (cx : jCx p s m args meth c cX7_text "WornSkinModel" 3 (Option.some Jvm.ClassFile.FieldType.int) D dA H0 hs.2.2.2.2) (e1 : h'.2.2.1 = hs.2.2.1 + mc) (e2 : h'.2.2.2.1 = hs.2.2.2.1 + ms) (a0 : Nat) (hth : jTh hs a0 7) : ∀ (h : jH) (H : Heap) (locs : List Loc) (cells slots : Nat) (ls : Array Slot), (fX7_text_22 N a0).1 h = some (r, h') → jS D dA H0 hs h H locs cells slots → lv_has ls 3 [(0, .ref a0)] → W p l e { frames := 7, cells := mc, slots := ms, locals := 168 } s m args below meth c H locs cells slots (jQ D dA H0 below s (.returned (some (.int r))) h' mc ms) (F0 m 22 ls []) := by
  have hx := cx.1
  have hb := cx.2.1
  have hown := cx.2.2.2.1
  have hts := cx.2.2.2.2.1
  have hm : h'.2.2.1 ≤ hs.2.2.1 + mc ∧ h'.2.2.2.1 ≤ hs.2.2.2.1 + ms := ⟨Nat.le_of_eq e1, Nat.le_of_eq e2⟩
  intro h H locs cells slots ls hf hS hl
  unfold fX7_text_22 at hf
  refine lv_bipush (pc := 22) (v := (-2)) hx hb dX7_text_22 rfl ?_
  exact j_iret (pc := 24) cx hS hf e1 e2 dX7_text_24
theorem wX7_text_0 {N : Nat} {r : Int32} (cx : jCx p s m args meth c cX7_text "WornSkinModel" 3 (Option.some Jvm.ClassFile.FieldType.int) D dA H0 hs.2.2.2.2) (e1 : h'.2.2.1 = hs.2.2.1 + mc) (e2 : h'.2.2.2.1 = hs.2.2.2.1 + ms) (a0 : Nat) (hth : jTh hs a0 7) : ∀ (x1 : Int32) (x2 : Int32), ∀ (h : jH) (H : Heap) (locs : List Loc) (cells slots : Nat) (ls : Array Slot), (fX7_text N a0 x1 x2).1 h = some (r, h') → jS D dA H0 hs h H locs cells slots → lv_has ls 3 [(0, .ref a0), (1, .int x1), (2, .int x2)] → W p l e { frames := 7, cells := mc, slots := ms, locals := 168 } s m args below meth c H locs cells slots (jQ D dA H0 below s (.returned (some (.int r))) h' mc ms) (F0 m 0 ls []) := by
  have hx := cx.1
  have hb := cx.2.1
  have hown := cx.2.2.2.1
  have hts := cx.2.2.2.2.1
  have hm : h'.2.2.1 ≤ hs.2.2.1 + mc ∧ h'.2.2.2.1 ≤ hs.2.2.2.1 + ms := ⟨Nat.le_of_eq e1, Nat.le_of_eq e2⟩
  intro x1 x2 h H locs cells slots ls hf hS hl
  unfold fX7_text at hf
  refine lv_aload_n (pc := 0) hx hb dX7_text_0 rfl (lv_at hl 0 rfl) ?_
  refine lv_iconst (pc := 1) (v := 0) hx hb dX7_text_1 rfl ?_
  refine j_pI (pc := 2) cx hS hf fp_WornSkinModel_thrown (Or.inl rfl) q1684 dX7_text_2 (fun h H locs hf hS => ?_)
  refine lv_aload_n (pc := 5) hx hb dX7_text_5 rfl (lv_at hl 0 rfl) ?_
  refine lv_iload_n (pc := 6) hx hb dX7_text_6 rfl (lv_at hl 1 rfl) ?_
  obtain ⟨y1, h1, e9, hf⟩ := jB_some hf
  refine j_callV (pc := 7) (st1 := [.int y1]) (As := [.int x1]) (rest := []) cx hS rfl hl.1 hm (metX7_isText l _ _ _ _ _ (hth.at hS) e9) (jle hf) (hth.at hS) rfl (lw_V q2071 q2073 qs89 q123 q2074) pdX7_isText rfl rfl (Nat.le_of_ble_eq_true rfl) ⟨Nat.le_of_ble_eq_true rfl, Nat.le_of_ble_eq_true rfl⟩ dX7_text_7 rfl (fun H locs cells slots hS => ?_)
  refine lv_if_eq (pc := 10) (tgt := 22) hx hb dX7_text_10 (by decide) (fun hc => ?_) (fun hc => ?_)
  · have hf := jI_t hf hc
    exact wX7_text_22 cx e1 e2 a0 hth _ _ _ _ _ _ hf hS (lv_sub hl [0] rfl)
  · have hf := jI_f hf hc
    refine lv_iload_n (pc := 13) hx hb dX7_text_13 rfl (lv_at hl 2 rfl) ?_
    refine lv_iconst (pc := 14) (v := 0) hx hb dX7_text_14 rfl ?_
    refine lv_iconst (pc := 15) (v := 4) hx hb dX7_text_15 rfl ?_
    obtain ⟨y2, h1, e9, hf⟩ := jB_some hf
    refine j_callS (pc := 16) (st1 := [.int y2]) (As := [.int x2, .int 0, .int 4]) (rest := []) cx hS rfl hl.1 hm (metX7_within l _ _ _ _ _ _ e9) (jle hf) (lw_S q1950 q1951 q123 q1952) pdX7_within rfl rfl (Nat.le_of_ble_eq_true rfl) ⟨Nat.le_of_ble_eq_true rfl, Nat.le_of_ble_eq_true rfl⟩ dX7_text_16 rfl (fun H locs cells slots hS => ?_)
    refine lv_if_ne (pc := 19) (tgt := 25) hx hb dX7_text_19 (by decide) (fun hc => ?_) (fun hc => ?_)
    · have hf := jI_f hf hc
      refine lv_iload_n (pc := 25) hx hb dX7_text_25 rfl (lv_at hl 2 rfl) ?_
      refine lv_iconst (pc := 26) (v := 3) hx hb dX7_text_26 rfl ?_
      refine lv_icmp_ge (pc := 27) (tgt := 64) hx hb dX7_text_27 (by decide) (fun hc => ?_) (fun hc => ?_)
      · have hf := jI_t hf hc
        refine lv_iload_n (pc := 64) hx hb dX7_text_64 rfl (lv_at hl 2 rfl) ?_
        refine lv_iconst (pc := 65) (v := 3) hx hb dX7_text_65 rfl ?_
        refine lv_icmp_ne (pc := 66) (tgt := 80) hx hb dX7_text_66 (by decide) (fun hc => ?_) (fun hc => ?_)
        · have hf := jI_f hf hc
          refine lv_aload_n (pc := 80) hx hb dX7_text_80 rfl (lv_at hl 0 rfl) ?_
          refine lv_iload_n (pc := 81) hx hb dX7_text_81 rfl (lv_at hl 1 rfl) ?_
          obtain ⟨y3, h1, e9, hf⟩ := jB_some hf
          refine j_callV (pc := 82) (st1 := [.int y3]) (As := [.int x1]) (rest := []) cx hS rfl hl.1 hm (metX7_madeOf l _ _ _ _ _ _ (hth.at hS) e9) (jle hf) (hth.at hS) rfl (lw_V q2083 q2085 qs92 q123 q2086) pdX7_madeOf rfl rfl (Nat.le_of_ble_eq_true rfl) ⟨Nat.le_of_ble_eq_true rfl, Nat.le_of_ble_eq_true rfl⟩ dX7_text_82 rfl (fun H locs cells slots hS => ?_)
          exact wX7_text_85 cx e1 e2 a0 hth _ _ _ _ _ _ _ hf hS (lv_sub hl [0] rfl)
        · have hf := jI_t hf hc
          refine lv_aload_n (pc := 69) hx hb dX7_text_69 rfl (lv_at hl 0 rfl) ?_
          obtain ⟨y4, h1, e9, hf⟩ := jB_some hf
          refine j_callV (pc := 70) (st1 := [.int y4]) (As := []) (rest := []) cx hS rfl hl.1 hm (metX7_wholeNow l _ _ _ _ _ (hth.at hS) e9) (jle hf) (hth.at hS) rfl (lw_V q2075 q2077 qs90 q123 q2078) pdX7_wholeNow rfl rfl (Nat.le_of_ble_eq_true rfl) ⟨Nat.le_of_ble_eq_true rfl, Nat.le_of_ble_eq_true rfl⟩ dX7_text_70 rfl (fun H locs cells slots hS => ?_)
          refine lv_iload_n (pc := 73) hx hb dX7_text_73 rfl (lv_at hl 1 rfl) ?_
          refine lv_ishr (pc := 74) hx hb dX7_text_74 ?_
          refine lv_iconst (pc := 75) (v := 1) hx hb dX7_text_75 rfl ?_
          refine lv_iand (pc := 76) hx hb dX7_text_76 ?_
          refine lv_goto (pc := 77) (tgt := 85) hx hb dX7_text_77 (by decide) ?_
          exact wX7_text_85 cx e1 e2 a0 hth _ _ _ _ _ _ _ hf hS (lv_sub hl [0] rfl)
      · have hf := jI_f hf hc
        refine lv_iload_n (pc := 30) hx hb dX7_text_30 rfl (lv_at hl 2 rfl) ?_
        refine lv_if_ne (pc := 31) (tgt := 43) hx hb dX7_text_31 (by decide) (fun hc => ?_) (fun hc => ?_)
        · have hf := jI_f hf hc
          refine lv_iload_n (pc := 43) hx hb dX7_text_43 rfl (lv_at hl 2 rfl) ?_
          refine lv_iconst (pc := 44) (v := 1) hx hb dX7_text_44 rfl ?_
          refine lv_icmp_ne (pc := 45) (tgt := 57) hx hb dX7_text_45 (by decide) (fun hc => ?_) (fun hc => ?_)
          · have hf := jI_f hf hc
            refine lv_aload_n (pc := 57) hx hb dX7_text_57 rfl (lv_at hl 0 rfl) ?_
            refine j_gR (pc := 58) cx hS hf fd_WornSkinModel_long0 q1702 dX7_text_58 (fun y5 hf => ?_)
            refine lv_iload_n (pc := 61) hx hb dX7_text_61 rfl (lv_at hl 1 rfl) ?_
            refine j_aI (pc := 62) cx hS hf rfl dX7_text_62 (fun y6 hf => ?_)
            exact wX7_text_63 cx e1 e2 a0 hth _ _ _ _ _ _ _ hf hS (lv_sub hl [0] rfl)
          · have hf := jI_t hf hc
            refine lv_aload_n (pc := 48) hx hb dX7_text_48 rfl (lv_at hl 0 rfl) ?_
            refine j_gR (pc := 49) cx hS hf fd_WornSkinModel_gall q1701 dX7_text_49 (fun y7 hf => ?_)
            refine lv_iload_n (pc := 52) hx hb dX7_text_52 rfl (lv_at hl 1 rfl) ?_
            refine j_aI (pc := 53) cx hS hf rfl dX7_text_53 (fun y8 hf => ?_)
            refine lv_goto (pc := 54) (tgt := 63) hx hb dX7_text_54 (by decide) ?_
            exact wX7_text_63 cx e1 e2 a0 hth _ _ _ _ _ _ _ hf hS (lv_sub hl [0] rfl)
        · have hf := jI_t hf hc
          refine lv_aload_n (pc := 34) hx hb dX7_text_34 rfl (lv_at hl 0 rfl) ?_
          refine j_gR (pc := 35) cx hS hf fd_WornSkinModel_kind q1700 dX7_text_35 (fun y9 hf => ?_)
          refine lv_iload_n (pc := 38) hx hb dX7_text_38 rfl (lv_at hl 1 rfl) ?_
          refine j_aI (pc := 39) cx hS hf rfl dX7_text_39 (fun y10 hf => ?_)
          refine lv_goto (pc := 40) (tgt := 63) hx hb dX7_text_40 (by decide) ?_
          exact wX7_text_63 cx e1 e2 a0 hth _ _ _ _ _ _ _ hf hS (lv_sub hl [0] rfl)
    · have hf := jI_t hf hc
      exact wX7_text_22 cx e1 e2 a0 hth _ _ _ _ _ _ hf hS (lv_sub hl [0] rfl)
theorem metX7_text (l : Launch) (N : Nat) (a0 : Nat) (x1 : Int32) (x2 : Int32) (h h' : jH) (r : Int32) (hth : jcd h a0 = some 7) (hf : (fX7_text N a0 x1 x2).1 h = some (r, h')) : jMet l yX7_text (ws_ yX7_text cX7_text 3 (Option.some Jvm.ClassFile.FieldType.int)) (7) (168) [.ref a0, .int x1, .int x2] h h' (.returned (some (.int r))) := by
  refine jStart rfl (jle hf) (Nat.le_of_ble_eq_true rfl) ?_
  intro p e s m below meth c D dA H0 mc ms ls cx hnm e1 e2 hS hl
  have hth := jTh.mk hS hth
  exact wX7_text_0 cx e1 e2 a0 hth _ _ _ _ _ _ _ _ hf hS hl
def fX7_isLine_27 (a0 : Nat) (v0 : Int32) : jM Int32 := jRn .boolean v0
def fX7_isLine_26 (a0 : Nat) : jM Int32 := fX7_isLine_27 a0 0
def fX7_isLine (a0 : Nat) (x1 : Int32) (x2 : Int32) : jM Int32 := jB (fX7_isSkin a0 x1) fun y1 => if y1 = 0 then (fX7_isLine_26 a0) else (if x2 < 0 then (fX7_isLine_26 a0) else (jB (jgR [7] 13 (some a0)) fun y2 => jB (jaI 0 y2 x1) fun y3 => if y3 ≤ x2 then (fX7_isLine_26 a0) else (fX7_isLine_27 a0 1)))
theorem wX7_isLine_27 {r : Int32} (cx : jCx p s m args meth c cX7_isLine "WornSkinModel" 3 (Option.some Jvm.ClassFile.FieldType.boolean) D dA H0 hs.2.2.2.2) (e1 : h'.2.2.1 = hs.2.2.1 + mc) (e2 : h'.2.2.2.1 = hs.2.2.2.1 + ms) (a0 : Nat) (hth : jTh hs a0 7) : ∀ (v0 : Int32), ∀ (h : jH) (H : Heap) (locs : List Loc) (cells slots : Nat) (ls : Array Slot), (fX7_isLine_27 a0 v0).1 h = some (r, h') → jS D dA H0 hs h H locs cells slots → lv_has ls 3 [(0, .ref a0)] → W p l e { frames := 1, cells := mc, slots := ms, locals := 21 } s m args below meth c H locs cells slots (jQ D dA H0 below s (.returned (some (.int r))) h' mc ms) (F0 m 27 ls [.int v0]) := by
  have hx := cx.1
  have hb := cx.2.1
  have hown := cx.2.2.2.1
  have hts := cx.2.2.2.2.1
  have hm : h'.2.2.1 ≤ hs.2.2.1 + mc ∧ h'.2.2.2.1 ≤ hs.2.2.2.1 + ms := ⟨Nat.le_of_eq e1, Nat.le_of_eq e2⟩
  intro v0 h H locs cells slots ls hf hS hl
  unfold fX7_isLine_27 at hf
  exact j_zret (pc := 27) cx (Or.inl rfl) hS hf e1 e2 dX7_isLine_27
theorem wX7_isLine_26 {r : Int32} (cx : jCx p s m args meth c cX7_isLine "WornSkinModel" 3 (Option.some Jvm.ClassFile.FieldType.boolean) D dA H0 hs.2.2.2.2) (e1 : h'.2.2.1 = hs.2.2.1 + mc) (e2 : h'.2.2.2.1 = hs.2.2.2.1 + ms) (a0 : Nat) (hth : jTh hs a0 7) : ∀ (h : jH) (H : Heap) (locs : List Loc) (cells slots : Nat) (ls : Array Slot), (fX7_isLine_26 a0).1 h = some (r, h') → jS D dA H0 hs h H locs cells slots → lv_has ls 3 [(0, .ref a0)] → W p l e { frames := 1, cells := mc, slots := ms, locals := 21 } s m args below meth c H locs cells slots (jQ D dA H0 below s (.returned (some (.int r))) h' mc ms) (F0 m 26 ls []) := by
  have hx := cx.1
  have hb := cx.2.1
  have hown := cx.2.2.2.1
  have hts := cx.2.2.2.2.1
  have hm : h'.2.2.1 ≤ hs.2.2.1 + mc ∧ h'.2.2.2.1 ≤ hs.2.2.2.1 + ms := ⟨Nat.le_of_eq e1, Nat.le_of_eq e2⟩
  intro h H locs cells slots ls hf hS hl
  unfold fX7_isLine_26 at hf
  refine lv_iconst (pc := 26) (v := 0) hx hb dX7_isLine_26 rfl ?_
  exact wX7_isLine_27 cx e1 e2 a0 hth _ _ _ _ _ _ _ hf hS hl
theorem wX7_isLine_0 {r : Int32} (cx : jCx p s m args meth c cX7_isLine "WornSkinModel" 3 (Option.some Jvm.ClassFile.FieldType.boolean) D dA H0 hs.2.2.2.2) (e1 : h'.2.2.1 = hs.2.2.1 + mc) (e2 : h'.2.2.2.1 = hs.2.2.2.1 + ms) (a0 : Nat) (hth : jTh hs a0 7) : ∀ (x1 : Int32) (x2 : Int32), ∀ (h : jH) (H : Heap) (locs : List Loc) (cells slots : Nat) (ls : Array Slot), (fX7_isLine a0 x1 x2).1 h = some (r, h') → jS D dA H0 hs h H locs cells slots → lv_has ls 3 [(0, .ref a0), (1, .int x1), (2, .int x2)] → W p l e { frames := 1, cells := mc, slots := ms, locals := 21 } s m args below meth c H locs cells slots (jQ D dA H0 below s (.returned (some (.int r))) h' mc ms) (F0 m 0 ls []) := by
  have hx := cx.1
  have hb := cx.2.1
  have hown := cx.2.2.2.1
  have hts := cx.2.2.2.2.1
  have hm : h'.2.2.1 ≤ hs.2.2.1 + mc ∧ h'.2.2.2.1 ≤ hs.2.2.2.1 + ms := ⟨Nat.le_of_eq e1, Nat.le_of_eq e2⟩
  intro x1 x2 h H locs cells slots ls hf hS hl
  unfold fX7_isLine at hf
  refine lv_aload_n (pc := 0) hx hb dX7_isLine_0 rfl (lv_at hl 0 rfl) ?_
  refine lv_iload_n (pc := 1) hx hb dX7_isLine_1 rfl (lv_at hl 1 rfl) ?_
  obtain ⟨y1, h1, e9, hf⟩ := jB_some hf
  refine j_callV (pc := 2) (st1 := [.int y1]) (As := [.int x1]) (rest := []) cx hS rfl hl.1 hm (metX7_isSkin l _ _ _ _ _ (hth.at hS) e9) (jle hf) (hth.at hS) rfl (lw_V q2031 q2033 qs80 q123 q2034) pdX7_isSkin rfl rfl (Nat.le_of_ble_eq_true rfl) ⟨Nat.le_of_ble_eq_true rfl, Nat.le_of_ble_eq_true rfl⟩ dX7_isLine_2 rfl (fun H locs cells slots hS => ?_)
  refine lv_if_eq (pc := 5) (tgt := 26) hx hb dX7_isLine_5 (by decide) (fun hc => ?_) (fun hc => ?_)
  · have hf := jI_t hf hc
    exact wX7_isLine_26 cx e1 e2 a0 hth _ _ _ _ _ _ hf hS (lv_sub hl [0] rfl)
  · have hf := jI_f hf hc
    refine lv_iload_n (pc := 8) hx hb dX7_isLine_8 rfl (lv_at hl 2 rfl) ?_
    refine lv_if_lt (pc := 9) (tgt := 26) hx hb dX7_isLine_9 (by decide) (fun hc => ?_) (fun hc => ?_)
    · have hf := jI_t hf hc
      exact wX7_isLine_26 cx e1 e2 a0 hth _ _ _ _ _ _ hf hS (lv_sub hl [0] rfl)
    · have hf := jI_f hf hc
      refine lv_iload_n (pc := 12) hx hb dX7_isLine_12 rfl (lv_at hl 2 rfl) ?_
      refine lv_aload_n (pc := 13) hx hb dX7_isLine_13 rfl (lv_at hl 0 rfl) ?_
      refine j_gR (pc := 14) cx hS hf fd_WornSkinModel_linesOf q1697 dX7_isLine_14 (fun y2 hf => ?_)
      refine lv_iload_n (pc := 17) hx hb dX7_isLine_17 rfl (lv_at hl 1 rfl) ?_
      refine j_aI (pc := 18) cx hS hf rfl dX7_isLine_18 (fun y3 hf => ?_)
      refine lv_icmp_ge (pc := 19) (tgt := 26) hx hb dX7_isLine_19 (by decide) (fun hc => ?_) (fun hc => ?_)
      · have hf := jI_t hf hc
        exact wX7_isLine_26 cx e1 e2 a0 hth _ _ _ _ _ _ hf hS (lv_sub hl [0] rfl)
      · have hf := jI_f hf hc
        refine lv_iconst (pc := 22) (v := 1) hx hb dX7_isLine_22 rfl ?_
        refine lv_goto (pc := 23) (tgt := 27) hx hb dX7_isLine_23 (by decide) ?_
        exact wX7_isLine_27 cx e1 e2 a0 hth _ _ _ _ _ _ _ hf hS (lv_sub hl [0] rfl)
theorem metX7_isLine (l : Launch) (a0 : Nat) (x1 : Int32) (x2 : Int32) (h h' : jH) (r : Int32) (hth : jcd h a0 = some 7) (hf : (fX7_isLine a0 x1 x2).1 h = some (r, h')) : jMet l yX7_isLine (ws_ yX7_isLine cX7_isLine 3 (Option.some Jvm.ClassFile.FieldType.boolean)) (1) (21) [.ref a0, .int x1, .int x2] h h' (.returned (some (.int r))) := by
  refine jStart rfl (jle hf) (Nat.le_of_ble_eq_true rfl) ?_
  intro p e s m below meth c D dA H0 mc ms ls cx hnm e1 e2 hS hl
  have hth := jTh.mk hS hth
  exact wX7_isLine_0 cx e1 e2 a0 hth _ _ _ _ _ _ _ _ hf hS hl
def fX7_deepOf_19 (N : Nat) (x1 : Int32) : jM Int32 := jR x1
def fX7_deepOf_4 (N : Nat) : Nat → Int32 → Int32 → jM Int32
  | 0, _, _ => jE
  | n + 1, x1, x2 => if x2 ≤ 0 then (fX7_deepOf_19 N x1) else (jB (jnz 7) fun _ => fX7_deepOf_4 N n (x1 + 1) (x2 / 7))
def fX7_deepOf (N : Nat) (x0 : Int32) : jM Int32 := fX7_deepOf_4 N N 0 x0
theorem wX7_deepOf_19 {N : Nat} {r : Int32} (cx : jCx p s m args meth c cX7_deepOf "WornSkinModel" 3 (Option.some Jvm.ClassFile.FieldType.int) D dA H0 hs.2.2.2.2) (e1 : h'.2.2.1 = hs.2.2.1 + mc) (e2 : h'.2.2.2.1 = hs.2.2.2.1 + ms) : ∀ (x1 : Int32), ∀ (h : jH) (H : Heap) (locs : List Loc) (cells slots : Nat) (ls : Array Slot), (fX7_deepOf_19 N x1).1 h = some (r, h') → jS D dA H0 hs h H locs cells slots → lv_has ls 3 [(1, .int x1)] → W p l e { frames := 0, cells := mc, slots := ms, locals := 0 } s m args below meth c H locs cells slots (jQ D dA H0 below s (.returned (some (.int r))) h' mc ms) (F0 m 19 ls []) := by
  have hx := cx.1
  have hb := cx.2.1
  have hown := cx.2.2.2.1
  have hts := cx.2.2.2.2.1
  have hm : h'.2.2.1 ≤ hs.2.2.1 + mc ∧ h'.2.2.2.1 ≤ hs.2.2.2.1 + ms := ⟨Nat.le_of_eq e1, Nat.le_of_eq e2⟩
  intro x1 h H locs cells slots ls hf hS hl
  unfold fX7_deepOf_19 at hf
  refine lv_iload_n (pc := 19) hx hb dX7_deepOf_19 rfl (lv_at hl 0 rfl) ?_
  exact j_iret (pc := 20) cx hS hf e1 e2 dX7_deepOf_20
theorem wX7_deepOf_4 {N : Nat} {r : Int32} (cx : jCx p s m args meth c cX7_deepOf "WornSkinModel" 3 (Option.some Jvm.ClassFile.FieldType.int) D dA H0 hs.2.2.2.2) (e1 : h'.2.2.1 = hs.2.2.1 + mc) (e2 : h'.2.2.2.1 = hs.2.2.2.1 + ms) : ∀ (n : Nat) (x1 : Int32) (x2 : Int32), ∀ (h : jH) (H : Heap) (locs : List Loc) (cells slots : Nat) (ls : Array Slot), (fX7_deepOf_4 N n x1 x2).1 h = some (r, h') → jS D dA H0 hs h H locs cells slots → lv_has ls 3 [(1, .int x1), (2, .int x2)] → W p l e { frames := 0, cells := mc, slots := ms, locals := 0 } s m args below meth c H locs cells slots (jQ D dA H0 below s (.returned (some (.int r))) h' mc ms) (F0 m 4 ls []) := by
  have hx := cx.1
  have hb := cx.2.1
  have hown := cx.2.2.2.1
  have hts := cx.2.2.2.2.1
  have hm : h'.2.2.1 ≤ hs.2.2.1 + mc ∧ h'.2.2.2.1 ≤ hs.2.2.2.1 + ms := ⟨Nat.le_of_eq e1, Nat.le_of_eq e2⟩
  intro n
  induction n with
  | zero =>
    intro x1 x2 h H locs cells slots ls hf hS hl
    exact jE_f hf
  | succ n ih =>
    intro x1 x2 h H locs cells slots ls hf hS hl
    unfold fX7_deepOf_4 at hf
    refine lv_iload_n (pc := 4) hx hb dX7_deepOf_4 rfl (lv_at hl 1 rfl) ?_
    refine lv_if_le (pc := 5) (tgt := 19) hx hb dX7_deepOf_5 (by decide) (fun hc => ?_) (fun hc => ?_)
    · have hf := jI_t hf hc
      exact wX7_deepOf_19 cx e1 e2 _ _ _ _ _ _ _ hf hS (lv_sub hl [0] rfl)
    · have hf := jI_f hf hc
      refine lv_iinc (pc := 8) (v := (x1 + 1)) (lv' := [(1, .int (x1 + 1)), (2, .int x2)]) hx hb dX7_deepOf_8 hl (k := 0) rfl rfl (Nat.le_of_ble_eq_true rfl) rfl (fun ls hl => ?_)
      refine lv_iload_n (pc := 11) hx hb dX7_deepOf_11 rfl (lv_at hl 1 rfl) ?_
      refine lv_bipush (pc := 12) (v := 7) hx hb dX7_deepOf_12 rfl ?_
      obtain ⟨hne, hf⟩ := jnz_s hf
      refine lv_idiv (pc := 14) hx hb dX7_deepOf_14 hne ?_
      refine lv_istore_n (pc := 15) (i := 2) (lv' := [(2, .int (x2 / 7)), (1, .int (x1 + 1))]) hx hb dX7_deepOf_15 rfl hl (Nat.le_of_ble_eq_true rfl) rfl (fun ls hl => ?_)
      refine lv_goto (pc := 16) (tgt := 4) hx hb dX7_deepOf_16 (by decide) ?_
      exact ih _ _ _ _ _ _ _ _ hf hS (lv_sub hl [1, 0] rfl)
theorem wX7_deepOf_0 {N : Nat} {r : Int32} (cx : jCx p s m args meth c cX7_deepOf "WornSkinModel" 3 (Option.some Jvm.ClassFile.FieldType.int) D dA H0 hs.2.2.2.2) (e1 : h'.2.2.1 = hs.2.2.1 + mc) (e2 : h'.2.2.2.1 = hs.2.2.2.1 + ms) : ∀ (x0 : Int32), ∀ (h : jH) (H : Heap) (locs : List Loc) (cells slots : Nat) (ls : Array Slot), (fX7_deepOf N x0).1 h = some (r, h') → jS D dA H0 hs h H locs cells slots → lv_has ls 3 [(0, .int x0)] → W p l e { frames := 0, cells := mc, slots := ms, locals := 0 } s m args below meth c H locs cells slots (jQ D dA H0 below s (.returned (some (.int r))) h' mc ms) (F0 m 0 ls []) := by
  have hx := cx.1
  have hb := cx.2.1
  have hown := cx.2.2.2.1
  have hts := cx.2.2.2.2.1
  have hm : h'.2.2.1 ≤ hs.2.2.1 + mc ∧ h'.2.2.2.1 ≤ hs.2.2.2.1 + ms := ⟨Nat.le_of_eq e1, Nat.le_of_eq e2⟩
  intro x0 h H locs cells slots ls hf hS hl
  unfold fX7_deepOf at hf
  refine lv_iconst (pc := 0) (v := 0) hx hb dX7_deepOf_0 rfl ?_
  refine lv_istore_n (pc := 1) (i := 1) (lv' := [(1, .int 0), (0, .int x0)]) hx hb dX7_deepOf_1 rfl hl (Nat.le_of_ble_eq_true rfl) rfl (fun ls hl => ?_)
  refine lv_iload_n (pc := 2) hx hb dX7_deepOf_2 rfl (lv_at hl 1 rfl) ?_
  refine lv_istore_n (pc := 3) (i := 2) (lv' := [(2, .int x0), (1, .int 0), (0, .int x0)]) hx hb dX7_deepOf_3 rfl hl (Nat.le_of_ble_eq_true rfl) rfl (fun ls hl => ?_)
  exact wX7_deepOf_4 cx e1 e2 N _ _ _ _ _ _ _ _ hf hS (lv_sub hl [1, 0] rfl)
theorem metX7_deepOf (l : Launch) (N : Nat) (x0 : Int32) (h h' : jH) (r : Int32) (hf : (fX7_deepOf N x0).1 h = some (r, h')) : jMet l yX7_deepOf (ws_ yX7_deepOf cX7_deepOf 3 (Option.some Jvm.ClassFile.FieldType.int)) (0) (0) [.int x0] h h' (.returned (some (.int r))) := by
  refine jStart rfl (jle hf) (Nat.le_of_ble_eq_true rfl) ?_
  intro p e s m below meth c D dA H0 mc ms ls cx hnm e1 e2 hS hl
  exact wX7_deepOf_0 cx e1 e2 _ _ _ _ _ _ _ hf hS hl
def fX7_layers_35 (N : Nat) (a0 : Nat) (v0 : Int32) : jM Int32 := jR v0
def fX7_layers (N : Nat) (a0 : Nat) (x1 : Int32) (x2 : Int32) : jM Int32 := jB (jpI [7] 0 (some a0) 0) fun _ => jB (fX7_isLine a0 x1 x2) fun y1 => if y1 = 0 then (fX7_layers_35 N a0 (-1)) else (jB (jgR [7] 48 (some a0)) fun y2 => jB (jaI 0 y2 ((7 + (6 * x1)) + x2)) fun y3 => jB (fX7_deepOf N y3) fun y4 => fX7_layers_35 N a0 y4)
theorem wX7_layers_35 {N : Nat} {r : Int32} (cx : jCx p s m args meth c cX7_layers "WornSkinModel" 3 (Option.some Jvm.ClassFile.FieldType.int) D dA H0 hs.2.2.2.2) (e1 : h'.2.2.1 = hs.2.2.1 + mc) (e2 : h'.2.2.2.1 = hs.2.2.2.1 + ms) (a0 : Nat) (hth : jTh hs a0 7) : ∀ (v0 : Int32), ∀ (h : jH) (H : Heap) (locs : List Loc) (cells slots : Nat) (ls : Array Slot), (fX7_layers_35 N a0 v0).1 h = some (r, h') → jS D dA H0 hs h H locs cells slots → lv_has ls 3 [(0, .ref a0)] → W p l e { frames := 2, cells := mc, slots := ms, locals := 43 } s m args below meth c H locs cells slots (jQ D dA H0 below s (.returned (some (.int r))) h' mc ms) (F0 m 35 ls [.int v0]) := by
  have hx := cx.1
  have hb := cx.2.1
  have hown := cx.2.2.2.1
  have hts := cx.2.2.2.2.1
  have hm : h'.2.2.1 ≤ hs.2.2.1 + mc ∧ h'.2.2.2.1 ≤ hs.2.2.2.1 + ms := ⟨Nat.le_of_eq e1, Nat.le_of_eq e2⟩
  intro v0 h H locs cells slots ls hf hS hl
  unfold fX7_layers_35 at hf
  exact j_iret (pc := 35) cx hS hf e1 e2 dX7_layers_35
theorem wX7_layers_0 {N : Nat} {r : Int32} (cx : jCx p s m args meth c cX7_layers "WornSkinModel" 3 (Option.some Jvm.ClassFile.FieldType.int) D dA H0 hs.2.2.2.2) (e1 : h'.2.2.1 = hs.2.2.1 + mc) (e2 : h'.2.2.2.1 = hs.2.2.2.1 + ms) (a0 : Nat) (hth : jTh hs a0 7) : ∀ (x1 : Int32) (x2 : Int32), ∀ (h : jH) (H : Heap) (locs : List Loc) (cells slots : Nat) (ls : Array Slot), (fX7_layers N a0 x1 x2).1 h = some (r, h') → jS D dA H0 hs h H locs cells slots → lv_has ls 3 [(0, .ref a0), (1, .int x1), (2, .int x2)] → W p l e { frames := 2, cells := mc, slots := ms, locals := 43 } s m args below meth c H locs cells slots (jQ D dA H0 below s (.returned (some (.int r))) h' mc ms) (F0 m 0 ls []) := by
  have hx := cx.1
  have hb := cx.2.1
  have hown := cx.2.2.2.1
  have hts := cx.2.2.2.2.1
  have hm : h'.2.2.1 ≤ hs.2.2.1 + mc ∧ h'.2.2.2.1 ≤ hs.2.2.2.1 + ms := ⟨Nat.le_of_eq e1, Nat.le_of_eq e2⟩
  intro x1 x2 h H locs cells slots ls hf hS hl
  unfold fX7_layers at hf
  refine lv_aload_n (pc := 0) hx hb dX7_layers_0 rfl (lv_at hl 0 rfl) ?_
  refine lv_iconst (pc := 1) (v := 0) hx hb dX7_layers_1 rfl ?_
  refine j_pI (pc := 2) cx hS hf fp_WornSkinModel_thrown (Or.inl rfl) q1684 dX7_layers_2 (fun h H locs hf hS => ?_)
  refine lv_aload_n (pc := 5) hx hb dX7_layers_5 rfl (lv_at hl 0 rfl) ?_
  refine lv_iload_n (pc := 6) hx hb dX7_layers_6 rfl (lv_at hl 1 rfl) ?_
  refine lv_iload_n (pc := 7) hx hb dX7_layers_7 rfl (lv_at hl 2 rfl) ?_
  obtain ⟨y1, h1, e9, hf⟩ := jB_some hf
  refine j_callV (pc := 8) (st1 := [.int y1]) (As := [.int x1, .int x2]) (rest := []) cx hS rfl hl.1 hm (metX7_isLine l _ _ _ _ _ _ (hth.at hS) e9) (jle hf) (hth.at hS) rfl (lw_V q2094 q2096 qs93 q123 q2097) pdX7_isLine rfl rfl (Nat.le_of_ble_eq_true rfl) ⟨Nat.le_of_ble_eq_true rfl, Nat.le_of_ble_eq_true rfl⟩ dX7_layers_8 rfl (fun H locs cells slots hS => ?_)
  refine lv_if_eq (pc := 11) (tgt := 34) hx hb dX7_layers_11 (by decide) (fun hc => ?_) (fun hc => ?_)
  · have hf := jI_t hf hc
    refine lv_iconst (pc := 34) (v := (-1)) hx hb dX7_layers_34 rfl ?_
    exact wX7_layers_35 cx e1 e2 a0 hth _ _ _ _ _ _ _ hf hS (lv_sub hl [0] rfl)
  · have hf := jI_f hf hc
    refine lv_aload_n (pc := 14) hx hb dX7_layers_14 rfl (lv_at hl 0 rfl) ?_
    refine j_gR (pc := 15) cx hS hf fd_WornSkinModel_s q1732 dX7_layers_15 (fun y2 hf => ?_)
    refine lv_bipush (pc := 18) (v := 7) hx hb dX7_layers_18 rfl ?_
    refine lv_bipush (pc := 20) (v := 6) hx hb dX7_layers_20 rfl ?_
    refine lv_iload_n (pc := 22) hx hb dX7_layers_22 rfl (lv_at hl 1 rfl) ?_
    refine lv_imul (pc := 23) hx hb dX7_layers_23 ?_
    refine lv_iadd (pc := 24) hx hb dX7_layers_24 ?_
    refine lv_iload_n (pc := 25) hx hb dX7_layers_25 rfl (lv_at hl 2 rfl) ?_
    refine lv_iadd (pc := 26) hx hb dX7_layers_26 ?_
    refine j_aI (pc := 27) cx hS hf rfl dX7_layers_27 (fun y3 hf => ?_)
    obtain ⟨y4, h1, e9, hf⟩ := jB_some hf
    refine j_callS (pc := 28) (st1 := [.int y4]) (As := [.int y3]) (rest := []) cx hS rfl hl.1 hm (metX7_deepOf l _ _ _ _ _ e9) (jle hf) (lw_S q2098 q2099 q123 q2100) pdX7_deepOf rfl rfl (Nat.le_of_ble_eq_true rfl) ⟨Nat.le_of_ble_eq_true rfl, Nat.le_of_ble_eq_true rfl⟩ dX7_layers_28 rfl (fun H locs cells slots hS => ?_)
    refine lv_goto (pc := 31) (tgt := 35) hx hb dX7_layers_31 (by decide) ?_
    exact wX7_layers_35 cx e1 e2 a0 hth _ _ _ _ _ _ _ hf hS (lv_sub hl [0] rfl)
theorem metX7_layers (l : Launch) (N : Nat) (a0 : Nat) (x1 : Int32) (x2 : Int32) (h h' : jH) (r : Int32) (hth : jcd h a0 = some 7) (hf : (fX7_layers N a0 x1 x2).1 h = some (r, h')) : jMet l yX7_layers (ws_ yX7_layers cX7_layers 3 (Option.some Jvm.ClassFile.FieldType.int)) (2) (43) [.ref a0, .int x1, .int x2] h h' (.returned (some (.int r))) := by
  refine jStart rfl (jle hf) (Nat.le_of_ble_eq_true rfl) ?_
  intro p e s m below meth c D dA H0 mc ms ls cx hnm e1 e2 hS hl
  have hth := jTh.mk hS hth
  exact wX7_layers_0 cx e1 e2 a0 hth _ _ _ _ _ _ _ _ hf hS hl
def fX7_layerOf_25 (N : Nat) (x2 : Int32) : jM Int32 := jB (jnz 7) fun _ => jR ((x2 - x2 / 7 * 7) - 1)
def fX7_layerOf_9 (N : Nat) : Nat → Int32 → Int32 → Int32 → jM Int32
  | 0, _, _, _ => jE
  | n + 1, x1, x2, x3 => if x3 ≤ x1 then (fX7_layerOf_25 N x2) else (jB (jnz 7) fun _ => fX7_layerOf_9 N n x1 (x2 / 7) (x3 + (-1)))
def fX7_layerOf (N : Nat) (x0 : Int32) (x1 : Int32) : jM Int32 := jB (fX7_deepOf N x0) fun y1 => fX7_layerOf_9 N N x1 x0 (y1 - 1)
theorem wX7_layerOf_25 {N : Nat} {r : Int32} (cx : jCx p s m args meth c cX7_layerOf "WornSkinModel" 4 (Option.some Jvm.ClassFile.FieldType.int) D dA H0 hs.2.2.2.2) (e1 : h'.2.2.1 = hs.2.2.1 + mc) (e2 : h'.2.2.2.1 = hs.2.2.2.1 + ms) : ∀ (x2 : Int32), ∀ (h : jH) (H : Heap) (locs : List Loc) (cells slots : Nat) (ls : Array Slot), (fX7_layerOf_25 N x2).1 h = some (r, h') → jS D dA H0 hs h H locs cells slots → lv_has ls 4 [(2, .int x2)] → W p l e { frames := 1, cells := mc, slots := ms, locals := 22 } s m args below meth c H locs cells slots (jQ D dA H0 below s (.returned (some (.int r))) h' mc ms) (F0 m 25 ls []) := by
  have hx := cx.1
  have hb := cx.2.1
  have hown := cx.2.2.2.1
  have hts := cx.2.2.2.2.1
  have hm : h'.2.2.1 ≤ hs.2.2.1 + mc ∧ h'.2.2.2.1 ≤ hs.2.2.2.1 + ms := ⟨Nat.le_of_eq e1, Nat.le_of_eq e2⟩
  intro x2 h H locs cells slots ls hf hS hl
  unfold fX7_layerOf_25 at hf
  refine lv_iload_n (pc := 25) hx hb dX7_layerOf_25 rfl (lv_at hl 0 rfl) ?_
  refine lv_bipush (pc := 26) (v := 7) hx hb dX7_layerOf_26 rfl ?_
  obtain ⟨hne, hf⟩ := jnz_s hf
  refine lv_irem (pc := 28) hx hb dX7_layerOf_28 hne ?_
  refine lv_iconst (pc := 29) (v := 1) hx hb dX7_layerOf_29 rfl ?_
  refine lv_isub (pc := 30) hx hb dX7_layerOf_30 ?_
  exact j_iret (pc := 31) cx hS hf e1 e2 dX7_layerOf_31
theorem wX7_layerOf_9 {N : Nat} {r : Int32} (cx : jCx p s m args meth c cX7_layerOf "WornSkinModel" 4 (Option.some Jvm.ClassFile.FieldType.int) D dA H0 hs.2.2.2.2) (e1 : h'.2.2.1 = hs.2.2.1 + mc) (e2 : h'.2.2.2.1 = hs.2.2.2.1 + ms) : ∀ (n : Nat) (x1 : Int32) (x2 : Int32) (x3 : Int32), ∀ (h : jH) (H : Heap) (locs : List Loc) (cells slots : Nat) (ls : Array Slot), (fX7_layerOf_9 N n x1 x2 x3).1 h = some (r, h') → jS D dA H0 hs h H locs cells slots → lv_has ls 4 [(1, .int x1), (2, .int x2), (3, .int x3)] → W p l e { frames := 1, cells := mc, slots := ms, locals := 22 } s m args below meth c H locs cells slots (jQ D dA H0 below s (.returned (some (.int r))) h' mc ms) (F0 m 9 ls []) := by
  have hx := cx.1
  have hb := cx.2.1
  have hown := cx.2.2.2.1
  have hts := cx.2.2.2.2.1
  have hm : h'.2.2.1 ≤ hs.2.2.1 + mc ∧ h'.2.2.2.1 ≤ hs.2.2.2.1 + ms := ⟨Nat.le_of_eq e1, Nat.le_of_eq e2⟩
  intro n
  induction n with
  | zero =>
    intro x1 x2 x3 h H locs cells slots ls hf hS hl
    exact jE_f hf
  | succ n ih =>
    intro x1 x2 x3 h H locs cells slots ls hf hS hl
    unfold fX7_layerOf_9 at hf
    refine lv_iload_n (pc := 9) hx hb dX7_layerOf_9 rfl (lv_at hl 2 rfl) ?_
    refine lv_iload_n (pc := 10) hx hb dX7_layerOf_10 rfl (lv_at hl 0 rfl) ?_
    refine lv_icmp_le (pc := 11) (tgt := 25) hx hb dX7_layerOf_11 (by decide) (fun hc => ?_) (fun hc => ?_)
    · have hf := jI_t hf hc
      exact wX7_layerOf_25 cx e1 e2 _ _ _ _ _ _ _ hf hS (lv_sub hl [1] rfl)
    · have hf := jI_f hf hc
      refine lv_iload_n (pc := 14) hx hb dX7_layerOf_14 rfl (lv_at hl 1 rfl) ?_
      refine lv_bipush (pc := 15) (v := 7) hx hb dX7_layerOf_15 rfl ?_
      obtain ⟨hne, hf⟩ := jnz_s hf
      refine lv_idiv (pc := 17) hx hb dX7_layerOf_17 hne ?_
      refine lv_istore_n (pc := 18) (i := 2) (lv' := [(2, .int (x2 / 7)), (1, .int x1), (3, .int x3)]) hx hb dX7_layerOf_18 rfl hl (Nat.le_of_ble_eq_true rfl) rfl (fun ls hl => ?_)
      refine lv_iinc (pc := 19) (v := (x3 + (-1))) (lv' := [(3, .int (x3 + (-1))), (2, .int (x2 / 7)), (1, .int x1)]) hx hb dX7_layerOf_19 hl (k := 2) rfl (jm1 _) (Nat.le_of_ble_eq_true rfl) rfl (fun ls hl => ?_)
      refine lv_goto (pc := 22) (tgt := 9) hx hb dX7_layerOf_22 (by decide) ?_
      exact ih _ _ _ _ _ _ _ _ _ hf hS (lv_sub hl [2, 1, 0] rfl)
theorem wX7_layerOf_0 {N : Nat} {r : Int32} (cx : jCx p s m args meth c cX7_layerOf "WornSkinModel" 4 (Option.some Jvm.ClassFile.FieldType.int) D dA H0 hs.2.2.2.2) (e1 : h'.2.2.1 = hs.2.2.1 + mc) (e2 : h'.2.2.2.1 = hs.2.2.2.1 + ms) : ∀ (x0 : Int32) (x1 : Int32), ∀ (h : jH) (H : Heap) (locs : List Loc) (cells slots : Nat) (ls : Array Slot), (fX7_layerOf N x0 x1).1 h = some (r, h') → jS D dA H0 hs h H locs cells slots → lv_has ls 4 [(0, .int x0), (1, .int x1)] → W p l e { frames := 1, cells := mc, slots := ms, locals := 22 } s m args below meth c H locs cells slots (jQ D dA H0 below s (.returned (some (.int r))) h' mc ms) (F0 m 0 ls []) := by
  have hx := cx.1
  have hb := cx.2.1
  have hown := cx.2.2.2.1
  have hts := cx.2.2.2.2.1
  have hm : h'.2.2.1 ≤ hs.2.2.1 + mc ∧ h'.2.2.2.1 ≤ hs.2.2.2.1 + ms := ⟨Nat.le_of_eq e1, Nat.le_of_eq e2⟩
  intro x0 x1 h H locs cells slots ls hf hS hl
  unfold fX7_layerOf at hf
  refine lv_iload_n (pc := 0) hx hb dX7_layerOf_0 rfl (lv_at hl 0 rfl) ?_
  refine lv_istore_n (pc := 1) (i := 2) (lv' := [(2, .int x0), (0, .int x0), (1, .int x1)]) hx hb dX7_layerOf_1 rfl hl (Nat.le_of_ble_eq_true rfl) rfl (fun ls hl => ?_)
  refine lv_iload_n (pc := 2) hx hb dX7_layerOf_2 rfl (lv_at hl 1 rfl) ?_
  obtain ⟨y1, h1, e9, hf⟩ := jB_some hf
  refine j_callS (pc := 3) (st1 := [.int y1]) (As := [.int x0]) (rest := []) cx hS rfl hl.1 hm (metX7_deepOf l _ _ _ _ _ e9) (jle hf) (lw_S q2098 q2099 q123 q2100) pdX7_deepOf rfl rfl (Nat.le_of_ble_eq_true rfl) ⟨Nat.le_of_ble_eq_true rfl, Nat.le_of_ble_eq_true rfl⟩ dX7_layerOf_3 rfl (fun H locs cells slots hS => ?_)
  refine lv_iconst (pc := 6) (v := 1) hx hb dX7_layerOf_6 rfl ?_
  refine lv_isub (pc := 7) hx hb dX7_layerOf_7 ?_
  refine lv_istore_n (pc := 8) (i := 3) (lv' := [(3, .int (y1 - 1)), (2, .int x0), (0, .int x0), (1, .int x1)]) hx hb dX7_layerOf_8 rfl hl (Nat.le_of_ble_eq_true rfl) rfl (fun ls hl => ?_)
  exact wX7_layerOf_9 cx e1 e2 N _ _ _ _ _ _ _ _ _ hf hS (lv_sub hl [3, 1, 0] rfl)
theorem metX7_layerOf (l : Launch) (N : Nat) (x0 : Int32) (x1 : Int32) (h h' : jH) (r : Int32) (hf : (fX7_layerOf N x0 x1).1 h = some (r, h')) : jMet l yX7_layerOf (ws_ yX7_layerOf cX7_layerOf 4 (Option.some Jvm.ClassFile.FieldType.int)) (1) (22) [.int x0, .int x1] h h' (.returned (some (.int r))) := by
  refine jStart rfl (jle hf) (Nat.le_of_ble_eq_true rfl) ?_
  intro p e s m below meth c D dA H0 mc ms ls cx hnm e1 e2 hS hl
  exact wX7_layerOf_0 cx e1 e2 _ _ _ _ _ _ _ _ hf hS hl
def fX7_layer_39 (N : Nat) (a0 : Nat) : jM Int32 := jR (-1)
def fX7_layer (N : Nat) (a0 : Nat) (x1 : Int32) (x2 : Int32) (x3 : Int32) : jM Int32 := jB (jpI [7] 0 (some a0) 0) fun _ => jB (fX7_isLine a0 x1 x2) fun y1 => if y1 = 0 then (fX7_layer_39 N a0) else (if x3 < 0 then (fX7_layer_39 N a0) else (jB (jgR [7] 48 (some a0)) fun y2 => jB (jaI 0 y2 ((7 + (6 * x1)) + x2)) fun y3 => jB (fX7_deepOf N y3) fun y4 => if x3 < y4 then (jB (jgR [7] 48 (some a0)) fun y5 => jB (jaI 0 y5 ((7 + (6 * x1)) + x2)) fun y6 => jB (fX7_layerOf N y6 x3) fun y7 => jR y7) else (fX7_layer_39 N a0)))
theorem wX7_layer_39 {N : Nat} {r : Int32} (cx : jCx p s m args meth c cX7_layer "WornSkinModel" 4 (Option.some Jvm.ClassFile.FieldType.int) D dA H0 hs.2.2.2.2) (e1 : h'.2.2.1 = hs.2.2.1 + mc) (e2 : h'.2.2.2.1 = hs.2.2.2.1 + ms) (a0 : Nat) (hth : jTh hs a0 7) : ∀ (h : jH) (H : Heap) (locs : List Loc) (cells slots : Nat) (ls : Array Slot), (fX7_layer_39 N a0).1 h = some (r, h') → jS D dA H0 hs h H locs cells slots → lv_has ls 4 [(0, .ref a0)] → W p l e { frames := 2, cells := mc, slots := ms, locals := 45 } s m args below meth c H locs cells slots (jQ D dA H0 below s (.returned (some (.int r))) h' mc ms) (F0 m 39 ls []) := by
  have hx := cx.1
  have hb := cx.2.1
  have hown := cx.2.2.2.1
  have hts := cx.2.2.2.2.1
  have hm : h'.2.2.1 ≤ hs.2.2.1 + mc ∧ h'.2.2.2.1 ≤ hs.2.2.2.1 + ms := ⟨Nat.le_of_eq e1, Nat.le_of_eq e2⟩
  intro h H locs cells slots ls hf hS hl
  unfold fX7_layer_39 at hf
  refine lv_iconst (pc := 39) (v := (-1)) hx hb dX7_layer_39 rfl ?_
  exact j_iret (pc := 40) cx hS hf e1 e2 dX7_layer_40
theorem wX7_layer_0 {N : Nat} {r : Int32} (cx : jCx p s m args meth c cX7_layer "WornSkinModel" 4 (Option.some Jvm.ClassFile.FieldType.int) D dA H0 hs.2.2.2.2) (e1 : h'.2.2.1 = hs.2.2.1 + mc) (e2 : h'.2.2.2.1 = hs.2.2.2.1 + ms) (a0 : Nat) (hth : jTh hs a0 7) : ∀ (x1 : Int32) (x2 : Int32) (x3 : Int32), ∀ (h : jH) (H : Heap) (locs : List Loc) (cells slots : Nat) (ls : Array Slot), (fX7_layer N a0 x1 x2 x3).1 h = some (r, h') → jS D dA H0 hs h H locs cells slots → lv_has ls 4 [(0, .ref a0), (1, .int x1), (2, .int x2), (3, .int x3)] → W p l e { frames := 2, cells := mc, slots := ms, locals := 45 } s m args below meth c H locs cells slots (jQ D dA H0 below s (.returned (some (.int r))) h' mc ms) (F0 m 0 ls []) := by
  have hx := cx.1
  have hb := cx.2.1
  have hown := cx.2.2.2.1
  have hts := cx.2.2.2.2.1
  have hm : h'.2.2.1 ≤ hs.2.2.1 + mc ∧ h'.2.2.2.1 ≤ hs.2.2.2.1 + ms := ⟨Nat.le_of_eq e1, Nat.le_of_eq e2⟩
  intro x1 x2 x3 h H locs cells slots ls hf hS hl
  unfold fX7_layer at hf
  refine lv_aload_n (pc := 0) hx hb dX7_layer_0 rfl (lv_at hl 0 rfl) ?_
  refine lv_iconst (pc := 1) (v := 0) hx hb dX7_layer_1 rfl ?_
  refine j_pI (pc := 2) cx hS hf fp_WornSkinModel_thrown (Or.inl rfl) q1684 dX7_layer_2 (fun h H locs hf hS => ?_)
  refine lv_aload_n (pc := 5) hx hb dX7_layer_5 rfl (lv_at hl 0 rfl) ?_
  refine lv_iload_n (pc := 6) hx hb dX7_layer_6 rfl (lv_at hl 1 rfl) ?_
  refine lv_iload_n (pc := 7) hx hb dX7_layer_7 rfl (lv_at hl 2 rfl) ?_
  obtain ⟨y1, h1, e9, hf⟩ := jB_some hf
  refine j_callV (pc := 8) (st1 := [.int y1]) (As := [.int x1, .int x2]) (rest := []) cx hS rfl hl.1 hm (metX7_isLine l _ _ _ _ _ _ (hth.at hS) e9) (jle hf) (hth.at hS) rfl (lw_V q2094 q2096 qs93 q123 q2097) pdX7_isLine rfl rfl (Nat.le_of_ble_eq_true rfl) ⟨Nat.le_of_ble_eq_true rfl, Nat.le_of_ble_eq_true rfl⟩ dX7_layer_8 rfl (fun H locs cells slots hS => ?_)
  refine lv_if_eq (pc := 11) (tgt := 39) hx hb dX7_layer_11 (by decide) (fun hc => ?_) (fun hc => ?_)
  · have hf := jI_t hf hc
    exact wX7_layer_39 cx e1 e2 a0 hth _ _ _ _ _ _ hf hS (lv_sub hl [0] rfl)
  · have hf := jI_f hf hc
    refine lv_iload_n (pc := 14) hx hb dX7_layer_14 rfl (lv_at hl 3 rfl) ?_
    refine lv_if_lt (pc := 15) (tgt := 39) hx hb dX7_layer_15 (by decide) (fun hc => ?_) (fun hc => ?_)
    · have hf := jI_t hf hc
      exact wX7_layer_39 cx e1 e2 a0 hth _ _ _ _ _ _ hf hS (lv_sub hl [0] rfl)
    · have hf := jI_f hf hc
      refine lv_iload_n (pc := 18) hx hb dX7_layer_18 rfl (lv_at hl 3 rfl) ?_
      refine lv_aload_n (pc := 19) hx hb dX7_layer_19 rfl (lv_at hl 0 rfl) ?_
      refine j_gR (pc := 20) cx hS hf fd_WornSkinModel_s q1732 dX7_layer_20 (fun y2 hf => ?_)
      refine lv_bipush (pc := 23) (v := 7) hx hb dX7_layer_23 rfl ?_
      refine lv_bipush (pc := 25) (v := 6) hx hb dX7_layer_25 rfl ?_
      refine lv_iload_n (pc := 27) hx hb dX7_layer_27 rfl (lv_at hl 1 rfl) ?_
      refine lv_imul (pc := 28) hx hb dX7_layer_28 ?_
      refine lv_iadd (pc := 29) hx hb dX7_layer_29 ?_
      refine lv_iload_n (pc := 30) hx hb dX7_layer_30 rfl (lv_at hl 2 rfl) ?_
      refine lv_iadd (pc := 31) hx hb dX7_layer_31 ?_
      refine j_aI (pc := 32) cx hS hf rfl dX7_layer_32 (fun y3 hf => ?_)
      obtain ⟨y4, h1, e9, hf⟩ := jB_some hf
      refine j_callS (pc := 33) (st1 := [.int y4, .int x3]) (As := [.int y3]) (rest := [.int x3]) cx hS rfl hl.1 hm (metX7_deepOf l _ _ _ _ _ e9) (jle hf) (lw_S q2098 q2099 q123 q2100) pdX7_deepOf rfl rfl (Nat.le_of_ble_eq_true rfl) ⟨Nat.le_of_ble_eq_true rfl, Nat.le_of_ble_eq_true rfl⟩ dX7_layer_33 rfl (fun H locs cells slots hS => ?_)
      refine lv_icmp_lt (pc := 36) (tgt := 41) hx hb dX7_layer_36 (by decide) (fun hc => ?_) (fun hc => ?_)
      · have hf := jI_t hf hc
        refine lv_aload_n (pc := 41) hx hb dX7_layer_41 rfl (lv_at hl 0 rfl) ?_
        refine j_gR (pc := 42) cx hS hf fd_WornSkinModel_s q1732 dX7_layer_42 (fun y5 hf => ?_)
        refine lv_bipush (pc := 45) (v := 7) hx hb dX7_layer_45 rfl ?_
        refine lv_bipush (pc := 47) (v := 6) hx hb dX7_layer_47 rfl ?_
        refine lv_iload_n (pc := 49) hx hb dX7_layer_49 rfl (lv_at hl 1 rfl) ?_
        refine lv_imul (pc := 50) hx hb dX7_layer_50 ?_
        refine lv_iadd (pc := 51) hx hb dX7_layer_51 ?_
        refine lv_iload_n (pc := 52) hx hb dX7_layer_52 rfl (lv_at hl 2 rfl) ?_
        refine lv_iadd (pc := 53) hx hb dX7_layer_53 ?_
        refine j_aI (pc := 54) cx hS hf rfl dX7_layer_54 (fun y6 hf => ?_)
        refine lv_iload_n (pc := 55) hx hb dX7_layer_55 rfl (lv_at hl 3 rfl) ?_
        obtain ⟨y7, h1, e9, hf⟩ := jB_some hf
        refine j_callS (pc := 56) (st1 := [.int y7]) (As := [.int y6, .int x3]) (rest := []) cx hS rfl hl.1 hm (metX7_layerOf l _ _ _ _ _ _ e9) (jle hf) (lw_S q2105 q2106 q123 q2107) pdX7_layerOf rfl rfl (Nat.le_of_ble_eq_true rfl) ⟨Nat.le_of_ble_eq_true rfl, Nat.le_of_ble_eq_true rfl⟩ dX7_layer_56 rfl (fun H locs cells slots hS => ?_)
        exact j_iret (pc := 59) cx hS hf e1 e2 dX7_layer_59
      · have hf := jI_f hf hc
        exact wX7_layer_39 cx e1 e2 a0 hth _ _ _ _ _ _ hf hS (lv_sub hl [0] rfl)
theorem metX7_layer (l : Launch) (N : Nat) (a0 : Nat) (x1 : Int32) (x2 : Int32) (x3 : Int32) (h h' : jH) (r : Int32) (hth : jcd h a0 = some 7) (hf : (fX7_layer N a0 x1 x2 x3).1 h = some (r, h')) : jMet l yX7_layer (ws_ yX7_layer cX7_layer 4 (Option.some Jvm.ClassFile.FieldType.int)) (2) (45) [.ref a0, .int x1, .int x2, .int x3] h h' (.returned (some (.int r))) := by
  refine jStart rfl (jle hf) (Nat.le_of_ble_eq_true rfl) ?_
  intro p e s m below meth c D dA H0 mc ms ls cx hnm e1 e2 hS hl
  have hth := jTh.mk hS hth
  exact wX7_layer_0 cx e1 e2 a0 hth _ _ _ _ _ _ _ _ _ hf hS hl
end
