set_option maxRecDepth 100000
section
variable {p : Program} {l : Launch} {e : Env} {s : State} {m : MethodId} {args : Array Value} {below : List Frame} {meth : Method} {c : Code} {D : va_G} {dA : Nat → ClassId → Prop} {H0 : Heap} {hs h' : jH} {mc ms : Nat}
def fX3_about_20 (a0 : Nat) (v0 : Int32) : jM Int32 := jR v0
def fX3_about (a0 : Nat) (x1 : Int32) (x2 : Int32) : jM Int32 := if x2 = 0 then (jB (fX3_open a0 x1) fun y1 => fX3_about_20 a0 y1) else (jB (fX3_open a0 x1) fun y2 => fX3_about_20 a0 (y2 &&& 9))
theorem wX3_about_20 {r : Int32} (cx : jCx p s m args meth c cX3_about "WornSkin$Shelf" 3 (Option.some Jvm.ClassFile.FieldType.int) D dA H0 hs.2.2.2.2) (e1 : h'.2.2.1 = hs.2.2.1 + mc) (e2 : h'.2.2.2.1 = hs.2.2.2.1 + ms) (a0 : Nat) (hth : jTh hs a0 2) : ∀ (v0 : Int32), ∀ (h : jH) (H : Heap) (locs : List Loc) (cells slots : Nat) (ls : Array Slot), (fX3_about_20 a0 v0).1 h = some (r, h') → jS D dA H0 hs h H locs cells slots → lv_has ls 3 [(0, .ref a0)] → W p l e { frames := 1, cells := mc, slots := ms, locals := 21 } s m args below meth c H locs cells slots (jQ D dA H0 below s (.returned (some (.int r))) h' mc ms) (F0 m 20 ls [.int v0]) := by
  have hx := cx.1
  have hb := cx.2.1
  have hown := cx.2.2.2.1
  have hts := cx.2.2.2.2.1
  have hm : h'.2.2.1 ≤ hs.2.2.1 + mc ∧ h'.2.2.2.1 ≤ hs.2.2.2.1 + ms := ⟨Nat.le_of_eq e1, Nat.le_of_eq e2⟩
  intro v0 h H locs cells slots ls hf hS hl
  unfold fX3_about_20 at hf
  exact j_iret (pc := 20) cx hS hf e1 e2 dX3_about_20
theorem wX3_about_0 {r : Int32} (cx : jCx p s m args meth c cX3_about "WornSkin$Shelf" 3 (Option.some Jvm.ClassFile.FieldType.int) D dA H0 hs.2.2.2.2) (e1 : h'.2.2.1 = hs.2.2.1 + mc) (e2 : h'.2.2.2.1 = hs.2.2.2.1 + ms) (a0 : Nat) (hth : jTh hs a0 2) : ∀ (x1 : Int32) (x2 : Int32), ∀ (h : jH) (H : Heap) (locs : List Loc) (cells slots : Nat) (ls : Array Slot), (fX3_about a0 x1 x2).1 h = some (r, h') → jS D dA H0 hs h H locs cells slots → lv_has ls 3 [(0, .ref a0), (1, .int x1), (2, .int x2)] → W p l e { frames := 1, cells := mc, slots := ms, locals := 21 } s m args below meth c H locs cells slots (jQ D dA H0 below s (.returned (some (.int r))) h' mc ms) (F0 m 0 ls []) := by
  have hx := cx.1
  have hb := cx.2.1
  have hown := cx.2.2.2.1
  have hts := cx.2.2.2.2.1
  have hm : h'.2.2.1 ≤ hs.2.2.1 + mc ∧ h'.2.2.2.1 ≤ hs.2.2.2.1 + ms := ⟨Nat.le_of_eq e1, Nat.le_of_eq e2⟩
  intro x1 x2 h H locs cells slots ls hf hS hl
  unfold fX3_about at hf
  refine lv_iload_n (pc := 0) hx hb dX3_about_0 rfl (lv_at hl 2 rfl) ?_
  refine lv_if_eq (pc := 1) (tgt := 15) hx hb dX3_about_1 (by decide) (fun hc => ?_) (fun hc => ?_)
  · have hf := jI_t hf hc
    refine lv_aload_n (pc := 15) hx hb dX3_about_15 rfl (lv_at hl 0 rfl) ?_
    refine lv_iload_n (pc := 16) hx hb dX3_about_16 rfl (lv_at hl 1 rfl) ?_
    obtain ⟨y1, h1, e9, hf⟩ := jB_some hf
    refine j_callV (pc := 17) (st1 := [.int y1]) (As := [.int x1]) (rest := []) cx hS rfl hl.1 hm (metX3_open l _ _ _ _ _ (hth.at hS) e9) (jle hf) (hth.at hS) rfl (lw_V q1393 q1161 q1162 q114 q1163) pdX3_open rfl rfl (Nat.le_of_ble_eq_true rfl) ⟨Nat.le_of_ble_eq_true rfl, Nat.le_of_ble_eq_true rfl⟩ dX3_about_17 rfl (fun H locs cells slots hS => ?_)
    exact wX3_about_20 cx e1 e2 a0 hth _ _ _ _ _ _ _ hf hS (lv_sub hl [0] rfl)
  · have hf := jI_f hf hc
    refine lv_aload_n (pc := 4) hx hb dX3_about_4 rfl (lv_at hl 0 rfl) ?_
    refine lv_iload_n (pc := 5) hx hb dX3_about_5 rfl (lv_at hl 1 rfl) ?_
    obtain ⟨y2, h1, e9, hf⟩ := jB_some hf
    refine j_callV (pc := 6) (st1 := [.int y2]) (As := [.int x1]) (rest := []) cx hS rfl hl.1 hm (metX3_open l _ _ _ _ _ (hth.at hS) e9) (jle hf) (hth.at hS) rfl (lw_V q1393 q1161 q1162 q114 q1163) pdX3_open rfl rfl (Nat.le_of_ble_eq_true rfl) ⟨Nat.le_of_ble_eq_true rfl, Nat.le_of_ble_eq_true rfl⟩ dX3_about_6 rfl (fun H locs cells slots hS => ?_)
    refine lv_bipush (pc := 9) (v := 9) hx hb dX3_about_9 rfl ?_
    refine lv_iand (pc := 11) hx hb dX3_about_11 ?_
    refine lv_goto (pc := 12) (tgt := 20) hx hb dX3_about_12 (by decide) ?_
    exact wX3_about_20 cx e1 e2 a0 hth _ _ _ _ _ _ _ hf hS (lv_sub hl [0] rfl)
theorem metX3_about (l : Launch) (a0 : Nat) (x1 : Int32) (x2 : Int32) (h h' : jH) (r : Int32) (hth : jcd h a0 = some 2) (hf : (fX3_about a0 x1 x2).1 h = some (r, h')) : jMet l yX3_about (ws_ yX3_about cX3_about 3 (Option.some Jvm.ClassFile.FieldType.int)) (1) (21) [.ref a0, .int x1, .int x2] h h' (.returned (some (.int r))) := by
  refine jStart rfl (jle hf) (Nat.le_of_ble_eq_true rfl) ?_
  intro p e s m below meth c D dA H0 mc ms ls cx hnm e1 e2 hS hl
  have hth := jTh.mk hS hth
  exact wX3_about_0 cx e1 e2 a0 hth _ _ _ _ _ _ _ _ hf hS hl
def fX3_mayScrape_14 (a0 : Nat) (v0 : Int32) : jM Int32 := jRn .boolean v0
def fX3_mayScrape (a0 : Nat) (x1 : Int32) (x2 : Int32) : jM Int32 := jB (fX3_about a0 x1 x2) fun y1 => if y1 = 0 then (fX3_mayScrape_14 a0 0) else (fX3_mayScrape_14 a0 1)
theorem wX3_mayScrape_14 {r : Int32} (cx : jCx p s m args meth c cX3_mayScrape "WornSkin$Shelf" 3 (Option.some Jvm.ClassFile.FieldType.boolean) D dA H0 hs.2.2.2.2) (e1 : h'.2.2.1 = hs.2.2.1 + mc) (e2 : h'.2.2.2.1 = hs.2.2.2.1 + ms) (a0 : Nat) (hth : jTh hs a0 2) : ∀ (v0 : Int32), ∀ (h : jH) (H : Heap) (locs : List Loc) (cells slots : Nat) (ls : Array Slot), (fX3_mayScrape_14 a0 v0).1 h = some (r, h') → jS D dA H0 hs h H locs cells slots → lv_has ls 3 [(0, .ref a0)] → W p l e { frames := 2, cells := mc, slots := ms, locals := 43 } s m args below meth c H locs cells slots (jQ D dA H0 below s (.returned (some (.int r))) h' mc ms) (F0 m 14 ls [.int v0]) := by
  have hx := cx.1
  have hb := cx.2.1
  have hown := cx.2.2.2.1
  have hts := cx.2.2.2.2.1
  have hm : h'.2.2.1 ≤ hs.2.2.1 + mc ∧ h'.2.2.2.1 ≤ hs.2.2.2.1 + ms := ⟨Nat.le_of_eq e1, Nat.le_of_eq e2⟩
  intro v0 h H locs cells slots ls hf hS hl
  unfold fX3_mayScrape_14 at hf
  exact j_zret (pc := 14) cx (Or.inl rfl) hS hf e1 e2 dX3_mayScrape_14
theorem wX3_mayScrape_0 {r : Int32} (cx : jCx p s m args meth c cX3_mayScrape "WornSkin$Shelf" 3 (Option.some Jvm.ClassFile.FieldType.boolean) D dA H0 hs.2.2.2.2) (e1 : h'.2.2.1 = hs.2.2.1 + mc) (e2 : h'.2.2.2.1 = hs.2.2.2.1 + ms) (a0 : Nat) (hth : jTh hs a0 2) : ∀ (x1 : Int32) (x2 : Int32), ∀ (h : jH) (H : Heap) (locs : List Loc) (cells slots : Nat) (ls : Array Slot), (fX3_mayScrape a0 x1 x2).1 h = some (r, h') → jS D dA H0 hs h H locs cells slots → lv_has ls 3 [(0, .ref a0), (1, .int x1), (2, .int x2)] → W p l e { frames := 2, cells := mc, slots := ms, locals := 43 } s m args below meth c H locs cells slots (jQ D dA H0 below s (.returned (some (.int r))) h' mc ms) (F0 m 0 ls []) := by
  have hx := cx.1
  have hb := cx.2.1
  have hown := cx.2.2.2.1
  have hts := cx.2.2.2.2.1
  have hm : h'.2.2.1 ≤ hs.2.2.1 + mc ∧ h'.2.2.2.1 ≤ hs.2.2.2.1 + ms := ⟨Nat.le_of_eq e1, Nat.le_of_eq e2⟩
  intro x1 x2 h H locs cells slots ls hf hS hl
  unfold fX3_mayScrape at hf
  refine lv_aload_n (pc := 0) hx hb dX3_mayScrape_0 rfl (lv_at hl 0 rfl) ?_
  refine lv_iload_n (pc := 1) hx hb dX3_mayScrape_1 rfl (lv_at hl 1 rfl) ?_
  refine lv_iload_n (pc := 2) hx hb dX3_mayScrape_2 rfl (lv_at hl 2 rfl) ?_
  obtain ⟨y1, h1, e9, hf⟩ := jB_some hf
  refine j_callV (pc := 3) (st1 := [.int y1]) (As := [.int x1, .int x2]) (rest := []) cx hS rfl hl.1 hm (metX3_about l _ _ _ _ _ _ (hth.at hS) e9) (jle hf) (hth.at hS) rfl (lw_V q1389 q1391 qs43 q114 q1392) pdX3_about rfl rfl (Nat.le_of_ble_eq_true rfl) ⟨Nat.le_of_ble_eq_true rfl, Nat.le_of_ble_eq_true rfl⟩ dX3_mayScrape_3 rfl (fun H locs cells slots hS => ?_)
  refine lv_if_eq (pc := 6) (tgt := 13) hx hb dX3_mayScrape_6 (by decide) (fun hc => ?_) (fun hc => ?_)
  · have hf := jI_t hf hc
    refine lv_iconst (pc := 13) (v := 0) hx hb dX3_mayScrape_13 rfl ?_
    exact wX3_mayScrape_14 cx e1 e2 a0 hth _ _ _ _ _ _ _ hf hS (lv_sub hl [0] rfl)
  · have hf := jI_f hf hc
    refine lv_iconst (pc := 9) (v := 1) hx hb dX3_mayScrape_9 rfl ?_
    refine lv_goto (pc := 10) (tgt := 14) hx hb dX3_mayScrape_10 (by decide) ?_
    exact wX3_mayScrape_14 cx e1 e2 a0 hth _ _ _ _ _ _ _ hf hS (lv_sub hl [0] rfl)
theorem metX3_mayScrape (l : Launch) (a0 : Nat) (x1 : Int32) (x2 : Int32) (h h' : jH) (r : Int32) (hth : jcd h a0 = some 2) (hf : (fX3_mayScrape a0 x1 x2).1 h = some (r, h')) : jMet l yX3_mayScrape (ws_ yX3_mayScrape cX3_mayScrape 3 (Option.some Jvm.ClassFile.FieldType.boolean)) (2) (43) [.ref a0, .int x1, .int x2] h h' (.returned (some (.int r))) := by
  refine jStart rfl (jle hf) (Nat.le_of_ble_eq_true rfl) ?_
  intro p e s m below meth c D dA H0 mc ms ls cx hnm e1 e2 hS hl
  have hth := jTh.mk hS hth
  exact wX3_mayScrape_0 cx e1 e2 a0 hth _ _ _ _ _ _ _ _ hf hS hl
def d_Text_isOath (b : Nat) : jM Int32 := jB (jcls (some b)) fun k => if k = 13 then fX10_isOath b else if k = 14 then fX10_isOath b else if k = 15 then fX10_isOath b else if k = 16 then fX13_isOath b else jE
theorem md_Text_isOath (l : Launch) (b : Nat) (h h' : jH) (r : Int32) (hf : (d_Text_isOath b).1 h = some (r, h')) : jVm l { cls := "WornSkin$Text", name := "isOath", desc := "()Z" } (0) (0) 1 b [] h h' (.returned (some (.int r))) := by
  unfold d_Text_isOath at hf
  obtain ⟨k, hk, hf⟩ := jBO_some hf
  by_cases hc13 : k = 13
  · have hf := jI_t hf hc13
    subst hc13
    exact ⟨_, _, _, _, _, metX10_isOath l _ _ _ _ hf, hk, ⟨q1400, q1399, q141, q1407⟩, Nat.le_of_ble_eq_true rfl⟩
  have hf := jI_f hf hc13
  by_cases hc14 : k = 14
  · have hf := jI_t hf hc14
    subst hc14
    exact ⟨_, _, _, _, _, metX10_isOath l _ _ _ _ hf, hk, ⟨q1405, q1399, q141, q1407⟩, Nat.le_of_ble_eq_true rfl⟩
  have hf := jI_f hf hc14
  by_cases hc15 : k = 15
  · have hf := jI_t hf hc15
    subst hc15
    exact ⟨_, _, _, _, _, metX10_isOath l _ _ _ _ hf, hk, ⟨q1406, q1399, q141, q1407⟩, Nat.le_of_ble_eq_true rfl⟩
  have hf := jI_f hf hc15
  by_cases hc16 : k = 16
  · have hf := jI_t hf hc16
    subst hc16
    exact ⟨_, _, _, _, _, metX13_isOath l _ _ _ _ hf, hk, ⟨q1402, q1403, q144, q1404⟩, Nat.le_of_ble_eq_true rfl⟩
  have hf := jI_f hf hc16
  exact jE_f hf
def fX3_scrapes_191 (N : Nat) (a0 : Nat) : jM Unit := jR ()
def fX3_scrapes_167 (N : Nat) (a0 : Nat) : Nat → Int32 → Int32 → jM Unit
  | 0, _, _ => jE
  | n + 1, x1, x6 => if 6 ≤ x6 then (fX3_scrapes_191 N a0) else (jB (fX3_clears a0 ((6 * x1) + x6)) fun _ => fX3_scrapes_167 N a0 n x1 (x6 + 1))
def fX3_scrapes_150 (N : Nat) (a0 : Nat) (x1 : Int32) (v0 : Option Nat) (v1 : Int32) (v2 : Int32) (v3 : Int32) (v4 : Int32) : jM Unit := jB (jsI 0 v0 v1 (jmax v2 (v3 - v4))) fun _ => jB (fX3_isGone a0 x1) fun y1 => if y1 = 0 then (jR ()) else (fX3_scrapes_167 N a0 N x1 0)
def fX3_scrapes_139 (N : Nat) (a0 : Nat) (x1 : Int32) (x5 : Int32) (v0 : Option Nat) (v1 : Int32) (v2 : Int32) (v3 : Int32) (v4 : Int32) : jM Unit := if x5 = 0 then (fX3_scrapes_150 N a0 x1 v0 v1 v2 (v3 - v4) 0) else (fX3_scrapes_150 N a0 x1 v0 v1 v2 (v3 - v4) 1)
def fX3_scrapes_98 (N : Nat) (a0 : Nat) (x1 : Int32) (x3 : Int32) (x4 : Int32) (x5 : Int32) : jM Unit := jB (jgI [2] 2 (some a0)) fun y1 => jB (jpI [2] 2 (some a0) (y1 &&& ((x3 <<< ((6 * x1) &&& 31)) ^^^ (-1)))) fun _ => jB (jgR [2] 3 (some a0)) fun y2 => jB (jgR [2] 3 (some a0)) fun y3 => jB (jaI 0 y3 x1) fun y4 => if x4 = 0 then (fX3_scrapes_139 N a0 x1 x5 y2 x1 0 (y4 - 1) 0) else (fX3_scrapes_139 N a0 x1 x5 y2 x1 0 (y4 - 1) 1)
def fX3_scrapes_92 (N : Nat) (k16 : Int32 → Int32 → Int32 → Int32 → Int32 → jM Unit) (a0 : Nat) (x1 : Int32) (x3 : Int32) (x4 : Int32) (x5 : Int32) (x6 : Int32) : jM Unit := k16 x1 x3 x4 x5 (x6 + 1)
def fX3_scrapes_90 (N : Nat) (k16 : Int32 → Int32 → Int32 → Int32 → Int32 → jM Unit) (a0 : Nat) (x1 : Int32) (x3 : Int32) (x4 : Int32) (x6 : Int32) (v0 : Int32) : jM Unit := fX3_scrapes_92 N k16 a0 x1 x3 x4 v0 x6
def fX3_scrapes_85 (N : Nat) (k16 : Int32 → Int32 → Int32 → Int32 → Int32 → jM Unit) (a0 : Nat) (x1 : Int32) (x3 : Int32) (x4 : Int32) (x6 : Int32) : jM Unit := fX3_scrapes_90 N k16 a0 x1 x3 x4 x6 1
def fX3_scrapes_70 (N : Nat) (k16 : Int32 → Int32 → Int32 → Int32 → Int32 → jM Unit) (a0 : Nat) (x1 : Int32) (x3 : Int32) (x5 : Int32) (x6 : Int32) (x7 : Option Nat) (v0 : Int32) : jM Unit := if x5 = 0 then (jB (jnn0 x7) fun b2 => jB (d_Text_isOath b2) fun y1 => if y1 = 0 then (fX3_scrapes_90 N k16 a0 x1 x3 v0 x6 0) else (fX3_scrapes_85 N k16 a0 x1 x3 v0 x6)) else (fX3_scrapes_85 N k16 a0 x1 x3 v0 x6)
def fX3_scrapes_65 (N : Nat) (k16 : Int32 → Int32 → Int32 → Int32 → Int32 → jM Unit) (a0 : Nat) (x1 : Int32) (x3 : Int32) (x5 : Int32) (x6 : Int32) (x7 : Option Nat) : jM Unit := fX3_scrapes_70 N k16 a0 x1 x3 x5 x6 x7 1
def fX3_scrapes_16 (N : Nat) (a0 : Nat) : Nat → Int32 → Int32 → Int32 → Int32 → Int32 → jM Unit
  | 0, _, _, _, _, _ => jE
  | n + 1, x1, x3, x4, x5, x6 => if 6 ≤ x6 then (fX3_scrapes_98 N a0 x1 x3 x4 x5) else (jB (fX1_has x3 x6) fun y1 => if y1 = 0 then (fX3_scrapes_92 N (fX3_scrapes_16 N a0 n) a0 x1 x3 x4 x5 x6) else (jB (fX3_top a0 ((6 * x1) + x6)) fun y2 => jB (fX3_text a0 y2) fun y3 => if x4 = 0 then (jB (jgI [13, 14, 15, 16] 0 y3) fun y4 => if y4 = 0 then (fX3_scrapes_70 N (fX3_scrapes_16 N a0 n) a0 x1 x3 x5 x6 y3 0) else (fX3_scrapes_65 N (fX3_scrapes_16 N a0 n) a0 x1 x3 x5 x6 y3)) else (fX3_scrapes_65 N (fX3_scrapes_16 N a0 n) a0 x1 x3 x5 x6 y3)))
def fX3_scrapes (N : Nat) (a0 : Nat) (x1 : Int32) (x2 : Int32) : jM Unit := jB (fX3_about a0 x1 x2) fun y1 => fX3_scrapes_16 N a0 N x1 y1 0 0 0
theorem wX3_scrapes_191 {N : Nat} {r : Unit} (cx : jCx p s m args meth c cX3_scrapes "WornSkin$Shelf" 8 (Option.none : Option Jvm.ClassFile.FieldType) D dA H0 hs.2.2.2.2) (e1 : h'.2.2.1 = hs.2.2.1 + mc) (e2 : h'.2.2.2.1 = hs.2.2.2.1 + ms) (a0 : Nat) (hth : jTh hs a0 2) : ∀ (h : jH) (H : Heap) (locs : List Loc) (cells slots : Nat) (ls : Array Slot), (fX3_scrapes_191 N a0).1 h = some (r, h') → jS D dA H0 hs h H locs cells slots → lv_has ls 8 [(0, .ref a0)] → W p l e { frames := 4, cells := mc, slots := ms, locals := 85 } s m args below meth c H locs cells slots (jQ D dA H0 below s (.returned none) h' mc ms) (F0 m 191 ls []) := by
  have hx := cx.1
  have hb := cx.2.1
  have hown := cx.2.2.2.1
  have hts := cx.2.2.2.2.1
  have hm : h'.2.2.1 ≤ hs.2.2.1 + mc ∧ h'.2.2.2.1 ≤ hs.2.2.2.1 + ms := ⟨Nat.le_of_eq e1, Nat.le_of_eq e2⟩
  intro h H locs cells slots ls hf hS hl
  unfold fX3_scrapes_191 at hf
  exact j_vret (pc := 191) cx hS hf e1 e2 dX3_scrapes_191
theorem wX3_scrapes_167 {N : Nat} {r : Unit} (cx : jCx p s m args meth c cX3_scrapes "WornSkin$Shelf" 8 (Option.none : Option Jvm.ClassFile.FieldType) D dA H0 hs.2.2.2.2) (e1 : h'.2.2.1 = hs.2.2.1 + mc) (e2 : h'.2.2.2.1 = hs.2.2.2.1 + ms) (a0 : Nat) (hth : jTh hs a0 2) : ∀ (n : Nat) (x1 : Int32) (x6 : Int32), ∀ (h : jH) (H : Heap) (locs : List Loc) (cells slots : Nat) (ls : Array Slot), (fX3_scrapes_167 N a0 n x1 x6).1 h = some (r, h') → jS D dA H0 hs h H locs cells slots → lv_has ls 8 [(0, .ref a0), (1, .int x1), (6, .int x6)] → W p l e { frames := 4, cells := mc, slots := ms, locals := 85 } s m args below meth c H locs cells slots (jQ D dA H0 below s (.returned none) h' mc ms) (F0 m 167 ls []) := by
  have hx := cx.1
  have hb := cx.2.1
  have hown := cx.2.2.2.1
  have hts := cx.2.2.2.2.1
  have hm : h'.2.2.1 ≤ hs.2.2.1 + mc ∧ h'.2.2.2.1 ≤ hs.2.2.2.1 + ms := ⟨Nat.le_of_eq e1, Nat.le_of_eq e2⟩
  intro n
  induction n with
  | zero =>
    intro x1 x6 h H locs cells slots ls hf hS hl
    exact jE_f hf
  | succ n ih =>
    intro x1 x6 h H locs cells slots ls hf hS hl
    unfold fX3_scrapes_167 at hf
    refine lv_iload (pc := 167) hx hb dX3_scrapes_167 (lv_at hl 2 rfl) ?_
    refine lv_bipush (pc := 169) (v := 6) hx hb dX3_scrapes_169 rfl ?_
    refine lv_icmp_ge (pc := 171) (tgt := 191) hx hb dX3_scrapes_171 (by decide) (fun hc => ?_) (fun hc => ?_)
    · have hf := jI_t hf hc
      exact wX3_scrapes_191 cx e1 e2 a0 hth _ _ _ _ _ _ hf hS (lv_sub hl [0] rfl)
    · have hf := jI_f hf hc
      refine lv_aload_n (pc := 174) hx hb dX3_scrapes_174 rfl (lv_at hl 0 rfl) ?_
      refine lv_bipush (pc := 175) (v := 6) hx hb dX3_scrapes_175 rfl ?_
      refine lv_iload_n (pc := 177) hx hb dX3_scrapes_177 rfl (lv_at hl 1 rfl) ?_
      refine lv_imul (pc := 178) hx hb dX3_scrapes_178 ?_
      refine lv_iload (pc := 179) hx hb dX3_scrapes_179 (lv_at hl 2 rfl) ?_
      refine lv_iadd (pc := 181) hx hb dX3_scrapes_181 ?_
      obtain ⟨_, h1, e9, hf⟩ := jB_some hf
      refine j_callV (pc := 182) (st1 := []) (As := [.int ((6 * x1) + x6)]) (rest := []) cx hS rfl hl.1 hm (metX3_clears l _ _ _ _ _ (hth.at hS) e9) (jle hf) (hth.at hS) rfl (lw_V q367 q369 qs0 q114 q370) pdX3_clears rfl rfl (Nat.le_of_ble_eq_true rfl) ⟨Nat.le_of_ble_eq_true rfl, Nat.le_of_ble_eq_true rfl⟩ dX3_scrapes_182 rfl (fun H locs cells slots hS => ?_)
      refine lv_iinc (pc := 185) (v := (x6 + 1)) (lv' := [(6, .int (x6 + 1)), (0, .ref a0), (1, .int x1)]) hx hb dX3_scrapes_185 hl (k := 2) rfl rfl (Nat.le_of_ble_eq_true rfl) rfl (fun ls hl => ?_)
      refine lv_goto (pc := 188) (tgt := 167) hx hb dX3_scrapes_188 (by decide) ?_
      exact ih _ _ _ _ _ _ _ _ hf hS (lv_sub hl [1, 2, 0] rfl)
theorem wX3_scrapes_150 {N : Nat} {r : Unit} (cx : jCx p s m args meth c cX3_scrapes "WornSkin$Shelf" 8 (Option.none : Option Jvm.ClassFile.FieldType) D dA H0 hs.2.2.2.2) (e1 : h'.2.2.1 = hs.2.2.1 + mc) (e2 : h'.2.2.2.1 = hs.2.2.2.1 + ms) (a0 : Nat) (hth : jTh hs a0 2) : ∀ (x1 : Int32) (v0 : Option Nat) (v1 : Int32) (v2 : Int32) (v3 : Int32) (v4 : Int32), ∀ (h : jH) (H : Heap) (locs : List Loc) (cells slots : Nat) (ls : Array Slot), (fX3_scrapes_150 N a0 x1 v0 v1 v2 v3 v4).1 h = some (r, h') → jS D dA H0 hs h H locs cells slots → lv_has ls 8 [(0, .ref a0), (1, .int x1)] → W p l e { frames := 4, cells := mc, slots := ms, locals := 85 } s m args below meth c H locs cells slots (jQ D dA H0 below s (.returned none) h' mc ms) (F0 m 150 ls [.int v4, .int v3, .int v2, .int v1, va_rf v0]) := by
  have hx := cx.1
  have hb := cx.2.1
  have hown := cx.2.2.2.1
  have hts := cx.2.2.2.2.1
  have hm : h'.2.2.1 ≤ hs.2.2.1 + mc ∧ h'.2.2.2.1 ≤ hs.2.2.2.1 + ms := ⟨Nat.le_of_eq e1, Nat.le_of_eq e2⟩
  intro x1 v0 v1 v2 v3 v4 h H locs cells slots ls hf hS hl
  unfold fX3_scrapes_150 at hf
  refine lv_isub (pc := 150) hx hb dX3_scrapes_150 ?_
  refine j_max (pc := 151) cx hS hl.1 (jle hf) hm q1408 q523 q126 q524 (Nat.le_of_ble_eq_true rfl) (by simp only [List.map_cons, List.map_nil, List.sum_cons, List.sum_nil, jrfc]; exact Nat.le_of_ble_eq_true rfl) dX3_scrapes_151 ?_
  refine j_sI (pc := 154) cx hS hf rfl dX3_scrapes_154 (fun h H locs hf hS => ?_)
  refine lv_aload_n (pc := 155) hx hb dX3_scrapes_155 rfl (lv_at hl 0 rfl) ?_
  refine lv_iload_n (pc := 156) hx hb dX3_scrapes_156 rfl (lv_at hl 1 rfl) ?_
  obtain ⟨y1, h1, e9, hf⟩ := jB_some hf
  refine j_callV (pc := 157) (st1 := [.int y1]) (As := [.int x1]) (rest := []) cx hS rfl hl.1 hm (metX3_isGone l _ _ _ _ _ (hth.at hS) e9) (jle hf) (hth.at hS) rfl (lw_V q1340 q1341 q1342 q114 q1343) pdX3_isGone rfl rfl (Nat.le_of_ble_eq_true rfl) ⟨Nat.le_of_ble_eq_true rfl, Nat.le_of_ble_eq_true rfl⟩ dX3_scrapes_157 rfl (fun H locs cells slots hS => ?_)
  refine lv_if_ne (pc := 160) (tgt := 164) hx hb dX3_scrapes_160 (by decide) (fun hc => ?_) (fun hc => ?_)
  · have hf := jI_f hf hc
    refine lv_iconst (pc := 164) (v := 0) hx hb dX3_scrapes_164 rfl ?_
    refine lv_istore (pc := 165) (i := 6) (lv' := [(6, .int 0), (0, .ref a0), (1, .int x1)]) hx hb dX3_scrapes_165 hl (Nat.le_of_ble_eq_true rfl) rfl (fun ls hl => ?_)
    exact wX3_scrapes_167 cx e1 e2 a0 hth N _ _ _ _ _ _ _ _ hf hS (lv_sub hl [1, 2, 0] rfl)
  · have hf := jI_t hf hc
    exact j_vret (pc := 163) cx hS hf e1 e2 dX3_scrapes_163
theorem wX3_scrapes_139 {N : Nat} {r : Unit} (cx : jCx p s m args meth c cX3_scrapes "WornSkin$Shelf" 8 (Option.none : Option Jvm.ClassFile.FieldType) D dA H0 hs.2.2.2.2) (e1 : h'.2.2.1 = hs.2.2.1 + mc) (e2 : h'.2.2.2.1 = hs.2.2.2.1 + ms) (a0 : Nat) (hth : jTh hs a0 2) : ∀ (x1 : Int32) (x5 : Int32) (v0 : Option Nat) (v1 : Int32) (v2 : Int32) (v3 : Int32) (v4 : Int32), ∀ (h : jH) (H : Heap) (locs : List Loc) (cells slots : Nat) (ls : Array Slot), (fX3_scrapes_139 N a0 x1 x5 v0 v1 v2 v3 v4).1 h = some (r, h') → jS D dA H0 hs h H locs cells slots → lv_has ls 8 [(0, .ref a0), (1, .int x1), (5, .int x5)] → W p l e { frames := 4, cells := mc, slots := ms, locals := 85 } s m args below meth c H locs cells slots (jQ D dA H0 below s (.returned none) h' mc ms) (F0 m 139 ls [.int v4, .int v3, .int v2, .int v1, va_rf v0]) := by
  have hx := cx.1
  have hb := cx.2.1
  have hown := cx.2.2.2.1
  have hts := cx.2.2.2.2.1
  have hm : h'.2.2.1 ≤ hs.2.2.1 + mc ∧ h'.2.2.2.1 ≤ hs.2.2.2.1 + ms := ⟨Nat.le_of_eq e1, Nat.le_of_eq e2⟩
  intro x1 x5 v0 v1 v2 v3 v4 h H locs cells slots ls hf hS hl
  unfold fX3_scrapes_139 at hf
  refine lv_isub (pc := 139) hx hb dX3_scrapes_139 ?_
  refine lv_iload (pc := 140) hx hb dX3_scrapes_140 (lv_at hl 2 rfl) ?_
  refine lv_if_eq (pc := 142) (tgt := 149) hx hb dX3_scrapes_142 (by decide) (fun hc => ?_) (fun hc => ?_)
  · have hf := jI_t hf hc
    refine lv_iconst (pc := 149) (v := 0) hx hb dX3_scrapes_149 rfl ?_
    exact wX3_scrapes_150 cx e1 e2 a0 hth _ _ _ _ _ _ _ _ _ _ _ _ hf hS (lv_sub hl [0, 1] rfl)
  · have hf := jI_f hf hc
    refine lv_iconst (pc := 145) (v := 1) hx hb dX3_scrapes_145 rfl ?_
    refine lv_goto (pc := 146) (tgt := 150) hx hb dX3_scrapes_146 (by decide) ?_
    exact wX3_scrapes_150 cx e1 e2 a0 hth _ _ _ _ _ _ _ _ _ _ _ _ hf hS (lv_sub hl [0, 1] rfl)
theorem wX3_scrapes_98 {N : Nat} {r : Unit} (cx : jCx p s m args meth c cX3_scrapes "WornSkin$Shelf" 8 (Option.none : Option Jvm.ClassFile.FieldType) D dA H0 hs.2.2.2.2) (e1 : h'.2.2.1 = hs.2.2.1 + mc) (e2 : h'.2.2.2.1 = hs.2.2.2.1 + ms) (a0 : Nat) (hth : jTh hs a0 2) : ∀ (x1 : Int32) (x3 : Int32) (x4 : Int32) (x5 : Int32), ∀ (h : jH) (H : Heap) (locs : List Loc) (cells slots : Nat) (ls : Array Slot), (fX3_scrapes_98 N a0 x1 x3 x4 x5).1 h = some (r, h') → jS D dA H0 hs h H locs cells slots → lv_has ls 8 [(0, .ref a0), (1, .int x1), (3, .int x3), (4, .int x4), (5, .int x5)] → W p l e { frames := 4, cells := mc, slots := ms, locals := 85 } s m args below meth c H locs cells slots (jQ D dA H0 below s (.returned none) h' mc ms) (F0 m 98 ls []) := by
  have hx := cx.1
  have hb := cx.2.1
  have hown := cx.2.2.2.1
  have hts := cx.2.2.2.2.1
  have hm : h'.2.2.1 ≤ hs.2.2.1 + mc ∧ h'.2.2.2.1 ≤ hs.2.2.2.1 + ms := ⟨Nat.le_of_eq e1, Nat.le_of_eq e2⟩
  intro x1 x3 x4 x5 h H locs cells slots ls hf hS hl
  unfold fX3_scrapes_98 at hf
  refine lv_aload_n (pc := 98) hx hb dX3_scrapes_98 rfl (lv_at hl 0 rfl) ?_
  refine lv_dup (pc := 99) hx hb dX3_scrapes_99 rfl ?_
  refine j_gI (pc := 100) cx hS hf fd_WornSkin_Shelf_open q260 dX3_scrapes_100 (fun y1 hf => ?_)
  refine lv_iload_n (pc := 103) hx hb dX3_scrapes_103 rfl (lv_at hl 2 rfl) ?_
  refine lv_bipush (pc := 104) (v := 6) hx hb dX3_scrapes_104 rfl ?_
  refine lv_iload_n (pc := 106) hx hb dX3_scrapes_106 rfl (lv_at hl 1 rfl) ?_
  refine lv_imul (pc := 107) hx hb dX3_scrapes_107 ?_
  refine lv_ishl (pc := 108) hx hb dX3_scrapes_108 ?_
  refine lv_iconst (pc := 109) (v := (-1)) hx hb dX3_scrapes_109 rfl ?_
  refine lv_ixor (pc := 110) hx hb dX3_scrapes_110 ?_
  refine lv_iand (pc := 111) hx hb dX3_scrapes_111 ?_
  refine j_pI (pc := 112) cx hS hf fp_WornSkin_Shelf_open (Or.inl rfl) q260 dX3_scrapes_112 (fun h H locs hf hS => ?_)
  refine lv_aload_n (pc := 115) hx hb dX3_scrapes_115 rfl (lv_at hl 0 rfl) ?_
  refine j_gR (pc := 116) cx hS hf fd_WornSkin_Shelf_thick q262 dX3_scrapes_116 (fun y2 hf => ?_)
  refine lv_iload_n (pc := 119) hx hb dX3_scrapes_119 rfl (lv_at hl 1 rfl) ?_
  refine lv_iconst (pc := 120) (v := 0) hx hb dX3_scrapes_120 rfl ?_
  refine lv_aload_n (pc := 121) hx hb dX3_scrapes_121 rfl (lv_at hl 0 rfl) ?_
  refine j_gR (pc := 122) cx hS hf fd_WornSkin_Shelf_thick q262 dX3_scrapes_122 (fun y3 hf => ?_)
  refine lv_iload_n (pc := 125) hx hb dX3_scrapes_125 rfl (lv_at hl 1 rfl) ?_
  refine j_aI (pc := 126) cx hS hf rfl dX3_scrapes_126 (fun y4 hf => ?_)
  refine lv_iconst (pc := 127) (v := 1) hx hb dX3_scrapes_127 rfl ?_
  refine lv_isub (pc := 128) hx hb dX3_scrapes_128 ?_
  refine lv_iload (pc := 129) hx hb dX3_scrapes_129 (lv_at hl 3 rfl) ?_
  refine lv_if_eq (pc := 131) (tgt := 138) hx hb dX3_scrapes_131 (by decide) (fun hc => ?_) (fun hc => ?_)
  · have hf := jI_t hf hc
    refine lv_iconst (pc := 138) (v := 0) hx hb dX3_scrapes_138 rfl ?_
    exact wX3_scrapes_139 cx e1 e2 a0 hth _ _ _ _ _ _ _ _ _ _ _ _ _ hf hS (lv_sub hl [0, 1, 4] rfl)
  · have hf := jI_f hf hc
    refine lv_iconst (pc := 134) (v := 1) hx hb dX3_scrapes_134 rfl ?_
    refine lv_goto (pc := 135) (tgt := 139) hx hb dX3_scrapes_135 (by decide) ?_
    exact wX3_scrapes_139 cx e1 e2 a0 hth _ _ _ _ _ _ _ _ _ _ _ _ _ hf hS (lv_sub hl [0, 1, 4] rfl)
theorem wX3_scrapes_92 {N : Nat} {k16 : Int32 → Int32 → Int32 → Int32 → Int32 → jM Unit} {r : Unit} (cx : jCx p s m args meth c cX3_scrapes "WornSkin$Shelf" 8 (Option.none : Option Jvm.ClassFile.FieldType) D dA H0 hs.2.2.2.2) (e1 : h'.2.2.1 = hs.2.2.1 + mc) (e2 : h'.2.2.2.1 = hs.2.2.2.1 + ms) (a0 : Nat) (hth : jTh hs a0 2) (hk16 : ∀ (x1 : Int32) (x3 : Int32) (x4 : Int32) (x5 : Int32) (x6 : Int32), ∀ (h : jH) (H : Heap) (locs : List Loc) (cells slots : Nat) (ls : Array Slot), (k16 x1 x3 x4 x5 x6).1 h = some (r, h') → jS D dA H0 hs h H locs cells slots → lv_has ls 8 [(0, .ref a0), (1, .int x1), (3, .int x3), (4, .int x4), (5, .int x5), (6, .int x6)] → W p l e { frames := 4, cells := mc, slots := ms, locals := 85 } s m args below meth c H locs cells slots (jQ D dA H0 below s (.returned none) h' mc ms) (F0 m 16 ls [])) : ∀ (x1 : Int32) (x3 : Int32) (x4 : Int32) (x5 : Int32) (x6 : Int32), ∀ (h : jH) (H : Heap) (locs : List Loc) (cells slots : Nat) (ls : Array Slot), (fX3_scrapes_92 N k16 a0 x1 x3 x4 x5 x6).1 h = some (r, h') → jS D dA H0 hs h H locs cells slots → lv_has ls 8 [(0, .ref a0), (1, .int x1), (3, .int x3), (4, .int x4), (5, .int x5), (6, .int x6)] → W p l e { frames := 4, cells := mc, slots := ms, locals := 85 } s m args below meth c H locs cells slots (jQ D dA H0 below s (.returned none) h' mc ms) (F0 m 92 ls []) := by
  have hx := cx.1
  have hb := cx.2.1
  have hown := cx.2.2.2.1
  have hts := cx.2.2.2.2.1
  have hm : h'.2.2.1 ≤ hs.2.2.1 + mc ∧ h'.2.2.2.1 ≤ hs.2.2.2.1 + ms := ⟨Nat.le_of_eq e1, Nat.le_of_eq e2⟩
  intro x1 x3 x4 x5 x6 h H locs cells slots ls hf hS hl
  unfold fX3_scrapes_92 at hf
  refine lv_iinc (pc := 92) (v := (x6 + 1)) (lv' := [(6, .int (x6 + 1)), (0, .ref a0), (1, .int x1), (3, .int x3), (4, .int x4), (5, .int x5)]) hx hb dX3_scrapes_92 hl (k := 5) rfl rfl (Nat.le_of_ble_eq_true rfl) rfl (fun ls hl => ?_)
  refine lv_goto (pc := 95) (tgt := 16) hx hb dX3_scrapes_95 (by decide) ?_
  exact hk16 _ _ _ _ _ _ _ _ _ _ _ hf hS (lv_sub hl [1, 2, 3, 4, 5, 0] rfl)
theorem wX3_scrapes_90 {N : Nat} {k16 : Int32 → Int32 → Int32 → Int32 → Int32 → jM Unit} {r : Unit} (cx : jCx p s m args meth c cX3_scrapes "WornSkin$Shelf" 8 (Option.none : Option Jvm.ClassFile.FieldType) D dA H0 hs.2.2.2.2) (e1 : h'.2.2.1 = hs.2.2.1 + mc) (e2 : h'.2.2.2.1 = hs.2.2.2.1 + ms) (a0 : Nat) (hth : jTh hs a0 2) (hk16 : ∀ (x1 : Int32) (x3 : Int32) (x4 : Int32) (x5 : Int32) (x6 : Int32), ∀ (h : jH) (H : Heap) (locs : List Loc) (cells slots : Nat) (ls : Array Slot), (k16 x1 x3 x4 x5 x6).1 h = some (r, h') → jS D dA H0 hs h H locs cells slots → lv_has ls 8 [(0, .ref a0), (1, .int x1), (3, .int x3), (4, .int x4), (5, .int x5), (6, .int x6)] → W p l e { frames := 4, cells := mc, slots := ms, locals := 85 } s m args below meth c H locs cells slots (jQ D dA H0 below s (.returned none) h' mc ms) (F0 m 16 ls [])) : ∀ (x1 : Int32) (x3 : Int32) (x4 : Int32) (x6 : Int32) (v0 : Int32), ∀ (h : jH) (H : Heap) (locs : List Loc) (cells slots : Nat) (ls : Array Slot), (fX3_scrapes_90 N k16 a0 x1 x3 x4 x6 v0).1 h = some (r, h') → jS D dA H0 hs h H locs cells slots → lv_has ls 8 [(0, .ref a0), (1, .int x1), (3, .int x3), (4, .int x4), (6, .int x6)] → W p l e { frames := 4, cells := mc, slots := ms, locals := 85 } s m args below meth c H locs cells slots (jQ D dA H0 below s (.returned none) h' mc ms) (F0 m 90 ls [.int v0]) := by
  have hx := cx.1
  have hb := cx.2.1
  have hown := cx.2.2.2.1
  have hts := cx.2.2.2.2.1
  have hm : h'.2.2.1 ≤ hs.2.2.1 + mc ∧ h'.2.2.2.1 ≤ hs.2.2.2.1 + ms := ⟨Nat.le_of_eq e1, Nat.le_of_eq e2⟩
  intro x1 x3 x4 x6 v0 h H locs cells slots ls hf hS hl
  unfold fX3_scrapes_90 at hf
  refine lv_istore (pc := 90) (i := 5) (lv' := [(5, .int v0), (0, .ref a0), (1, .int x1), (3, .int x3), (4, .int x4), (6, .int x6)]) hx hb dX3_scrapes_90 hl (Nat.le_of_ble_eq_true rfl) rfl (fun ls hl => ?_)
  exact wX3_scrapes_92 cx e1 e2 a0 hth hk16 _ _ _ _ _ _ _ _ _ _ _ hf hS (lv_sub hl [1, 2, 3, 4, 0, 5] rfl)
theorem wX3_scrapes_85 {N : Nat} {k16 : Int32 → Int32 → Int32 → Int32 → Int32 → jM Unit} {r : Unit} (cx : jCx p s m args meth c cX3_scrapes "WornSkin$Shelf" 8 (Option.none : Option Jvm.ClassFile.FieldType) D dA H0 hs.2.2.2.2) (e1 : h'.2.2.1 = hs.2.2.1 + mc) (e2 : h'.2.2.2.1 = hs.2.2.2.1 + ms) (a0 : Nat) (hth : jTh hs a0 2) (hk16 : ∀ (x1 : Int32) (x3 : Int32) (x4 : Int32) (x5 : Int32) (x6 : Int32), ∀ (h : jH) (H : Heap) (locs : List Loc) (cells slots : Nat) (ls : Array Slot), (k16 x1 x3 x4 x5 x6).1 h = some (r, h') → jS D dA H0 hs h H locs cells slots → lv_has ls 8 [(0, .ref a0), (1, .int x1), (3, .int x3), (4, .int x4), (5, .int x5), (6, .int x6)] → W p l e { frames := 4, cells := mc, slots := ms, locals := 85 } s m args below meth c H locs cells slots (jQ D dA H0 below s (.returned none) h' mc ms) (F0 m 16 ls [])) : ∀ (x1 : Int32) (x3 : Int32) (x4 : Int32) (x6 : Int32), ∀ (h : jH) (H : Heap) (locs : List Loc) (cells slots : Nat) (ls : Array Slot), (fX3_scrapes_85 N k16 a0 x1 x3 x4 x6).1 h = some (r, h') → jS D dA H0 hs h H locs cells slots → lv_has ls 8 [(0, .ref a0), (1, .int x1), (3, .int x3), (4, .int x4), (6, .int x6)] → W p l e { frames := 4, cells := mc, slots := ms, locals := 85 } s m args below meth c H locs cells slots (jQ D dA H0 below s (.returned none) h' mc ms) (F0 m 85 ls []) := by
  have hx := cx.1
  have hb := cx.2.1
  have hown := cx.2.2.2.1
  have hts := cx.2.2.2.2.1
  have hm : h'.2.2.1 ≤ hs.2.2.1 + mc ∧ h'.2.2.2.1 ≤ hs.2.2.2.1 + ms := ⟨Nat.le_of_eq e1, Nat.le_of_eq e2⟩
  intro x1 x3 x4 x6 h H locs cells slots ls hf hS hl
  unfold fX3_scrapes_85 at hf
  refine lv_iconst (pc := 85) (v := 1) hx hb dX3_scrapes_85 rfl ?_
  refine lv_goto (pc := 86) (tgt := 90) hx hb dX3_scrapes_86 (by decide) ?_
  exact wX3_scrapes_90 cx e1 e2 a0 hth hk16 _ _ _ _ _ _ _ _ _ _ _ hf hS hl
theorem wX3_scrapes_70 {N : Nat} {k16 : Int32 → Int32 → Int32 → Int32 → Int32 → jM Unit} {r : Unit} (cx : jCx p s m args meth c cX3_scrapes "WornSkin$Shelf" 8 (Option.none : Option Jvm.ClassFile.FieldType) D dA H0 hs.2.2.2.2) (e1 : h'.2.2.1 = hs.2.2.1 + mc) (e2 : h'.2.2.2.1 = hs.2.2.2.1 + ms) (a0 : Nat) (hth : jTh hs a0 2) (hk16 : ∀ (x1 : Int32) (x3 : Int32) (x4 : Int32) (x5 : Int32) (x6 : Int32), ∀ (h : jH) (H : Heap) (locs : List Loc) (cells slots : Nat) (ls : Array Slot), (k16 x1 x3 x4 x5 x6).1 h = some (r, h') → jS D dA H0 hs h H locs cells slots → lv_has ls 8 [(0, .ref a0), (1, .int x1), (3, .int x3), (4, .int x4), (5, .int x5), (6, .int x6)] → W p l e { frames := 4, cells := mc, slots := ms, locals := 85 } s m args below meth c H locs cells slots (jQ D dA H0 below s (.returned none) h' mc ms) (F0 m 16 ls [])) : ∀ (x1 : Int32) (x3 : Int32) (x5 : Int32) (x6 : Int32) (x7 : Option Nat) (v0 : Int32), ∀ (h : jH) (H : Heap) (locs : List Loc) (cells slots : Nat) (ls : Array Slot), (fX3_scrapes_70 N k16 a0 x1 x3 x5 x6 x7 v0).1 h = some (r, h') → jS D dA H0 hs h H locs cells slots → lv_has ls 8 [(0, .ref a0), (1, .int x1), (3, .int x3), (5, .int x5), (6, .int x6), (7, va_rf x7)] → W p l e { frames := 4, cells := mc, slots := ms, locals := 85 } s m args below meth c H locs cells slots (jQ D dA H0 below s (.returned none) h' mc ms) (F0 m 70 ls [.int v0]) := by
  have hx := cx.1
  have hb := cx.2.1
  have hown := cx.2.2.2.1
  have hts := cx.2.2.2.2.1
  have hm : h'.2.2.1 ≤ hs.2.2.1 + mc ∧ h'.2.2.2.1 ≤ hs.2.2.2.1 + ms := ⟨Nat.le_of_eq e1, Nat.le_of_eq e2⟩
  intro x1 x3 x5 x6 x7 v0 h H locs cells slots ls hf hS hl
  unfold fX3_scrapes_70 at hf
  refine lv_istore (pc := 70) (i := 4) (lv' := [(4, .int v0), (0, .ref a0), (1, .int x1), (3, .int x3), (5, .int x5), (6, .int x6), (7, va_rf x7)]) hx hb dX3_scrapes_70 hl (Nat.le_of_ble_eq_true rfl) rfl (fun ls hl => ?_)
  refine lv_iload (pc := 72) hx hb dX3_scrapes_72 (lv_at hl 4 rfl) ?_
  refine lv_if_ne (pc := 74) (tgt := 85) hx hb dX3_scrapes_74 (by decide) (fun hc => ?_) (fun hc => ?_)
  · have hf := jI_f hf hc
    exact wX3_scrapes_85 cx e1 e2 a0 hth hk16 _ _ _ _ _ _ _ _ _ _ hf hS (lv_sub hl [1, 2, 3, 0, 5] rfl)
  · have hf := jI_t hf hc
    refine j_aload (pc := 77) (r := x7) hx hb dX3_scrapes_77 (lv_at hl 6 rfl) ?_
    obtain ⟨b2, eb, hf⟩ := jnn0_s hf
    refine j_nn (pc := 79) eb [] [] rfl ?_
    obtain ⟨y1, h1, e9, hf⟩ := jB_some hf
    refine j_callU (pc := 79) (st1 := [.int y1]) (As := []) (rest := []) (x := { cls := "WornSkin$Text", name := "isOath", desc := "()Z" }) cx hS rfl hl.1 hm (md_Text_isOath l _ _ _ _ e9) (jle hf) q1398 q1401 (Or.inr ⟨_, _, _, q1399, q1407⟩) pd_WornSkin_Text_isOath rfl rfl (Nat.le_of_ble_eq_true rfl) ⟨Nat.le_of_ble_eq_true rfl, Nat.le_of_ble_eq_true rfl⟩ dX3_scrapes_79 rfl (fun H locs cells slots hS => ?_)
    refine lv_if_eq (pc := 82) (tgt := 89) hx hb dX3_scrapes_82 (by decide) (fun hc => ?_) (fun hc => ?_)
    · have hf := jI_t hf hc
      refine lv_iconst (pc := 89) (v := 0) hx hb dX3_scrapes_89 rfl ?_
      exact wX3_scrapes_90 cx e1 e2 a0 hth hk16 _ _ _ _ _ _ _ _ _ _ _ hf hS (lv_sub hl [1, 2, 3, 0, 5] rfl)
    · have hf := jI_f hf hc
      exact wX3_scrapes_85 cx e1 e2 a0 hth hk16 _ _ _ _ _ _ _ _ _ _ hf hS (lv_sub hl [1, 2, 3, 0, 5] rfl)
theorem wX3_scrapes_65 {N : Nat} {k16 : Int32 → Int32 → Int32 → Int32 → Int32 → jM Unit} {r : Unit} (cx : jCx p s m args meth c cX3_scrapes "WornSkin$Shelf" 8 (Option.none : Option Jvm.ClassFile.FieldType) D dA H0 hs.2.2.2.2) (e1 : h'.2.2.1 = hs.2.2.1 + mc) (e2 : h'.2.2.2.1 = hs.2.2.2.1 + ms) (a0 : Nat) (hth : jTh hs a0 2) (hk16 : ∀ (x1 : Int32) (x3 : Int32) (x4 : Int32) (x5 : Int32) (x6 : Int32), ∀ (h : jH) (H : Heap) (locs : List Loc) (cells slots : Nat) (ls : Array Slot), (k16 x1 x3 x4 x5 x6).1 h = some (r, h') → jS D dA H0 hs h H locs cells slots → lv_has ls 8 [(0, .ref a0), (1, .int x1), (3, .int x3), (4, .int x4), (5, .int x5), (6, .int x6)] → W p l e { frames := 4, cells := mc, slots := ms, locals := 85 } s m args below meth c H locs cells slots (jQ D dA H0 below s (.returned none) h' mc ms) (F0 m 16 ls [])) : ∀ (x1 : Int32) (x3 : Int32) (x5 : Int32) (x6 : Int32) (x7 : Option Nat), ∀ (h : jH) (H : Heap) (locs : List Loc) (cells slots : Nat) (ls : Array Slot), (fX3_scrapes_65 N k16 a0 x1 x3 x5 x6 x7).1 h = some (r, h') → jS D dA H0 hs h H locs cells slots → lv_has ls 8 [(0, .ref a0), (1, .int x1), (3, .int x3), (5, .int x5), (6, .int x6), (7, va_rf x7)] → W p l e { frames := 4, cells := mc, slots := ms, locals := 85 } s m args below meth c H locs cells slots (jQ D dA H0 below s (.returned none) h' mc ms) (F0 m 65 ls []) := by
  have hx := cx.1
  have hb := cx.2.1
  have hown := cx.2.2.2.1
  have hts := cx.2.2.2.2.1
  have hm : h'.2.2.1 ≤ hs.2.2.1 + mc ∧ h'.2.2.2.1 ≤ hs.2.2.2.1 + ms := ⟨Nat.le_of_eq e1, Nat.le_of_eq e2⟩
  intro x1 x3 x5 x6 x7 h H locs cells slots ls hf hS hl
  unfold fX3_scrapes_65 at hf
  refine lv_iconst (pc := 65) (v := 1) hx hb dX3_scrapes_65 rfl ?_
  refine lv_goto (pc := 66) (tgt := 70) hx hb dX3_scrapes_66 (by decide) ?_
  exact wX3_scrapes_70 cx e1 e2 a0 hth hk16 _ _ _ _ _ _ _ _ _ _ _ _ hf hS hl
theorem wX3_scrapes_16 {N : Nat} {r : Unit} (cx : jCx p s m args meth c cX3_scrapes "WornSkin$Shelf" 8 (Option.none : Option Jvm.ClassFile.FieldType) D dA H0 hs.2.2.2.2) (e1 : h'.2.2.1 = hs.2.2.1 + mc) (e2 : h'.2.2.2.1 = hs.2.2.2.1 + ms) (a0 : Nat) (hth : jTh hs a0 2) : ∀ (n : Nat) (x1 : Int32) (x3 : Int32) (x4 : Int32) (x5 : Int32) (x6 : Int32), ∀ (h : jH) (H : Heap) (locs : List Loc) (cells slots : Nat) (ls : Array Slot), (fX3_scrapes_16 N a0 n x1 x3 x4 x5 x6).1 h = some (r, h') → jS D dA H0 hs h H locs cells slots → lv_has ls 8 [(0, .ref a0), (1, .int x1), (3, .int x3), (4, .int x4), (5, .int x5), (6, .int x6)] → W p l e { frames := 4, cells := mc, slots := ms, locals := 85 } s m args below meth c H locs cells slots (jQ D dA H0 below s (.returned none) h' mc ms) (F0 m 16 ls []) := by
  have hx := cx.1
  have hb := cx.2.1
  have hown := cx.2.2.2.1
  have hts := cx.2.2.2.2.1
  have hm : h'.2.2.1 ≤ hs.2.2.1 + mc ∧ h'.2.2.2.1 ≤ hs.2.2.2.1 + ms := ⟨Nat.le_of_eq e1, Nat.le_of_eq e2⟩
  intro n
  induction n with
  | zero =>
    intro x1 x3 x4 x5 x6 h H locs cells slots ls hf hS hl
    exact jE_f hf
  | succ n ih =>
    intro x1 x3 x4 x5 x6 h H locs cells slots ls hf hS hl
    unfold fX3_scrapes_16 at hf
    refine lv_iload (pc := 16) hx hb dX3_scrapes_16 (lv_at hl 5 rfl) ?_
    refine lv_bipush (pc := 18) (v := 6) hx hb dX3_scrapes_18 rfl ?_
    refine lv_icmp_ge (pc := 20) (tgt := 98) hx hb dX3_scrapes_20 (by decide) (fun hc => ?_) (fun hc => ?_)
    · have hf := jI_t hf hc
      exact wX3_scrapes_98 cx e1 e2 a0 hth _ _ _ _ _ _ _ _ _ _ hf hS (lv_sub hl [0, 1, 2, 3, 4] rfl)
    · have hf := jI_f hf hc
      refine lv_iload_n (pc := 23) hx hb dX3_scrapes_23 rfl (lv_at hl 2 rfl) ?_
      refine lv_iload (pc := 24) hx hb dX3_scrapes_24 (lv_at hl 5 rfl) ?_
      obtain ⟨y1, h1, e9, hf⟩ := jB_some hf
      refine j_callSN (pc := 26) (st1 := [.int y1]) (As := [.int x3, .int x6]) (rest := []) cx hS rfl hl.1 hm (metX1_has l _ _ _ _ _ e9) (jle hf) q865 q864 q1184 q112 pdX1_has rfl rfl (Nat.le_of_ble_eq_true rfl) ⟨Nat.le_of_ble_eq_true rfl, Nat.le_of_ble_eq_true rfl⟩ dX3_scrapes_26 rfl (fun H locs cells slots hS => ?_)
      refine lv_if_ne (pc := 29) (tgt := 35) hx hb dX3_scrapes_29 (by decide) (fun hc => ?_) (fun hc => ?_)
      · have hf := jI_f hf hc
        refine lv_aload_n (pc := 35) hx hb dX3_scrapes_35 rfl (lv_at hl 0 rfl) ?_
        refine lv_aload_n (pc := 36) hx hb dX3_scrapes_36 rfl (lv_at hl 0 rfl) ?_
        refine lv_bipush (pc := 37) (v := 6) hx hb dX3_scrapes_37 rfl ?_
        refine lv_iload_n (pc := 39) hx hb dX3_scrapes_39 rfl (lv_at hl 1 rfl) ?_
        refine lv_imul (pc := 40) hx hb dX3_scrapes_40 ?_
        refine lv_iload (pc := 41) hx hb dX3_scrapes_41 (lv_at hl 5 rfl) ?_
        refine lv_iadd (pc := 43) hx hb dX3_scrapes_43 ?_
        obtain ⟨y2, h1, e9, hf⟩ := jB_some hf
        refine j_callV (pc := 44) (st1 := [.int y2, .ref a0]) (As := [.int ((6 * x1) + x6)]) (rest := [.ref a0]) cx hS rfl hl.1 hm (metX3_top l _ _ _ _ _ (hth.at hS) e9) (jle hf) (hth.at hS) rfl (lw_V q1185 q1186 q1187 q114 q1188) pdX3_top rfl rfl (Nat.le_of_ble_eq_true rfl) ⟨Nat.le_of_ble_eq_true rfl, Nat.le_of_ble_eq_true rfl⟩ dX3_scrapes_44 rfl (fun H locs cells slots hS => ?_)
        obtain ⟨y3, h1, e9, hf⟩ := jB_some hf
        refine j_callV (pc := 47) (st1 := [va_rf y3]) (As := [.int y2]) (rest := []) cx hS rfl hl.1 hm (metX3_text l _ _ _ _ _ (hth.at hS) e9) (jle hf) (hth.at hS) rfl (lw_V q1193 q1194 q1195 q114 q1196) pdX3_text rfl rfl (Nat.le_of_ble_eq_true rfl) ⟨Nat.le_of_ble_eq_true rfl, Nat.le_of_ble_eq_true rfl⟩ dX3_scrapes_47 rfl (fun H locs cells slots hS => ?_)
        refine j_astore (pc := 50) (i := 7) (r := y3) (lv' := [(7, va_rf y3), (0, .ref a0), (1, .int x1), (3, .int x3), (4, .int x4), (5, .int x5), (6, .int x6)]) hx hb dX3_scrapes_50 hl (Nat.le_of_ble_eq_true rfl) rfl (fun ls hl => ?_)
        refine lv_iload (pc := 52) hx hb dX3_scrapes_52 (lv_at hl 4 rfl) ?_
        refine lv_if_ne (pc := 54) (tgt := 65) hx hb dX3_scrapes_54 (by decide) (fun hc => ?_) (fun hc => ?_)
        · have hf := jI_f hf hc
          exact wX3_scrapes_65 cx e1 e2 a0 hth ih _ _ _ _ _ _ _ _ _ _ _ hf hS (lv_sub hl [1, 2, 3, 5, 6, 0] rfl)
        · have hf := jI_t hf hc
          refine j_aload (pc := 57) (r := y3) hx hb dX3_scrapes_57 (lv_at hl 0 rfl) ?_
          refine j_gI (pc := 59) cx hS hf fd_WornSkin_Text_gall q889 dX3_scrapes_59 (fun y4 hf => ?_)
          refine lv_if_eq (pc := 62) (tgt := 69) hx hb dX3_scrapes_62 (by decide) (fun hc => ?_) (fun hc => ?_)
          · have hf := jI_t hf hc
            refine lv_iconst (pc := 69) (v := 0) hx hb dX3_scrapes_69 rfl ?_
            exact wX3_scrapes_70 cx e1 e2 a0 hth ih _ _ _ _ _ _ _ _ _ _ _ _ hf hS (lv_sub hl [1, 2, 3, 5, 6, 0] rfl)
          · have hf := jI_f hf hc
            exact wX3_scrapes_65 cx e1 e2 a0 hth ih _ _ _ _ _ _ _ _ _ _ _ hf hS (lv_sub hl [1, 2, 3, 5, 6, 0] rfl)
      · have hf := jI_t hf hc
        refine lv_goto (pc := 32) (tgt := 92) hx hb dX3_scrapes_32 (by decide) ?_
        exact wX3_scrapes_92 cx e1 e2 a0 hth ih _ _ _ _ _ _ _ _ _ _ _ hf hS hl
theorem wX3_scrapes_0 {N : Nat} {r : Unit} (cx : jCx p s m args meth c cX3_scrapes "WornSkin$Shelf" 8 (Option.none : Option Jvm.ClassFile.FieldType) D dA H0 hs.2.2.2.2) (e1 : h'.2.2.1 = hs.2.2.1 + mc) (e2 : h'.2.2.2.1 = hs.2.2.2.1 + ms) (a0 : Nat) (hth : jTh hs a0 2) : ∀ (x1 : Int32) (x2 : Int32), ∀ (h : jH) (H : Heap) (locs : List Loc) (cells slots : Nat) (ls : Array Slot), (fX3_scrapes N a0 x1 x2).1 h = some (r, h') → jS D dA H0 hs h H locs cells slots → lv_has ls 8 [(0, .ref a0), (1, .int x1), (2, .int x2)] → W p l e { frames := 4, cells := mc, slots := ms, locals := 85 } s m args below meth c H locs cells slots (jQ D dA H0 below s (.returned none) h' mc ms) (F0 m 0 ls []) := by
  have hx := cx.1
  have hb := cx.2.1
  have hown := cx.2.2.2.1
  have hts := cx.2.2.2.2.1
  have hm : h'.2.2.1 ≤ hs.2.2.1 + mc ∧ h'.2.2.2.1 ≤ hs.2.2.2.1 + ms := ⟨Nat.le_of_eq e1, Nat.le_of_eq e2⟩
  intro x1 x2 h H locs cells slots ls hf hS hl
  unfold fX3_scrapes at hf
  refine lv_aload_n (pc := 0) hx hb dX3_scrapes_0 rfl (lv_at hl 0 rfl) ?_
  refine lv_iload_n (pc := 1) hx hb dX3_scrapes_1 rfl (lv_at hl 1 rfl) ?_
  refine lv_iload_n (pc := 2) hx hb dX3_scrapes_2 rfl (lv_at hl 2 rfl) ?_
  obtain ⟨y1, h1, e9, hf⟩ := jB_some hf
  refine j_callV (pc := 3) (st1 := [.int y1]) (As := [.int x1, .int x2]) (rest := []) cx hS rfl hl.1 hm (metX3_about l _ _ _ _ _ _ (hth.at hS) e9) (jle hf) (hth.at hS) rfl (lw_V q1389 q1391 qs43 q114 q1392) pdX3_about rfl rfl (Nat.le_of_ble_eq_true rfl) ⟨Nat.le_of_ble_eq_true rfl, Nat.le_of_ble_eq_true rfl⟩ dX3_scrapes_3 rfl (fun H locs cells slots hS => ?_)
  refine lv_istore_n (pc := 6) (i := 3) (lv' := [(3, .int y1), (0, .ref a0), (1, .int x1), (2, .int x2)]) hx hb dX3_scrapes_6 rfl hl (Nat.le_of_ble_eq_true rfl) rfl (fun ls hl => ?_)
  refine lv_iconst (pc := 7) (v := 0) hx hb dX3_scrapes_7 rfl ?_
  refine lv_istore (pc := 8) (i := 4) (lv' := [(4, .int 0), (3, .int y1), (0, .ref a0), (1, .int x1), (2, .int x2)]) hx hb dX3_scrapes_8 hl (Nat.le_of_ble_eq_true rfl) rfl (fun ls hl => ?_)
  refine lv_iconst (pc := 10) (v := 0) hx hb dX3_scrapes_10 rfl ?_
  refine lv_istore (pc := 11) (i := 5) (lv' := [(5, .int 0), (4, .int 0), (3, .int y1), (0, .ref a0), (1, .int x1), (2, .int x2)]) hx hb dX3_scrapes_11 hl (Nat.le_of_ble_eq_true rfl) rfl (fun ls hl => ?_)
  refine lv_iconst (pc := 13) (v := 0) hx hb dX3_scrapes_13 rfl ?_
  refine lv_istore (pc := 14) (i := 6) (lv' := [(6, .int 0), (5, .int 0), (4, .int 0), (3, .int y1), (0, .ref a0), (1, .int x1), (2, .int x2)]) hx hb dX3_scrapes_14 hl (Nat.le_of_ble_eq_true rfl) rfl (fun ls hl => ?_)
  exact wX3_scrapes_16 cx e1 e2 a0 hth N _ _ _ _ _ _ _ _ _ _ _ hf hS (lv_sub hl [4, 5, 3, 2, 1, 0] rfl)
theorem metX3_scrapes (l : Launch) (N : Nat) (a0 : Nat) (x1 : Int32) (x2 : Int32) (h h' : jH) (r : Unit) (hth : jcd h a0 = some 2) (hf : (fX3_scrapes N a0 x1 x2).1 h = some (r, h')) : jMet l yX3_scrapes (ws_ yX3_scrapes cX3_scrapes 8 (Option.none : Option Jvm.ClassFile.FieldType)) (4) (85) [.ref a0, .int x1, .int x2] h h' (.returned none) := by
  refine jStart rfl (jle hf) (Nat.le_of_ble_eq_true rfl) ?_
  intro p e s m below meth c D dA H0 mc ms ls cx hnm e1 e2 hS hl
  have hth := jTh.mk hS hth
  exact wX3_scrapes_0 cx e1 e2 a0 hth _ _ _ _ _ _ _ _ hf hS hl
def fX3_gone_32 (N : Nat) (a0 : Nat) (x1 : Int32) : jM Int32 := jR x1
def fX3_gone_26 (N : Nat) (k4 : Int32 → Int32 → jM Int32) (a0 : Nat) (x1 : Int32) (x2 : Int32) : jM Int32 := k4 x1 (x2 + 1)
def fX3_gone_4 (N : Nat) (a0 : Nat) : Nat → Int32 → Int32 → jM Int32
  | 0, _, _ => jE
  | n + 1, x1, x2 => jB (fX3_skins a0) fun y1 => if y1 ≤ x2 then (fX3_gone_32 N a0 x1) else (jB (fX3_isGone a0 x2) fun y2 => if y2 = 0 then (fX3_gone_26 N (fX3_gone_4 N a0 n) a0 x1 x2) else (fX3_gone_26 N (fX3_gone_4 N a0 n) a0 (x1 ||| (1 <<< (x2 &&& 31))) x2))
def fX3_gone (N : Nat) (a0 : Nat) : jM Int32 := fX3_gone_4 N a0 N 0 0
theorem wX3_gone_32 {N : Nat} {r : Int32} (cx : jCx p s m args meth c cX3_gone "WornSkin$Shelf" 3 (Option.some Jvm.ClassFile.FieldType.int) D dA H0 hs.2.2.2.2) (e1 : h'.2.2.1 = hs.2.2.1 + mc) (e2 : h'.2.2.2.1 = hs.2.2.2.1 + ms) (a0 : Nat) (hth : jTh hs a0 2) : ∀ (x1 : Int32), ∀ (h : jH) (H : Heap) (locs : List Loc) (cells slots : Nat) (ls : Array Slot), (fX3_gone_32 N a0 x1).1 h = some (r, h') → jS D dA H0 hs h H locs cells slots → lv_has ls 3 [(0, .ref a0), (1, .int x1)] → W p l e { frames := 2, cells := mc, slots := ms, locals := 40 } s m args below meth c H locs cells slots (jQ D dA H0 below s (.returned (some (.int r))) h' mc ms) (F0 m 32 ls []) := by
  have hx := cx.1
  have hb := cx.2.1
  have hown := cx.2.2.2.1
  have hts := cx.2.2.2.2.1
  have hm : h'.2.2.1 ≤ hs.2.2.1 + mc ∧ h'.2.2.2.1 ≤ hs.2.2.2.1 + ms := ⟨Nat.le_of_eq e1, Nat.le_of_eq e2⟩
  intro x1 h H locs cells slots ls hf hS hl
  unfold fX3_gone_32 at hf
  refine lv_iload_n (pc := 32) hx hb dX3_gone_32 rfl (lv_at hl 1 rfl) ?_
  exact j_iret (pc := 33) cx hS hf e1 e2 dX3_gone_33
theorem wX3_gone_26 {N : Nat} {k4 : Int32 → Int32 → jM Int32} {r : Int32} (cx : jCx p s m args meth c cX3_gone "WornSkin$Shelf" 3 (Option.some Jvm.ClassFile.FieldType.int) D dA H0 hs.2.2.2.2) (e1 : h'.2.2.1 = hs.2.2.1 + mc) (e2 : h'.2.2.2.1 = hs.2.2.2.1 + ms) (a0 : Nat) (hth : jTh hs a0 2) (hk4 : ∀ (x1 : Int32) (x2 : Int32), ∀ (h : jH) (H : Heap) (locs : List Loc) (cells slots : Nat) (ls : Array Slot), (k4 x1 x2).1 h = some (r, h') → jS D dA H0 hs h H locs cells slots → lv_has ls 3 [(0, .ref a0), (1, .int x1), (2, .int x2)] → W p l e { frames := 2, cells := mc, slots := ms, locals := 40 } s m args below meth c H locs cells slots (jQ D dA H0 below s (.returned (some (.int r))) h' mc ms) (F0 m 4 ls [])) : ∀ (x1 : Int32) (x2 : Int32), ∀ (h : jH) (H : Heap) (locs : List Loc) (cells slots : Nat) (ls : Array Slot), (fX3_gone_26 N k4 a0 x1 x2).1 h = some (r, h') → jS D dA H0 hs h H locs cells slots → lv_has ls 3 [(0, .ref a0), (1, .int x1), (2, .int x2)] → W p l e { frames := 2, cells := mc, slots := ms, locals := 40 } s m args below meth c H locs cells slots (jQ D dA H0 below s (.returned (some (.int r))) h' mc ms) (F0 m 26 ls []) := by
  have hx := cx.1
  have hb := cx.2.1
  have hown := cx.2.2.2.1
  have hts := cx.2.2.2.2.1
  have hm : h'.2.2.1 ≤ hs.2.2.1 + mc ∧ h'.2.2.2.1 ≤ hs.2.2.2.1 + ms := ⟨Nat.le_of_eq e1, Nat.le_of_eq e2⟩
  intro x1 x2 h H locs cells slots ls hf hS hl
  unfold fX3_gone_26 at hf
  refine lv_iinc (pc := 26) (v := (x2 + 1)) (lv' := [(2, .int (x2 + 1)), (0, .ref a0), (1, .int x1)]) hx hb dX3_gone_26 hl (k := 2) rfl rfl (Nat.le_of_ble_eq_true rfl) rfl (fun ls hl => ?_)
  refine lv_goto (pc := 29) (tgt := 4) hx hb dX3_gone_29 (by decide) ?_
  exact hk4 _ _ _ _ _ _ _ _ hf hS (lv_sub hl [1, 2, 0] rfl)
theorem wX3_gone_4 {N : Nat} {r : Int32} (cx : jCx p s m args meth c cX3_gone "WornSkin$Shelf" 3 (Option.some Jvm.ClassFile.FieldType.int) D dA H0 hs.2.2.2.2) (e1 : h'.2.2.1 = hs.2.2.1 + mc) (e2 : h'.2.2.2.1 = hs.2.2.2.1 + ms) (a0 : Nat) (hth : jTh hs a0 2) : ∀ (n : Nat) (x1 : Int32) (x2 : Int32), ∀ (h : jH) (H : Heap) (locs : List Loc) (cells slots : Nat) (ls : Array Slot), (fX3_gone_4 N a0 n x1 x2).1 h = some (r, h') → jS D dA H0 hs h H locs cells slots → lv_has ls 3 [(0, .ref a0), (1, .int x1), (2, .int x2)] → W p l e { frames := 2, cells := mc, slots := ms, locals := 40 } s m args below meth c H locs cells slots (jQ D dA H0 below s (.returned (some (.int r))) h' mc ms) (F0 m 4 ls []) := by
  have hx := cx.1
  have hb := cx.2.1
  have hown := cx.2.2.2.1
  have hts := cx.2.2.2.2.1
  have hm : h'.2.2.1 ≤ hs.2.2.1 + mc ∧ h'.2.2.2.1 ≤ hs.2.2.2.1 + ms := ⟨Nat.le_of_eq e1, Nat.le_of_eq e2⟩
  intro n
  induction n with
  | zero =>
    intro x1 x2 h H locs cells slots ls hf hS hl
    exact jE_f hf
  | succ n ih =>
    intro x1 x2 h H locs cells slots ls hf hS hl
    unfold fX3_gone_4 at hf
    refine lv_iload_n (pc := 4) hx hb dX3_gone_4 rfl (lv_at hl 2 rfl) ?_
    refine lv_aload_n (pc := 5) hx hb dX3_gone_5 rfl (lv_at hl 0 rfl) ?_
    obtain ⟨y1, h1, e9, hf⟩ := jB_some hf
    refine j_callV (pc := 6) (st1 := [.int y1, .int x2]) (As := []) (rest := [.int x2]) cx hS rfl hl.1 hm (metX3_skins l _ _ _ _ (hth.at hS) e9) (jle hf) (hth.at hS) rfl (lw_V q371 q372 q373 q114 q374) pdX3_skins rfl rfl (Nat.le_of_ble_eq_true rfl) ⟨Nat.le_of_ble_eq_true rfl, Nat.le_of_ble_eq_true rfl⟩ dX3_gone_6 rfl (fun H locs cells slots hS => ?_)
    refine lv_icmp_ge (pc := 9) (tgt := 32) hx hb dX3_gone_9 (by decide) (fun hc => ?_) (fun hc => ?_)
    · have hf := jI_t hf hc
      exact wX3_gone_32 cx e1 e2 a0 hth _ _ _ _ _ _ _ hf hS (lv_sub hl [0, 1] rfl)
    · have hf := jI_f hf hc
      refine lv_aload_n (pc := 12) hx hb dX3_gone_12 rfl (lv_at hl 0 rfl) ?_
      refine lv_iload_n (pc := 13) hx hb dX3_gone_13 rfl (lv_at hl 2 rfl) ?_
      obtain ⟨y2, h1, e9, hf⟩ := jB_some hf
      refine j_callV (pc := 14) (st1 := [.int y2]) (As := [.int x2]) (rest := []) cx hS rfl hl.1 hm (metX3_isGone l _ _ _ _ _ (hth.at hS) e9) (jle hf) (hth.at hS) rfl (lw_V q1340 q1341 q1342 q114 q1343) pdX3_isGone rfl rfl (Nat.le_of_ble_eq_true rfl) ⟨Nat.le_of_ble_eq_true rfl, Nat.le_of_ble_eq_true rfl⟩ dX3_gone_14 rfl (fun H locs cells slots hS => ?_)
      refine lv_if_eq (pc := 17) (tgt := 26) hx hb dX3_gone_17 (by decide) (fun hc => ?_) (fun hc => ?_)
      · have hf := jI_t hf hc
        exact wX3_gone_26 cx e1 e2 a0 hth ih _ _ _ _ _ _ _ _ hf hS hl
      · have hf := jI_f hf hc
        refine lv_iload_n (pc := 20) hx hb dX3_gone_20 rfl (lv_at hl 1 rfl) ?_
        refine lv_iconst (pc := 21) (v := 1) hx hb dX3_gone_21 rfl ?_
        refine lv_iload_n (pc := 22) hx hb dX3_gone_22 rfl (lv_at hl 2 rfl) ?_
        refine lv_ishl (pc := 23) hx hb dX3_gone_23 ?_
        refine lv_ior (pc := 24) hx hb dX3_gone_24 ?_
        refine lv_istore_n (pc := 25) (i := 1) (lv' := [(1, .int (x1 ||| (1 <<< (x2 &&& 31)))), (0, .ref a0), (2, .int x2)]) hx hb dX3_gone_25 rfl hl (Nat.le_of_ble_eq_true rfl) rfl (fun ls hl => ?_)
        exact wX3_gone_26 cx e1 e2 a0 hth ih _ _ _ _ _ _ _ _ hf hS (lv_sub hl [1, 0, 2] rfl)
theorem wX3_gone_0 {N : Nat} {r : Int32} (cx : jCx p s m args meth c cX3_gone "WornSkin$Shelf" 3 (Option.some Jvm.ClassFile.FieldType.int) D dA H0 hs.2.2.2.2) (e1 : h'.2.2.1 = hs.2.2.1 + mc) (e2 : h'.2.2.2.1 = hs.2.2.2.1 + ms) (a0 : Nat) (hth : jTh hs a0 2) : ∀ (h : jH) (H : Heap) (locs : List Loc) (cells slots : Nat) (ls : Array Slot), (fX3_gone N a0).1 h = some (r, h') → jS D dA H0 hs h H locs cells slots → lv_has ls 3 [(0, .ref a0)] → W p l e { frames := 2, cells := mc, slots := ms, locals := 40 } s m args below meth c H locs cells slots (jQ D dA H0 below s (.returned (some (.int r))) h' mc ms) (F0 m 0 ls []) := by
  have hx := cx.1
  have hb := cx.2.1
  have hown := cx.2.2.2.1
  have hts := cx.2.2.2.2.1
  have hm : h'.2.2.1 ≤ hs.2.2.1 + mc ∧ h'.2.2.2.1 ≤ hs.2.2.2.1 + ms := ⟨Nat.le_of_eq e1, Nat.le_of_eq e2⟩
  intro h H locs cells slots ls hf hS hl
  unfold fX3_gone at hf
  refine lv_iconst (pc := 0) (v := 0) hx hb dX3_gone_0 rfl ?_
  refine lv_istore_n (pc := 1) (i := 1) (lv' := [(1, .int 0), (0, .ref a0)]) hx hb dX3_gone_1 rfl hl (Nat.le_of_ble_eq_true rfl) rfl (fun ls hl => ?_)
  refine lv_iconst (pc := 2) (v := 0) hx hb dX3_gone_2 rfl ?_
  refine lv_istore_n (pc := 3) (i := 2) (lv' := [(2, .int 0), (1, .int 0), (0, .ref a0)]) hx hb dX3_gone_3 rfl hl (Nat.le_of_ble_eq_true rfl) rfl (fun ls hl => ?_)
  exact wX3_gone_4 cx e1 e2 a0 hth N _ _ _ _ _ _ _ _ hf hS (lv_sub hl [2, 1, 0] rfl)
theorem metX3_gone (l : Launch) (N : Nat) (a0 : Nat) (h h' : jH) (r : Int32) (hth : jcd h a0 = some 2) (hf : (fX3_gone N a0).1 h = some (r, h')) : jMet l yX3_gone (ws_ yX3_gone cX3_gone 3 (Option.some Jvm.ClassFile.FieldType.int)) (2) (40) [.ref a0] h h' (.returned (some (.int r))) := by
  refine jStart rfl (jle hf) (Nat.le_of_ble_eq_true rfl) ?_
  intro p e s m below meth c D dA H0 mc ms ls cx hnm e1 e2 hS hl
  have hth := jTh.mk hS hth
  exact wX3_gone_0 cx e1 e2 a0 hth  _ _ _ _ _ _ hf hS hl
def fX3_texts (a0 : Nat) : jM Int32 := jB (jgR [2] 0 (some a0)) fun y1 => jB (jgR [3] 3 y1) fun y2 => jB (jrc 4 y2) fun b4 => jB (fJ2_size b4) fun y3 => jR y3
theorem wX3_texts_0 {r : Int32} (cx : jCx p s m args meth c cX3_texts "WornSkin$Shelf" 1 (Option.some Jvm.ClassFile.FieldType.int) D dA H0 hs.2.2.2.2) (e1 : h'.2.2.1 = hs.2.2.1 + mc) (e2 : h'.2.2.2.1 = hs.2.2.2.1 + ms) (a0 : Nat) (hth : jTh hs a0 2) : ∀ (h : jH) (H : Heap) (locs : List Loc) (cells slots : Nat) (ls : Array Slot), (fX3_texts a0).1 h = some (r, h') → jS D dA H0 hs h H locs cells slots → lv_has ls 1 [(0, .ref a0)] → W p l e { frames := 1, cells := mc, slots := ms, locals := 20 } s m args below meth c H locs cells slots (jQ D dA H0 below s (.returned (some (.int r))) h' mc ms) (F0 m 0 ls []) := by
  have hx := cx.1
  have hb := cx.2.1
  have hown := cx.2.2.2.1
  have hts := cx.2.2.2.2.1
  have hm : h'.2.2.1 ≤ hs.2.2.1 + mc ∧ h'.2.2.2.1 ≤ hs.2.2.2.1 + ms := ⟨Nat.le_of_eq e1, Nat.le_of_eq e2⟩
  intro h H locs cells slots ls hf hS hl
  unfold fX3_texts at hf
  refine lv_aload_n (pc := 0) hx hb dX3_texts_0 rfl (lv_at hl 0 rfl) ?_
  refine j_gR (pc := 1) cx hS hf fd_WornSkin_Shelf_library q255 dX3_texts_1 (fun y1 hf => ?_)
  refine j_gR (pc := 4) cx hS hf fd_WornSkin_Library_texts q337 dX3_texts_4 (fun y2 hf => ?_)
  obtain ⟨b4, eb, hrc, hf⟩ := jrc_s hf
  refine j_nn (pc := 7) eb [] [] rfl ?_
  obtain ⟨y3, h1, e9, hf⟩ := jB_some hf
  refine j_callV (pc := 7) (st1 := [.int y3]) (As := []) (rest := []) cx hS rfl hl.1 hm (metJ2_size l _ _ _ _ hrc e9) (jle hf) hrc rfl (lw_V q375 q376 q377 q118 q378) pdJ2_size rfl rfl (Nat.le_of_ble_eq_true rfl) ⟨Nat.le_of_ble_eq_true rfl, Nat.le_of_ble_eq_true rfl⟩ dX3_texts_7 rfl (fun H locs cells slots hS => ?_)
  exact j_iret (pc := 10) cx hS hf e1 e2 dX3_texts_10
theorem metX3_texts (l : Launch) (a0 : Nat) (h h' : jH) (r : Int32) (hth : jcd h a0 = some 2) (hf : (fX3_texts a0).1 h = some (r, h')) : jMet l yX3_texts (ws_ yX3_texts cX3_texts 1 (Option.some Jvm.ClassFile.FieldType.int)) (1) (20) [.ref a0] h h' (.returned (some (.int r))) := by
  refine jStart rfl (jle hf) (Nat.le_of_ble_eq_true rfl) ?_
  intro p e s m below meth c D dA H0 mc ms ls cx hnm e1 e2 hS hl
  have hth := jTh.mk hS hth
  exact wX3_texts_0 cx e1 e2 a0 hth  _ _ _ _ _ _ hf hS hl
def fX3_whole_33 (N : Nat) (a0 : Nat) (x2 : Int32) : jM Int32 := jR x2
def fX3_whole_27 (N : Nat) (k4 : Int32 → Int32 → Int32 → jM Int32) (a0 : Nat) (x1 : Int32) (x2 : Int32) (x3 : Int32) : jM Int32 := k4 x1 x2 (x3 + 1)
def fX3_whole_4 (N : Nat) (a0 : Nat) : Nat → Int32 → Int32 → Int32 → jM Int32
  | 0, _, _, _ => jE
  | n + 1, x1, x2, x3 => jB (fX3_texts a0) fun y1 => if y1 ≤ x3 then (fX3_whole_33 N a0 x2) else (jB (fX3_isWhole N a0 x3 x1) fun y2 => if y2 = 0 then (fX3_whole_27 N (fX3_whole_4 N a0 n) a0 x1 x2 x3) else (fX3_whole_27 N (fX3_whole_4 N a0 n) a0 x1 (x2 ||| (1 <<< (x3 &&& 31))) x3))
def fX3_whole (N : Nat) (a0 : Nat) (x1 : Int32) : jM Int32 := fX3_whole_4 N a0 N x1 0 0
theorem wX3_whole_33 {N : Nat} {r : Int32} (cx : jCx p s m args meth c cX3_whole "WornSkin$Shelf" 4 (Option.some Jvm.ClassFile.FieldType.int) D dA H0 hs.2.2.2.2) (e1 : h'.2.2.1 = hs.2.2.1 + mc) (e2 : h'.2.2.2.1 = hs.2.2.2.1 + ms) (a0 : Nat) (hth : jTh hs a0 2) : ∀ (x2 : Int32), ∀ (h : jH) (H : Heap) (locs : List Loc) (cells slots : Nat) (ls : Array Slot), (fX3_whole_33 N a0 x2).1 h = some (r, h') → jS D dA H0 hs h H locs cells slots → lv_has ls 4 [(0, .ref a0), (2, .int x2)] → W p l e { frames := 124, cells := mc, slots := ms, locals := 2660 } s m args below meth c H locs cells slots (jQ D dA H0 below s (.returned (some (.int r))) h' mc ms) (F0 m 33 ls []) := by
  have hx := cx.1
  have hb := cx.2.1
  have hown := cx.2.2.2.1
  have hts := cx.2.2.2.2.1
  have hm : h'.2.2.1 ≤ hs.2.2.1 + mc ∧ h'.2.2.2.1 ≤ hs.2.2.2.1 + ms := ⟨Nat.le_of_eq e1, Nat.le_of_eq e2⟩
  intro x2 h H locs cells slots ls hf hS hl
  unfold fX3_whole_33 at hf
  refine lv_iload_n (pc := 33) hx hb dX3_whole_33 rfl (lv_at hl 1 rfl) ?_
  exact j_iret (pc := 34) cx hS hf e1 e2 dX3_whole_34
theorem wX3_whole_27 {N : Nat} {k4 : Int32 → Int32 → Int32 → jM Int32} {r : Int32} (cx : jCx p s m args meth c cX3_whole "WornSkin$Shelf" 4 (Option.some Jvm.ClassFile.FieldType.int) D dA H0 hs.2.2.2.2) (e1 : h'.2.2.1 = hs.2.2.1 + mc) (e2 : h'.2.2.2.1 = hs.2.2.2.1 + ms) (a0 : Nat) (hth : jTh hs a0 2) (hk4 : ∀ (x1 : Int32) (x2 : Int32) (x3 : Int32), ∀ (h : jH) (H : Heap) (locs : List Loc) (cells slots : Nat) (ls : Array Slot), (k4 x1 x2 x3).1 h = some (r, h') → jS D dA H0 hs h H locs cells slots → lv_has ls 4 [(0, .ref a0), (1, .int x1), (2, .int x2), (3, .int x3)] → W p l e { frames := 124, cells := mc, slots := ms, locals := 2660 } s m args below meth c H locs cells slots (jQ D dA H0 below s (.returned (some (.int r))) h' mc ms) (F0 m 4 ls [])) : ∀ (x1 : Int32) (x2 : Int32) (x3 : Int32), ∀ (h : jH) (H : Heap) (locs : List Loc) (cells slots : Nat) (ls : Array Slot), (fX3_whole_27 N k4 a0 x1 x2 x3).1 h = some (r, h') → jS D dA H0 hs h H locs cells slots → lv_has ls 4 [(0, .ref a0), (1, .int x1), (2, .int x2), (3, .int x3)] → W p l e { frames := 124, cells := mc, slots := ms, locals := 2660 } s m args below meth c H locs cells slots (jQ D dA H0 below s (.returned (some (.int r))) h' mc ms) (F0 m 27 ls []) := by
  have hx := cx.1
  have hb := cx.2.1
  have hown := cx.2.2.2.1
  have hts := cx.2.2.2.2.1
  have hm : h'.2.2.1 ≤ hs.2.2.1 + mc ∧ h'.2.2.2.1 ≤ hs.2.2.2.1 + ms := ⟨Nat.le_of_eq e1, Nat.le_of_eq e2⟩
  intro x1 x2 x3 h H locs cells slots ls hf hS hl
  unfold fX3_whole_27 at hf
  refine lv_iinc (pc := 27) (v := (x3 + 1)) (lv' := [(3, .int (x3 + 1)), (0, .ref a0), (1, .int x1), (2, .int x2)]) hx hb dX3_whole_27 hl (k := 3) rfl rfl (Nat.le_of_ble_eq_true rfl) rfl (fun ls hl => ?_)
  refine lv_goto (pc := 30) (tgt := 4) hx hb dX3_whole_30 (by decide) ?_
  exact hk4 _ _ _ _ _ _ _ _ _ hf hS (lv_sub hl [1, 2, 3, 0] rfl)
theorem wX3_whole_4 {N : Nat} {r : Int32} (cx : jCx p s m args meth c cX3_whole "WornSkin$Shelf" 4 (Option.some Jvm.ClassFile.FieldType.int) D dA H0 hs.2.2.2.2) (e1 : h'.2.2.1 = hs.2.2.1 + mc) (e2 : h'.2.2.2.1 = hs.2.2.2.1 + ms) (a0 : Nat) (hth : jTh hs a0 2) : ∀ (n : Nat) (x1 : Int32) (x2 : Int32) (x3 : Int32), ∀ (h : jH) (H : Heap) (locs : List Loc) (cells slots : Nat) (ls : Array Slot), (fX3_whole_4 N a0 n x1 x2 x3).1 h = some (r, h') → jS D dA H0 hs h H locs cells slots → lv_has ls 4 [(0, .ref a0), (1, .int x1), (2, .int x2), (3, .int x3)] → W p l e { frames := 124, cells := mc, slots := ms, locals := 2660 } s m args below meth c H locs cells slots (jQ D dA H0 below s (.returned (some (.int r))) h' mc ms) (F0 m 4 ls []) := by
  have hx := cx.1
  have hb := cx.2.1
  have hown := cx.2.2.2.1
  have hts := cx.2.2.2.2.1
  have hm : h'.2.2.1 ≤ hs.2.2.1 + mc ∧ h'.2.2.2.1 ≤ hs.2.2.2.1 + ms := ⟨Nat.le_of_eq e1, Nat.le_of_eq e2⟩
  intro n
  induction n with
  | zero =>
    intro x1 x2 x3 h H locs cells slots ls hf hS hl
    exact jE_f hf
  | succ n ih =>
    intro x1 x2 x3 h H locs cells slots ls hf hS hl
    unfold fX3_whole_4 at hf
    refine lv_iload_n (pc := 4) hx hb dX3_whole_4 rfl (lv_at hl 3 rfl) ?_
    refine lv_aload_n (pc := 5) hx hb dX3_whole_5 rfl (lv_at hl 0 rfl) ?_
    obtain ⟨y1, h1, e9, hf⟩ := jB_some hf
    refine j_callV (pc := 6) (st1 := [.int y1, .int x3]) (As := []) (rest := [.int x3]) cx hS rfl hl.1 hm (metX3_texts l _ _ _ _ (hth.at hS) e9) (jle hf) (hth.at hS) rfl (lw_V q1455 q1456 q1457 q114 q1458) pdX3_texts rfl rfl (Nat.le_of_ble_eq_true rfl) ⟨Nat.le_of_ble_eq_true rfl, Nat.le_of_ble_eq_true rfl⟩ dX3_whole_6 rfl (fun H locs cells slots hS => ?_)
    refine lv_icmp_ge (pc := 9) (tgt := 33) hx hb dX3_whole_9 (by decide) (fun hc => ?_) (fun hc => ?_)
    · have hf := jI_t hf hc
      exact wX3_whole_33 cx e1 e2 a0 hth _ _ _ _ _ _ _ hf hS (lv_sub hl [0, 2] rfl)
    · have hf := jI_f hf hc
      refine lv_aload_n (pc := 12) hx hb dX3_whole_12 rfl (lv_at hl 0 rfl) ?_
      refine lv_iload_n (pc := 13) hx hb dX3_whole_13 rfl (lv_at hl 3 rfl) ?_
      refine lv_iload_n (pc := 14) hx hb dX3_whole_14 rfl (lv_at hl 1 rfl) ?_
      obtain ⟨y2, h1, e9, hf⟩ := jB_some hf
      refine j_callV (pc := 15) (st1 := [.int y2]) (As := [.int x3, .int x1]) (rest := []) cx hS rfl hl.1 hm (metX3_isWhole l _ _ _ _ _ _ _ (hth.at hS) e9) (jle hf) (hth.at hS) rfl (lw_V q1459 q1306 q1307 q114 q1308) pdX3_isWhole rfl rfl (Nat.le_of_ble_eq_true rfl) ⟨Nat.le_of_ble_eq_true rfl, Nat.le_of_ble_eq_true rfl⟩ dX3_whole_15 rfl (fun H locs cells slots hS => ?_)
      refine lv_if_eq (pc := 18) (tgt := 27) hx hb dX3_whole_18 (by decide) (fun hc => ?_) (fun hc => ?_)
      · have hf := jI_t hf hc
        exact wX3_whole_27 cx e1 e2 a0 hth ih _ _ _ _ _ _ _ _ _ hf hS hl
      · have hf := jI_f hf hc
        refine lv_iload_n (pc := 21) hx hb dX3_whole_21 rfl (lv_at hl 2 rfl) ?_
        refine lv_iconst (pc := 22) (v := 1) hx hb dX3_whole_22 rfl ?_
        refine lv_iload_n (pc := 23) hx hb dX3_whole_23 rfl (lv_at hl 3 rfl) ?_
        refine lv_ishl (pc := 24) hx hb dX3_whole_24 ?_
        refine lv_ior (pc := 25) hx hb dX3_whole_25 ?_
        refine lv_istore_n (pc := 26) (i := 2) (lv' := [(2, .int (x2 ||| (1 <<< (x3 &&& 31)))), (0, .ref a0), (1, .int x1), (3, .int x3)]) hx hb dX3_whole_26 rfl hl (Nat.le_of_ble_eq_true rfl) rfl (fun ls hl => ?_)
        exact wX3_whole_27 cx e1 e2 a0 hth ih _ _ _ _ _ _ _ _ _ hf hS (lv_sub hl [1, 2, 0, 3] rfl)
theorem wX3_whole_0 {N : Nat} {r : Int32} (cx : jCx p s m args meth c cX3_whole "WornSkin$Shelf" 4 (Option.some Jvm.ClassFile.FieldType.int) D dA H0 hs.2.2.2.2) (e1 : h'.2.2.1 = hs.2.2.1 + mc) (e2 : h'.2.2.2.1 = hs.2.2.2.1 + ms) (a0 : Nat) (hth : jTh hs a0 2) : ∀ (x1 : Int32), ∀ (h : jH) (H : Heap) (locs : List Loc) (cells slots : Nat) (ls : Array Slot), (fX3_whole N a0 x1).1 h = some (r, h') → jS D dA H0 hs h H locs cells slots → lv_has ls 4 [(0, .ref a0), (1, .int x1)] → W p l e { frames := 124, cells := mc, slots := ms, locals := 2660 } s m args below meth c H locs cells slots (jQ D dA H0 below s (.returned (some (.int r))) h' mc ms) (F0 m 0 ls []) := by
  have hx := cx.1
  have hb := cx.2.1
  have hown := cx.2.2.2.1
  have hts := cx.2.2.2.2.1
  have hm : h'.2.2.1 ≤ hs.2.2.1 + mc ∧ h'.2.2.2.1 ≤ hs.2.2.2.1 + ms := ⟨Nat.le_of_eq e1, Nat.le_of_eq e2⟩
  intro x1 h H locs cells slots ls hf hS hl
  unfold fX3_whole at hf
  refine lv_iconst (pc := 0) (v := 0) hx hb dX3_whole_0 rfl ?_
  refine lv_istore_n (pc := 1) (i := 2) (lv' := [(2, .int 0), (0, .ref a0), (1, .int x1)]) hx hb dX3_whole_1 rfl hl (Nat.le_of_ble_eq_true rfl) rfl (fun ls hl => ?_)
  refine lv_iconst (pc := 2) (v := 0) hx hb dX3_whole_2 rfl ?_
  refine lv_istore_n (pc := 3) (i := 3) (lv' := [(3, .int 0), (2, .int 0), (0, .ref a0), (1, .int x1)]) hx hb dX3_whole_3 rfl hl (Nat.le_of_ble_eq_true rfl) rfl (fun ls hl => ?_)
  exact wX3_whole_4 cx e1 e2 a0 hth N _ _ _ _ _ _ _ _ _ hf hS (lv_sub hl [2, 3, 1, 0] rfl)
theorem metX3_whole (l : Launch) (N : Nat) (a0 : Nat) (x1 : Int32) (h h' : jH) (r : Int32) (hth : jcd h a0 = some 2) (hf : (fX3_whole N a0 x1).1 h = some (r, h')) : jMet l yX3_whole (ws_ yX3_whole cX3_whole 4 (Option.some Jvm.ClassFile.FieldType.int)) (124) (2660) [.ref a0, .int x1] h h' (.returned (some (.int r))) := by
  refine jStart rfl (jle hf) (Nat.le_of_ble_eq_true rfl) ?_
  intro p e s m below meth c D dA H0 mc ms ls cx hnm e1 e2 hS hl
  have hth := jTh.mk hS hth
  exact wX3_whole_0 cx e1 e2 a0 hth _ _ _ _ _ _ _ hf hS hl
def fX3_place_26 (N : Nat) (a0 : Nat) : jM Int32 := jR (-1)
def fX3_place_18 (N : Nat) (a0 : Nat) (x3 : Int32) : jM Int32 := jR x3
def fX3_place_2 (N : Nat) (a0 : Nat) : Nat → Int32 → Int32 → Int32 → jM Int32
  | 0, _, _, _ => jE
  | n + 1, x1, x2, x3 => if 6 ≤ x3 then (fX3_place_26 N a0) else (jB (fX3_mayWrite N a0 x1 x2 x3) fun y1 => if y1 = 0 then (fX3_place_2 N a0 n x1 x2 (x3 + 1)) else (fX3_place_18 N a0 x3))
def fX3_place (N : Nat) (a0 : Nat) (x1 : Int32) (x2 : Int32) : jM Int32 := fX3_place_2 N a0 N x1 x2 0
theorem wX3_place_26 {N : Nat} {r : Int32} (cx : jCx p s m args meth c cX3_place "WornSkin$Shelf" 4 (Option.some Jvm.ClassFile.FieldType.int) D dA H0 hs.2.2.2.2) (e1 : h'.2.2.1 = hs.2.2.1 + mc) (e2 : h'.2.2.2.1 = hs.2.2.2.1 + ms) (a0 : Nat) (hth : jTh hs a0 2) : ∀ (h : jH) (H : Heap) (locs : List Loc) (cells slots : Nat) (ls : Array Slot), (fX3_place_26 N a0).1 h = some (r, h') → jS D dA H0 hs h H locs cells slots → lv_has ls 4 [(0, .ref a0)] → W p l e { frames := 6, cells := mc, slots := ms, locals := 132 } s m args below meth c H locs cells slots (jQ D dA H0 below s (.returned (some (.int r))) h' mc ms) (F0 m 26 ls []) := by
  have hx := cx.1
  have hb := cx.2.1
  have hown := cx.2.2.2.1
  have hts := cx.2.2.2.2.1
  have hm : h'.2.2.1 ≤ hs.2.2.1 + mc ∧ h'.2.2.2.1 ≤ hs.2.2.2.1 + ms := ⟨Nat.le_of_eq e1, Nat.le_of_eq e2⟩
  intro h H locs cells slots ls hf hS hl
  unfold fX3_place_26 at hf
  refine lv_iconst (pc := 26) (v := (-1)) hx hb dX3_place_26 rfl ?_
  exact j_iret (pc := 27) cx hS hf e1 e2 dX3_place_27
theorem wX3_place_18 {N : Nat} {r : Int32} (cx : jCx p s m args meth c cX3_place "WornSkin$Shelf" 4 (Option.some Jvm.ClassFile.FieldType.int) D dA H0 hs.2.2.2.2) (e1 : h'.2.2.1 = hs.2.2.1 + mc) (e2 : h'.2.2.2.1 = hs.2.2.2.1 + ms) (a0 : Nat) (hth : jTh hs a0 2) : ∀ (x3 : Int32), ∀ (h : jH) (H : Heap) (locs : List Loc) (cells slots : Nat) (ls : Array Slot), (fX3_place_18 N a0 x3).1 h = some (r, h') → jS D dA H0 hs h H locs cells slots → lv_has ls 4 [(0, .ref a0), (3, .int x3)] → W p l e { frames := 6, cells := mc, slots := ms, locals := 132 } s m args below meth c H locs cells slots (jQ D dA H0 below s (.returned (some (.int r))) h' mc ms) (F0 m 18 ls []) := by
  have hx := cx.1
  have hb := cx.2.1
  have hown := cx.2.2.2.1
  have hts := cx.2.2.2.2.1
  have hm : h'.2.2.1 ≤ hs.2.2.1 + mc ∧ h'.2.2.2.1 ≤ hs.2.2.2.1 + ms := ⟨Nat.le_of_eq e1, Nat.le_of_eq e2⟩
  intro x3 h H locs cells slots ls hf hS hl
  unfold fX3_place_18 at hf
  refine lv_iload_n (pc := 18) hx hb dX3_place_18 rfl (lv_at hl 1 rfl) ?_
  exact j_iret (pc := 19) cx hS hf e1 e2 dX3_place_19
theorem wX3_place_2 {N : Nat} {r : Int32} (cx : jCx p s m args meth c cX3_place "WornSkin$Shelf" 4 (Option.some Jvm.ClassFile.FieldType.int) D dA H0 hs.2.2.2.2) (e1 : h'.2.2.1 = hs.2.2.1 + mc) (e2 : h'.2.2.2.1 = hs.2.2.2.1 + ms) (a0 : Nat) (hth : jTh hs a0 2) : ∀ (n : Nat) (x1 : Int32) (x2 : Int32) (x3 : Int32), ∀ (h : jH) (H : Heap) (locs : List Loc) (cells slots : Nat) (ls : Array Slot), (fX3_place_2 N a0 n x1 x2 x3).1 h = some (r, h') → jS D dA H0 hs h H locs cells slots → lv_has ls 4 [(0, .ref a0), (1, .int x1), (2, .int x2), (3, .int x3)] → W p l e { frames := 6, cells := mc, slots := ms, locals := 132 } s m args below meth c H locs cells slots (jQ D dA H0 below s (.returned (some (.int r))) h' mc ms) (F0 m 2 ls []) := by
  have hx := cx.1
  have hb := cx.2.1
  have hown := cx.2.2.2.1
  have hts := cx.2.2.2.2.1
  have hm : h'.2.2.1 ≤ hs.2.2.1 + mc ∧ h'.2.2.2.1 ≤ hs.2.2.2.1 + ms := ⟨Nat.le_of_eq e1, Nat.le_of_eq e2⟩
  intro n
  induction n with
  | zero =>
    intro x1 x2 x3 h H locs cells slots ls hf hS hl
    exact jE_f hf
  | succ n ih =>
    intro x1 x2 x3 h H locs cells slots ls hf hS hl
    unfold fX3_place_2 at hf
    refine lv_iload_n (pc := 2) hx hb dX3_place_2 rfl (lv_at hl 3 rfl) ?_
    refine lv_bipush (pc := 3) (v := 6) hx hb dX3_place_3 rfl ?_
    refine lv_icmp_ge (pc := 5) (tgt := 26) hx hb dX3_place_5 (by decide) (fun hc => ?_) (fun hc => ?_)
    · have hf := jI_t hf hc
      exact wX3_place_26 cx e1 e2 a0 hth _ _ _ _ _ _ hf hS (lv_sub hl [0] rfl)
    · have hf := jI_f hf hc
      refine lv_aload_n (pc := 8) hx hb dX3_place_8 rfl (lv_at hl 0 rfl) ?_
      refine lv_iload_n (pc := 9) hx hb dX3_place_9 rfl (lv_at hl 1 rfl) ?_
      refine lv_iload_n (pc := 10) hx hb dX3_place_10 rfl (lv_at hl 2 rfl) ?_
      refine lv_iload_n (pc := 11) hx hb dX3_place_11 rfl (lv_at hl 3 rfl) ?_
      obtain ⟨y1, h1, e9, hf⟩ := jB_some hf
      refine j_callV (pc := 12) (st1 := [.int y1]) (As := [.int x1, .int x2, .int x3]) (rest := []) cx hS rfl hl.1 hm (metX3_mayWrite l _ _ _ _ _ _ _ _ (hth.at hS) e9) (jle hf) (hth.at hS) rfl (lw_V q1496 q1337 q1338 q114 q1339) pdX3_mayWrite rfl rfl (Nat.le_of_ble_eq_true rfl) ⟨Nat.le_of_ble_eq_true rfl, Nat.le_of_ble_eq_true rfl⟩ dX3_place_12 rfl (fun H locs cells slots hS => ?_)
      refine lv_if_eq (pc := 15) (tgt := 20) hx hb dX3_place_15 (by decide) (fun hc => ?_) (fun hc => ?_)
      · have hf := jI_t hf hc
        refine lv_iinc (pc := 20) (v := (x3 + 1)) (lv' := [(3, .int (x3 + 1)), (0, .ref a0), (1, .int x1), (2, .int x2)]) hx hb dX3_place_20 hl (k := 3) rfl rfl (Nat.le_of_ble_eq_true rfl) rfl (fun ls hl => ?_)
        refine lv_goto (pc := 23) (tgt := 2) hx hb dX3_place_23 (by decide) ?_
        exact ih _ _ _ _ _ _ _ _ _ hf hS (lv_sub hl [1, 2, 3, 0] rfl)
      · have hf := jI_f hf hc
        exact wX3_place_18 cx e1 e2 a0 hth _ _ _ _ _ _ _ hf hS (lv_sub hl [0, 3] rfl)
theorem wX3_place_0 {N : Nat} {r : Int32} (cx : jCx p s m args meth c cX3_place "WornSkin$Shelf" 4 (Option.some Jvm.ClassFile.FieldType.int) D dA H0 hs.2.2.2.2) (e1 : h'.2.2.1 = hs.2.2.1 + mc) (e2 : h'.2.2.2.1 = hs.2.2.2.1 + ms) (a0 : Nat) (hth : jTh hs a0 2) : ∀ (x1 : Int32) (x2 : Int32), ∀ (h : jH) (H : Heap) (locs : List Loc) (cells slots : Nat) (ls : Array Slot), (fX3_place N a0 x1 x2).1 h = some (r, h') → jS D dA H0 hs h H locs cells slots → lv_has ls 4 [(0, .ref a0), (1, .int x1), (2, .int x2)] → W p l e { frames := 6, cells := mc, slots := ms, locals := 132 } s m args below meth c H locs cells slots (jQ D dA H0 below s (.returned (some (.int r))) h' mc ms) (F0 m 0 ls []) := by
  have hx := cx.1
  have hb := cx.2.1
  have hown := cx.2.2.2.1
  have hts := cx.2.2.2.2.1
  have hm : h'.2.2.1 ≤ hs.2.2.1 + mc ∧ h'.2.2.2.1 ≤ hs.2.2.2.1 + ms := ⟨Nat.le_of_eq e1, Nat.le_of_eq e2⟩
  intro x1 x2 h H locs cells slots ls hf hS hl
  unfold fX3_place at hf
  refine lv_iconst (pc := 0) (v := 0) hx hb dX3_place_0 rfl ?_
  refine lv_istore_n (pc := 1) (i := 3) (lv' := [(3, .int 0), (0, .ref a0), (1, .int x1), (2, .int x2)]) hx hb dX3_place_1 rfl hl (Nat.le_of_ble_eq_true rfl) rfl (fun ls hl => ?_)
  exact wX3_place_2 cx e1 e2 a0 hth N _ _ _ _ _ _ _ _ _ hf hS (lv_sub hl [1, 2, 3, 0] rfl)
theorem metX3_place (l : Launch) (N : Nat) (a0 : Nat) (x1 : Int32) (x2 : Int32) (h h' : jH) (r : Int32) (hth : jcd h a0 = some 2) (hf : (fX3_place N a0 x1 x2).1 h = some (r, h')) : jMet l yX3_place (ws_ yX3_place cX3_place 4 (Option.some Jvm.ClassFile.FieldType.int)) (6) (132) [.ref a0, .int x1, .int x2] h h' (.returned (some (.int r))) := by
  refine jStart rfl (jle hf) (Nat.le_of_ble_eq_true rfl) ?_
  intro p e s m below meth c D dA H0 mc ms ls cx hnm e1 e2 hS hl
  have hth := jTh.mk hS hth
  exact wX3_place_0 cx e1 e2 a0 hth _ _ _ _ _ _ _ _ hf hS hl
def fX3_over_65 (N : Nat) (a0 : Nat) (x3 : Int32) : jM Int32 := jR x3
def fX3_over_57 (N : Nat) (k8 : Int32 → Int32 → Int32 → Int32 → Int32 → jM Int32) (a0 : Nat) (x1 : Int32) (x2 : Int32) (x3 : Int32) (x5 : Int32) (v0 : Int32) : jM Int32 := k8 x1 x2 x3 v0 (x5 + 1)
def fX3_over_52 (N : Nat) (k8 : Int32 → Int32 → Int32 → Int32 → Int32 → jM Int32) (a0 : Nat) (x1 : Int32) (x2 : Int32) (x3 : Int32) (x5 : Int32) : jM Int32 := fX3_over_57 N k8 a0 x1 x2 x3 x5 1
def fX3_over_36 (N : Nat) (k8 : Int32 → Int32 → Int32 → Int32 → Int32 → jM Int32) (a0 : Nat) (x1 : Int32) (x2 : Int32) (x3 : Int32) (x4 : Int32) (x5 : Int32) : jM Int32 := if x4 = 0 then (jB (fX3_layer a0 x1 x5) fun y1 => if y1 = x2 then (fX3_over_52 N k8 a0 x1 x2 x3 x5) else (fX3_over_57 N k8 a0 x1 x2 x3 x5 0)) else (fX3_over_52 N k8 a0 x1 x2 x3 x5)
def fX3_over_8 (N : Nat) (a0 : Nat) : Nat → Int32 → Int32 → Int32 → Int32 → Int32 → jM Int32
  | 0, _, _, _, _, _ => jE
  | n + 1, x1, x2, x3, x4, x5 => jB (jgR [2] 5 (some a0)) fun y1 => jB (jaI 0 y1 x1) fun y2 => if y2 ≤ x5 then (fX3_over_65 N a0 x3) else (if x4 = 0 then (fX3_over_36 N (fX3_over_8 N a0 n) a0 x1 x2 x3 x4 x5) else (jB (fX3_layer a0 x1 x5) fun y3 => fX3_over_36 N (fX3_over_8 N a0 n) a0 x1 x2 (x3 ||| (1 <<< (y3 &&& 31))) x4 x5))
def fX3_over (N : Nat) (a0 : Nat) (x1 : Int32) (x2 : Int32) : jM Int32 := fX3_over_8 N a0 N x1 x2 0 0 0
theorem wX3_over_65 {N : Nat} {r : Int32} (cx : jCx p s m args meth c cX3_over "WornSkin$Shelf" 6 (Option.some Jvm.ClassFile.FieldType.int) D dA H0 hs.2.2.2.2) (e1 : h'.2.2.1 = hs.2.2.1 + mc) (e2 : h'.2.2.2.1 = hs.2.2.2.1 + ms) (a0 : Nat) (hth : jTh hs a0 2) : ∀ (x3 : Int32), ∀ (h : jH) (H : Heap) (locs : List Loc) (cells slots : Nat) (ls : Array Slot), (fX3_over_65 N a0 x3).1 h = some (r, h') → jS D dA H0 hs h H locs cells slots → lv_has ls 6 [(0, .ref a0), (3, .int x3)] → W p l e { frames := 1, cells := mc, slots := ms, locals := 22 } s m args below meth c H locs cells slots (jQ D dA H0 below s (.returned (some (.int r))) h' mc ms) (F0 m 65 ls []) := by
  have hx := cx.1
  have hb := cx.2.1
  have hown := cx.2.2.2.1
  have hts := cx.2.2.2.2.1
  have hm : h'.2.2.1 ≤ hs.2.2.1 + mc ∧ h'.2.2.2.1 ≤ hs.2.2.2.1 + ms := ⟨Nat.le_of_eq e1, Nat.le_of_eq e2⟩
  intro x3 h H locs cells slots ls hf hS hl
  unfold fX3_over_65 at hf
  refine lv_iload_n (pc := 65) hx hb dX3_over_65 rfl (lv_at hl 1 rfl) ?_
  exact j_iret (pc := 66) cx hS hf e1 e2 dX3_over_66
theorem wX3_over_57 {N : Nat} {k8 : Int32 → Int32 → Int32 → Int32 → Int32 → jM Int32} {r : Int32} (cx : jCx p s m args meth c cX3_over "WornSkin$Shelf" 6 (Option.some Jvm.ClassFile.FieldType.int) D dA H0 hs.2.2.2.2) (e1 : h'.2.2.1 = hs.2.2.1 + mc) (e2 : h'.2.2.2.1 = hs.2.2.2.1 + ms) (a0 : Nat) (hth : jTh hs a0 2) (hk8 : ∀ (x1 : Int32) (x2 : Int32) (x3 : Int32) (x4 : Int32) (x5 : Int32), ∀ (h : jH) (H : Heap) (locs : List Loc) (cells slots : Nat) (ls : Array Slot), (k8 x1 x2 x3 x4 x5).1 h = some (r, h') → jS D dA H0 hs h H locs cells slots → lv_has ls 6 [(0, .ref a0), (1, .int x1), (2, .int x2), (3, .int x3), (4, .int x4), (5, .int x5)] → W p l e { frames := 1, cells := mc, slots := ms, locals := 22 } s m args below meth c H locs cells slots (jQ D dA H0 below s (.returned (some (.int r))) h' mc ms) (F0 m 8 ls [])) : ∀ (x1 : Int32) (x2 : Int32) (x3 : Int32) (x5 : Int32) (v0 : Int32), ∀ (h : jH) (H : Heap) (locs : List Loc) (cells slots : Nat) (ls : Array Slot), (fX3_over_57 N k8 a0 x1 x2 x3 x5 v0).1 h = some (r, h') → jS D dA H0 hs h H locs cells slots → lv_has ls 6 [(0, .ref a0), (1, .int x1), (2, .int x2), (3, .int x3), (5, .int x5)] → W p l e { frames := 1, cells := mc, slots := ms, locals := 22 } s m args below meth c H locs cells slots (jQ D dA H0 below s (.returned (some (.int r))) h' mc ms) (F0 m 57 ls [.int v0]) := by
  have hx := cx.1
  have hb := cx.2.1
  have hown := cx.2.2.2.1
  have hts := cx.2.2.2.2.1
  have hm : h'.2.2.1 ≤ hs.2.2.1 + mc ∧ h'.2.2.2.1 ≤ hs.2.2.2.1 + ms := ⟨Nat.le_of_eq e1, Nat.le_of_eq e2⟩
  intro x1 x2 x3 x5 v0 h H locs cells slots ls hf hS hl
  unfold fX3_over_57 at hf
  refine lv_istore (pc := 57) (i := 4) (lv' := [(4, .int v0), (0, .ref a0), (1, .int x1), (2, .int x2), (3, .int x3), (5, .int x5)]) hx hb dX3_over_57 hl (Nat.le_of_ble_eq_true rfl) rfl (fun ls hl => ?_)
  refine lv_iinc (pc := 59) (v := (x5 + 1)) (lv' := [(5, .int (x5 + 1)), (4, .int v0), (0, .ref a0), (1, .int x1), (2, .int x2), (3, .int x3)]) hx hb dX3_over_59 hl (k := 5) rfl rfl (Nat.le_of_ble_eq_true rfl) rfl (fun ls hl => ?_)
  refine lv_goto (pc := 62) (tgt := 8) hx hb dX3_over_62 (by decide) ?_
  exact hk8 _ _ _ _ _ _ _ _ _ _ _ hf hS (lv_sub hl [2, 3, 4, 5, 1, 0] rfl)
theorem wX3_over_52 {N : Nat} {k8 : Int32 → Int32 → Int32 → Int32 → Int32 → jM Int32} {r : Int32} (cx : jCx p s m args meth c cX3_over "WornSkin$Shelf" 6 (Option.some Jvm.ClassFile.FieldType.int) D dA H0 hs.2.2.2.2) (e1 : h'.2.2.1 = hs.2.2.1 + mc) (e2 : h'.2.2.2.1 = hs.2.2.2.1 + ms) (a0 : Nat) (hth : jTh hs a0 2) (hk8 : ∀ (x1 : Int32) (x2 : Int32) (x3 : Int32) (x4 : Int32) (x5 : Int32), ∀ (h : jH) (H : Heap) (locs : List Loc) (cells slots : Nat) (ls : Array Slot), (k8 x1 x2 x3 x4 x5).1 h = some (r, h') → jS D dA H0 hs h H locs cells slots → lv_has ls 6 [(0, .ref a0), (1, .int x1), (2, .int x2), (3, .int x3), (4, .int x4), (5, .int x5)] → W p l e { frames := 1, cells := mc, slots := ms, locals := 22 } s m args below meth c H locs cells slots (jQ D dA H0 below s (.returned (some (.int r))) h' mc ms) (F0 m 8 ls [])) : ∀ (x1 : Int32) (x2 : Int32) (x3 : Int32) (x5 : Int32), ∀ (h : jH) (H : Heap) (locs : List Loc) (cells slots : Nat) (ls : Array Slot), (fX3_over_52 N k8 a0 x1 x2 x3 x5).1 h = some (r, h') → jS D dA H0 hs h H locs cells slots → lv_has ls 6 [(0, .ref a0), (1, .int x1), (2, .int x2), (3, .int x3), (5, .int x5)] → W p l e { frames := 1, cells := mc, slots := ms, locals := 22 } s m args below meth c H locs cells slots (jQ D dA H0 below s (.returned (some (.int r))) h' mc ms) (F0 m 52 ls []) := by
  have hx := cx.1
  have hb := cx.2.1
  have hown := cx.2.2.2.1
  have hts := cx.2.2.2.2.1
  have hm : h'.2.2.1 ≤ hs.2.2.1 + mc ∧ h'.2.2.2.1 ≤ hs.2.2.2.1 + ms := ⟨Nat.le_of_eq e1, Nat.le_of_eq e2⟩
  intro x1 x2 x3 x5 h H locs cells slots ls hf hS hl
  unfold fX3_over_52 at hf
  refine lv_iconst (pc := 52) (v := 1) hx hb dX3_over_52 rfl ?_
  refine lv_goto (pc := 53) (tgt := 57) hx hb dX3_over_53 (by decide) ?_
  exact wX3_over_57 cx e1 e2 a0 hth hk8 _ _ _ _ _ _ _ _ _ _ _ hf hS hl
theorem wX3_over_36 {N : Nat} {k8 : Int32 → Int32 → Int32 → Int32 → Int32 → jM Int32} {r : Int32} (cx : jCx p s m args meth c cX3_over "WornSkin$Shelf" 6 (Option.some Jvm.ClassFile.FieldType.int) D dA H0 hs.2.2.2.2) (e1 : h'.2.2.1 = hs.2.2.1 + mc) (e2 : h'.2.2.2.1 = hs.2.2.2.1 + ms) (a0 : Nat) (hth : jTh hs a0 2) (hk8 : ∀ (x1 : Int32) (x2 : Int32) (x3 : Int32) (x4 : Int32) (x5 : Int32), ∀ (h : jH) (H : Heap) (locs : List Loc) (cells slots : Nat) (ls : Array Slot), (k8 x1 x2 x3 x4 x5).1 h = some (r, h') → jS D dA H0 hs h H locs cells slots → lv_has ls 6 [(0, .ref a0), (1, .int x1), (2, .int x2), (3, .int x3), (4, .int x4), (5, .int x5)] → W p l e { frames := 1, cells := mc, slots := ms, locals := 22 } s m args below meth c H locs cells slots (jQ D dA H0 below s (.returned (some (.int r))) h' mc ms) (F0 m 8 ls [])) : ∀ (x1 : Int32) (x2 : Int32) (x3 : Int32) (x4 : Int32) (x5 : Int32), ∀ (h : jH) (H : Heap) (locs : List Loc) (cells slots : Nat) (ls : Array Slot), (fX3_over_36 N k8 a0 x1 x2 x3 x4 x5).1 h = some (r, h') → jS D dA H0 hs h H locs cells slots → lv_has ls 6 [(0, .ref a0), (1, .int x1), (2, .int x2), (3, .int x3), (4, .int x4), (5, .int x5)] → W p l e { frames := 1, cells := mc, slots := ms, locals := 22 } s m args below meth c H locs cells slots (jQ D dA H0 below s (.returned (some (.int r))) h' mc ms) (F0 m 36 ls []) := by
  have hx := cx.1
  have hb := cx.2.1
  have hown := cx.2.2.2.1
  have hts := cx.2.2.2.2.1
  have hm : h'.2.2.1 ≤ hs.2.2.1 + mc ∧ h'.2.2.2.1 ≤ hs.2.2.2.1 + ms := ⟨Nat.le_of_eq e1, Nat.le_of_eq e2⟩
  intro x1 x2 x3 x4 x5 h H locs cells slots ls hf hS hl
  unfold fX3_over_36 at hf
  refine lv_iload (pc := 36) hx hb dX3_over_36 (lv_at hl 4 rfl) ?_
  refine lv_if_ne (pc := 38) (tgt := 52) hx hb dX3_over_38 (by decide) (fun hc => ?_) (fun hc => ?_)
  · have hf := jI_f hf hc
    exact wX3_over_52 cx e1 e2 a0 hth hk8 _ _ _ _ _ _ _ _ _ _ hf hS (lv_sub hl [0, 1, 2, 3, 5] rfl)
  · have hf := jI_t hf hc
    refine lv_aload_n (pc := 41) hx hb dX3_over_41 rfl (lv_at hl 0 rfl) ?_
    refine lv_iload_n (pc := 42) hx hb dX3_over_42 rfl (lv_at hl 1 rfl) ?_
    refine lv_iload (pc := 43) hx hb dX3_over_43 (lv_at hl 5 rfl) ?_
    obtain ⟨y1, h1, e9, hf⟩ := jB_some hf
    refine j_callV (pc := 45) (st1 := [.int y1]) (As := [.int x1, .int x5]) (rest := []) cx hS rfl hl.1 hm (metX3_layer l _ _ _ _ _ _ (hth.at hS) e9) (jle hf) (hth.at hS) rfl (lw_V q1189 q1190 q1191 q114 q1192) pdX3_layer rfl rfl (Nat.le_of_ble_eq_true rfl) ⟨Nat.le_of_ble_eq_true rfl, Nat.le_of_ble_eq_true rfl⟩ dX3_over_45 rfl (fun H locs cells slots hS => ?_)
    refine lv_iload_n (pc := 48) hx hb dX3_over_48 rfl (lv_at hl 2 rfl) ?_
    refine lv_icmp_ne (pc := 49) (tgt := 56) hx hb dX3_over_49 (by decide) (fun hc => ?_) (fun hc => ?_)
    · have hf := jI_f hf hc
      refine lv_iconst (pc := 56) (v := 0) hx hb dX3_over_56 rfl ?_
      exact wX3_over_57 cx e1 e2 a0 hth hk8 _ _ _ _ _ _ _ _ _ _ _ hf hS (lv_sub hl [0, 1, 2, 3, 5] rfl)
    · have hf := jI_t hf hc
      exact wX3_over_52 cx e1 e2 a0 hth hk8 _ _ _ _ _ _ _ _ _ _ hf hS (lv_sub hl [0, 1, 2, 3, 5] rfl)
theorem wX3_over_8 {N : Nat} {r : Int32} (cx : jCx p s m args meth c cX3_over "WornSkin$Shelf" 6 (Option.some Jvm.ClassFile.FieldType.int) D dA H0 hs.2.2.2.2) (e1 : h'.2.2.1 = hs.2.2.1 + mc) (e2 : h'.2.2.2.1 = hs.2.2.2.1 + ms) (a0 : Nat) (hth : jTh hs a0 2) : ∀ (n : Nat) (x1 : Int32) (x2 : Int32) (x3 : Int32) (x4 : Int32) (x5 : Int32), ∀ (h : jH) (H : Heap) (locs : List Loc) (cells slots : Nat) (ls : Array Slot), (fX3_over_8 N a0 n x1 x2 x3 x4 x5).1 h = some (r, h') → jS D dA H0 hs h H locs cells slots → lv_has ls 6 [(0, .ref a0), (1, .int x1), (2, .int x2), (3, .int x3), (4, .int x4), (5, .int x5)] → W p l e { frames := 1, cells := mc, slots := ms, locals := 22 } s m args below meth c H locs cells slots (jQ D dA H0 below s (.returned (some (.int r))) h' mc ms) (F0 m 8 ls []) := by
  have hx := cx.1
  have hb := cx.2.1
  have hown := cx.2.2.2.1
  have hts := cx.2.2.2.2.1
  have hm : h'.2.2.1 ≤ hs.2.2.1 + mc ∧ h'.2.2.2.1 ≤ hs.2.2.2.1 + ms := ⟨Nat.le_of_eq e1, Nat.le_of_eq e2⟩
  intro n
  induction n with
  | zero =>
    intro x1 x2 x3 x4 x5 h H locs cells slots ls hf hS hl
    exact jE_f hf
  | succ n ih =>
    intro x1 x2 x3 x4 x5 h H locs cells slots ls hf hS hl
    unfold fX3_over_8 at hf
    refine lv_iload (pc := 8) hx hb dX3_over_8 (lv_at hl 5 rfl) ?_
    refine lv_aload_n (pc := 10) hx hb dX3_over_10 rfl (lv_at hl 0 rfl) ?_
    refine j_gR (pc := 11) cx hS hf fd_WornSkin_Shelf_many q266 dX3_over_11 (fun y1 hf => ?_)
    refine lv_iload_n (pc := 14) hx hb dX3_over_14 rfl (lv_at hl 1 rfl) ?_
    refine j_aI (pc := 15) cx hS hf rfl dX3_over_15 (fun y2 hf => ?_)
    refine lv_icmp_ge (pc := 16) (tgt := 65) hx hb dX3_over_16 (by decide) (fun hc => ?_) (fun hc => ?_)
    · have hf := jI_t hf hc
      exact wX3_over_65 cx e1 e2 a0 hth _ _ _ _ _ _ _ hf hS (lv_sub hl [0, 3] rfl)
    · have hf := jI_f hf hc
      refine lv_iload (pc := 19) hx hb dX3_over_19 (lv_at hl 4 rfl) ?_
      refine lv_if_eq (pc := 21) (tgt := 36) hx hb dX3_over_21 (by decide) (fun hc => ?_) (fun hc => ?_)
      · have hf := jI_t hf hc
        exact wX3_over_36 cx e1 e2 a0 hth ih _ _ _ _ _ _ _ _ _ _ _ hf hS hl
      · have hf := jI_f hf hc
        refine lv_iload_n (pc := 24) hx hb dX3_over_24 rfl (lv_at hl 3 rfl) ?_
        refine lv_iconst (pc := 25) (v := 1) hx hb dX3_over_25 rfl ?_
        refine lv_aload_n (pc := 26) hx hb dX3_over_26 rfl (lv_at hl 0 rfl) ?_
        refine lv_iload_n (pc := 27) hx hb dX3_over_27 rfl (lv_at hl 1 rfl) ?_
        refine lv_iload (pc := 28) hx hb dX3_over_28 (lv_at hl 5 rfl) ?_
        obtain ⟨y3, h1, e9, hf⟩ := jB_some hf
        refine j_callV (pc := 30) (st1 := [.int y3, .int 1, .int x3]) (As := [.int x1, .int x5]) (rest := [.int 1, .int x3]) cx hS rfl hl.1 hm (metX3_layer l _ _ _ _ _ _ (hth.at hS) e9) (jle hf) (hth.at hS) rfl (lw_V q1189 q1190 q1191 q114 q1192) pdX3_layer rfl rfl (Nat.le_of_ble_eq_true rfl) ⟨Nat.le_of_ble_eq_true rfl, Nat.le_of_ble_eq_true rfl⟩ dX3_over_30 rfl (fun H locs cells slots hS => ?_)
        refine lv_ishl (pc := 33) hx hb dX3_over_33 ?_
        refine lv_ior (pc := 34) hx hb dX3_over_34 ?_
        refine lv_istore_n (pc := 35) (i := 3) (lv' := [(3, .int (x3 ||| (1 <<< (y3 &&& 31)))), (0, .ref a0), (1, .int x1), (2, .int x2), (4, .int x4), (5, .int x5)]) hx hb dX3_over_35 rfl hl (Nat.le_of_ble_eq_true rfl) rfl (fun ls hl => ?_)
        exact wX3_over_36 cx e1 e2 a0 hth ih _ _ _ _ _ _ _ _ _ _ _ hf hS (lv_sub hl [1, 2, 3, 0, 4, 5] rfl)
theorem wX3_over_0 {N : Nat} {r : Int32} (cx : jCx p s m args meth c cX3_over "WornSkin$Shelf" 6 (Option.some Jvm.ClassFile.FieldType.int) D dA H0 hs.2.2.2.2) (e1 : h'.2.2.1 = hs.2.2.1 + mc) (e2 : h'.2.2.2.1 = hs.2.2.2.1 + ms) (a0 : Nat) (hth : jTh hs a0 2) : ∀ (x1 : Int32) (x2 : Int32), ∀ (h : jH) (H : Heap) (locs : List Loc) (cells slots : Nat) (ls : Array Slot), (fX3_over N a0 x1 x2).1 h = some (r, h') → jS D dA H0 hs h H locs cells slots → lv_has ls 6 [(0, .ref a0), (1, .int x1), (2, .int x2)] → W p l e { frames := 1, cells := mc, slots := ms, locals := 22 } s m args below meth c H locs cells slots (jQ D dA H0 below s (.returned (some (.int r))) h' mc ms) (F0 m 0 ls []) := by
  have hx := cx.1
  have hb := cx.2.1
  have hown := cx.2.2.2.1
  have hts := cx.2.2.2.2.1
  have hm : h'.2.2.1 ≤ hs.2.2.1 + mc ∧ h'.2.2.2.1 ≤ hs.2.2.2.1 + ms := ⟨Nat.le_of_eq e1, Nat.le_of_eq e2⟩
  intro x1 x2 h H locs cells slots ls hf hS hl
  unfold fX3_over at hf
  refine lv_iconst (pc := 0) (v := 0) hx hb dX3_over_0 rfl ?_
  refine lv_istore_n (pc := 1) (i := 3) (lv' := [(3, .int 0), (0, .ref a0), (1, .int x1), (2, .int x2)]) hx hb dX3_over_1 rfl hl (Nat.le_of_ble_eq_true rfl) rfl (fun ls hl => ?_)
  refine lv_iconst (pc := 2) (v := 0) hx hb dX3_over_2 rfl ?_
  refine lv_istore (pc := 3) (i := 4) (lv' := [(4, .int 0), (3, .int 0), (0, .ref a0), (1, .int x1), (2, .int x2)]) hx hb dX3_over_3 hl (Nat.le_of_ble_eq_true rfl) rfl (fun ls hl => ?_)
  refine lv_iconst (pc := 5) (v := 0) hx hb dX3_over_5 rfl ?_
  refine lv_istore (pc := 6) (i := 5) (lv' := [(5, .int 0), (4, .int 0), (3, .int 0), (0, .ref a0), (1, .int x1), (2, .int x2)]) hx hb dX3_over_6 hl (Nat.le_of_ble_eq_true rfl) rfl (fun ls hl => ?_)
  exact wX3_over_8 cx e1 e2 a0 hth N _ _ _ _ _ _ _ _ _ _ _ hf hS (lv_sub hl [3, 4, 5, 2, 1, 0] rfl)
theorem metX3_over (l : Launch) (N : Nat) (a0 : Nat) (x1 : Int32) (x2 : Int32) (h h' : jH) (r : Int32) (hth : jcd h a0 = some 2) (hf : (fX3_over N a0 x1 x2).1 h = some (r, h')) : jMet l yX3_over (ws_ yX3_over cX3_over 6 (Option.some Jvm.ClassFile.FieldType.int)) (1) (22) [.ref a0, .int x1, .int x2] h h' (.returned (some (.int r))) := by
  refine jStart rfl (jle hf) (Nat.le_of_ble_eq_true rfl) ?_
  intro p e s m below meth c D dA H0 mc ms ls cx hnm e1 e2 hS hl
  have hth := jTh.mk hS hth
  exact wX3_over_0 cx e1 e2 a0 hth _ _ _ _ _ _ _ _ hf hS hl
def fX3_areLike_44 (a0 : Nat) (v0 : Int32) : jM Int32 := jRn .boolean v0
def fX3_areLike_43 (a0 : Nat) : jM Int32 := fX3_areLike_44 a0 0
def fX3_areLike (a0 : Nat) (x1 : Int32) (x2 : Int32) : jM Int32 := jB (jgR [2] 5 (some a0)) fun y1 => jB (jaI 0 y1 x1) fun y2 => if y2 ≤ 0 then (fX3_areLike_43 a0) else (jB (jgR [2] 5 (some a0)) fun y3 => jB (jaI 0 y3 x1) fun y4 => jB (jgR [2] 5 (some a0)) fun y5 => jB (jaI 0 y5 x2) fun y6 => if y4 = y6 then (jB (jgR [2] 4 (some a0)) fun y7 => jB (jaI 0 y7 x1) fun y8 => jB (jgR [2] 4 (some a0)) fun y9 => jB (jaI 0 y9 x2) fun y10 => if y8 = y10 then (fX3_areLike_44 a0 1) else (fX3_areLike_43 a0)) else (fX3_areLike_43 a0))
theorem wX3_areLike_44 {r : Int32} (cx : jCx p s m args meth c cX3_areLike "WornSkin$Shelf" 3 (Option.some Jvm.ClassFile.FieldType.boolean) D dA H0 hs.2.2.2.2) (e1 : h'.2.2.1 = hs.2.2.1 + mc) (e2 : h'.2.2.2.1 = hs.2.2.2.1 + ms) (a0 : Nat) (hth : jTh hs a0 2) : ∀ (v0 : Int32), ∀ (h : jH) (H : Heap) (locs : List Loc) (cells slots : Nat) (ls : Array Slot), (fX3_areLike_44 a0 v0).1 h = some (r, h') → jS D dA H0 hs h H locs cells slots → lv_has ls 3 [(0, .ref a0)] → W p l e { frames := 0, cells := mc, slots := ms, locals := 0 } s m args below meth c H locs cells slots (jQ D dA H0 below s (.returned (some (.int r))) h' mc ms) (F0 m 44 ls [.int v0]) := by
  have hx := cx.1
  have hb := cx.2.1
  have hown := cx.2.2.2.1
  have hts := cx.2.2.2.2.1
  have hm : h'.2.2.1 ≤ hs.2.2.1 + mc ∧ h'.2.2.2.1 ≤ hs.2.2.2.1 + ms := ⟨Nat.le_of_eq e1, Nat.le_of_eq e2⟩
  intro v0 h H locs cells slots ls hf hS hl
  unfold fX3_areLike_44 at hf
  exact j_zret (pc := 44) cx (Or.inl rfl) hS hf e1 e2 dX3_areLike_44
theorem wX3_areLike_43 {r : Int32} (cx : jCx p s m args meth c cX3_areLike "WornSkin$Shelf" 3 (Option.some Jvm.ClassFile.FieldType.boolean) D dA H0 hs.2.2.2.2) (e1 : h'.2.2.1 = hs.2.2.1 + mc) (e2 : h'.2.2.2.1 = hs.2.2.2.1 + ms) (a0 : Nat) (hth : jTh hs a0 2) : ∀ (h : jH) (H : Heap) (locs : List Loc) (cells slots : Nat) (ls : Array Slot), (fX3_areLike_43 a0).1 h = some (r, h') → jS D dA H0 hs h H locs cells slots → lv_has ls 3 [(0, .ref a0)] → W p l e { frames := 0, cells := mc, slots := ms, locals := 0 } s m args below meth c H locs cells slots (jQ D dA H0 below s (.returned (some (.int r))) h' mc ms) (F0 m 43 ls []) := by
  have hx := cx.1
  have hb := cx.2.1
  have hown := cx.2.2.2.1
  have hts := cx.2.2.2.2.1
  have hm : h'.2.2.1 ≤ hs.2.2.1 + mc ∧ h'.2.2.2.1 ≤ hs.2.2.2.1 + ms := ⟨Nat.le_of_eq e1, Nat.le_of_eq e2⟩
  intro h H locs cells slots ls hf hS hl
  unfold fX3_areLike_43 at hf
  refine lv_iconst (pc := 43) (v := 0) hx hb dX3_areLike_43 rfl ?_
  exact wX3_areLike_44 cx e1 e2 a0 hth _ _ _ _ _ _ _ hf hS hl
theorem wX3_areLike_0 {r : Int32} (cx : jCx p s m args meth c cX3_areLike "WornSkin$Shelf" 3 (Option.some Jvm.ClassFile.FieldType.boolean) D dA H0 hs.2.2.2.2) (e1 : h'.2.2.1 = hs.2.2.1 + mc) (e2 : h'.2.2.2.1 = hs.2.2.2.1 + ms) (a0 : Nat) (hth : jTh hs a0 2) : ∀ (x1 : Int32) (x2 : Int32), ∀ (h : jH) (H : Heap) (locs : List Loc) (cells slots : Nat) (ls : Array Slot), (fX3_areLike a0 x1 x2).1 h = some (r, h') → jS D dA H0 hs h H locs cells slots → lv_has ls 3 [(0, .ref a0), (1, .int x1), (2, .int x2)] → W p l e { frames := 0, cells := mc, slots := ms, locals := 0 } s m args below meth c H locs cells slots (jQ D dA H0 below s (.returned (some (.int r))) h' mc ms) (F0 m 0 ls []) := by
  have hx := cx.1
  have hb := cx.2.1
  have hown := cx.2.2.2.1
  have hts := cx.2.2.2.2.1
  have hm : h'.2.2.1 ≤ hs.2.2.1 + mc ∧ h'.2.2.2.1 ≤ hs.2.2.2.1 + ms := ⟨Nat.le_of_eq e1, Nat.le_of_eq e2⟩
  intro x1 x2 h H locs cells slots ls hf hS hl
  unfold fX3_areLike at hf
  refine lv_aload_n (pc := 0) hx hb dX3_areLike_0 rfl (lv_at hl 0 rfl) ?_
  refine j_gR (pc := 1) cx hS hf fd_WornSkin_Shelf_many q266 dX3_areLike_1 (fun y1 hf => ?_)
  refine lv_iload_n (pc := 4) hx hb dX3_areLike_4 rfl (lv_at hl 1 rfl) ?_
  refine j_aI (pc := 5) cx hS hf rfl dX3_areLike_5 (fun y2 hf => ?_)
  refine lv_if_le (pc := 6) (tgt := 43) hx hb dX3_areLike_6 (by decide) (fun hc => ?_) (fun hc => ?_)
  · have hf := jI_t hf hc
    exact wX3_areLike_43 cx e1 e2 a0 hth _ _ _ _ _ _ hf hS (lv_sub hl [0] rfl)
  · have hf := jI_f hf hc
    refine lv_aload_n (pc := 9) hx hb dX3_areLike_9 rfl (lv_at hl 0 rfl) ?_
    refine j_gR (pc := 10) cx hS hf fd_WornSkin_Shelf_many q266 dX3_areLike_10 (fun y3 hf => ?_)
    refine lv_iload_n (pc := 13) hx hb dX3_areLike_13 rfl (lv_at hl 1 rfl) ?_
    refine j_aI (pc := 14) cx hS hf rfl dX3_areLike_14 (fun y4 hf => ?_)
    refine lv_aload_n (pc := 15) hx hb dX3_areLike_15 rfl (lv_at hl 0 rfl) ?_
    refine j_gR (pc := 16) cx hS hf fd_WornSkin_Shelf_many q266 dX3_areLike_16 (fun y5 hf => ?_)
    refine lv_iload_n (pc := 19) hx hb dX3_areLike_19 rfl (lv_at hl 2 rfl) ?_
    refine j_aI (pc := 20) cx hS hf rfl dX3_areLike_20 (fun y6 hf => ?_)
    refine lv_icmp_ne (pc := 21) (tgt := 43) hx hb dX3_areLike_21 (by decide) (fun hc => ?_) (fun hc => ?_)
    · have hf := jI_f hf hc
      exact wX3_areLike_43 cx e1 e2 a0 hth _ _ _ _ _ _ hf hS (lv_sub hl [0] rfl)
    · have hf := jI_t hf hc
      refine lv_aload_n (pc := 24) hx hb dX3_areLike_24 rfl (lv_at hl 0 rfl) ?_
      refine j_gR (pc := 25) cx hS hf fd_WornSkin_Shelf_of q264 dX3_areLike_25 (fun y7 hf => ?_)
      refine lv_iload_n (pc := 28) hx hb dX3_areLike_28 rfl (lv_at hl 1 rfl) ?_
      refine j_aI (pc := 29) cx hS hf rfl dX3_areLike_29 (fun y8 hf => ?_)
      refine lv_aload_n (pc := 30) hx hb dX3_areLike_30 rfl (lv_at hl 0 rfl) ?_
      refine j_gR (pc := 31) cx hS hf fd_WornSkin_Shelf_of q264 dX3_areLike_31 (fun y9 hf => ?_)
      refine lv_iload_n (pc := 34) hx hb dX3_areLike_34 rfl (lv_at hl 2 rfl) ?_
      refine j_aI (pc := 35) cx hS hf rfl dX3_areLike_35 (fun y10 hf => ?_)
      refine lv_icmp_ne (pc := 36) (tgt := 43) hx hb dX3_areLike_36 (by decide) (fun hc => ?_) (fun hc => ?_)
      · have hf := jI_f hf hc
        exact wX3_areLike_43 cx e1 e2 a0 hth _ _ _ _ _ _ hf hS (lv_sub hl [0] rfl)
      · have hf := jI_t hf hc
        refine lv_iconst (pc := 39) (v := 1) hx hb dX3_areLike_39 rfl ?_
        refine lv_goto (pc := 40) (tgt := 44) hx hb dX3_areLike_40 (by decide) ?_
        exact wX3_areLike_44 cx e1 e2 a0 hth _ _ _ _ _ _ _ hf hS (lv_sub hl [0] rfl)
theorem metX3_areLike (l : Launch) (a0 : Nat) (x1 : Int32) (x2 : Int32) (h h' : jH) (r : Int32) (hth : jcd h a0 = some 2) (hf : (fX3_areLike a0 x1 x2).1 h = some (r, h')) : jMet l yX3_areLike (ws_ yX3_areLike cX3_areLike 3 (Option.some Jvm.ClassFile.FieldType.boolean)) (0) (0) [.ref a0, .int x1, .int x2] h h' (.returned (some (.int r))) := by
  refine jStart rfl (jle hf) (Nat.le_of_ble_eq_true rfl) ?_
  intro p e s m below meth c D dA H0 mc ms ls cx hnm e1 e2 hS hl
  have hth := jTh.mk hS hth
  exact wX3_areLike_0 cx e1 e2 a0 hth _ _ _ _ _ _ _ _ hf hS hl
def fX3_thickness_27 (N : Nat) (a0 : Nat) (x1 : Int32) : jM Int32 := jR x1
def fX3_thickness_4 (N : Nat) (a0 : Nat) : Nat → Int32 → Int32 → jM Int32
  | 0, _, _ => jE
  | n + 1, x1, x2 => jB (fX3_skins a0) fun y1 => if y1 ≤ x2 then (fX3_thickness_27 N a0 x1) else (jB (jgR [2] 3 (some a0)) fun y2 => jB (jaI 0 y2 x2) fun y3 => fX3_thickness_4 N a0 n (x1 + y3) (x2 + 1))
def fX3_thickness (N : Nat) (a0 : Nat) : jM Int32 := fX3_thickness_4 N a0 N 0 0
theorem wX3_thickness_27 {N : Nat} {r : Int32} (cx : jCx p s m args meth c cX3_thickness "WornSkin$Shelf" 3 (Option.some Jvm.ClassFile.FieldType.int) D dA H0 hs.2.2.2.2) (e1 : h'.2.2.1 = hs.2.2.1 + mc) (e2 : h'.2.2.2.1 = hs.2.2.2.1 + ms) (a0 : Nat) (hth : jTh hs a0 2) : ∀ (x1 : Int32), ∀ (h : jH) (H : Heap) (locs : List Loc) (cells slots : Nat) (ls : Array Slot), (fX3_thickness_27 N a0 x1).1 h = some (r, h') → jS D dA H0 hs h H locs cells slots → lv_has ls 3 [(0, .ref a0), (1, .int x1)] → W p l e { frames := 2, cells := mc, slots := ms, locals := 40 } s m args below meth c H locs cells slots (jQ D dA H0 below s (.returned (some (.int r))) h' mc ms) (F0 m 27 ls []) := by
  have hx := cx.1
  have hb := cx.2.1
  have hown := cx.2.2.2.1
  have hts := cx.2.2.2.2.1
  have hm : h'.2.2.1 ≤ hs.2.2.1 + mc ∧ h'.2.2.2.1 ≤ hs.2.2.2.1 + ms := ⟨Nat.le_of_eq e1, Nat.le_of_eq e2⟩
  intro x1 h H locs cells slots ls hf hS hl
  unfold fX3_thickness_27 at hf
  refine lv_iload_n (pc := 27) hx hb dX3_thickness_27 rfl (lv_at hl 1 rfl) ?_
  exact j_iret (pc := 28) cx hS hf e1 e2 dX3_thickness_28
theorem wX3_thickness_4 {N : Nat} {r : Int32} (cx : jCx p s m args meth c cX3_thickness "WornSkin$Shelf" 3 (Option.some Jvm.ClassFile.FieldType.int) D dA H0 hs.2.2.2.2) (e1 : h'.2.2.1 = hs.2.2.1 + mc) (e2 : h'.2.2.2.1 = hs.2.2.2.1 + ms) (a0 : Nat) (hth : jTh hs a0 2) : ∀ (n : Nat) (x1 : Int32) (x2 : Int32), ∀ (h : jH) (H : Heap) (locs : List Loc) (cells slots : Nat) (ls : Array Slot), (fX3_thickness_4 N a0 n x1 x2).1 h = some (r, h') → jS D dA H0 hs h H locs cells slots → lv_has ls 3 [(0, .ref a0), (1, .int x1), (2, .int x2)] → W p l e { frames := 2, cells := mc, slots := ms, locals := 40 } s m args below meth c H locs cells slots (jQ D dA H0 below s (.returned (some (.int r))) h' mc ms) (F0 m 4 ls []) := by
  have hx := cx.1
  have hb := cx.2.1
  have hown := cx.2.2.2.1
  have hts := cx.2.2.2.2.1
  have hm : h'.2.2.1 ≤ hs.2.2.1 + mc ∧ h'.2.2.2.1 ≤ hs.2.2.2.1 + ms := ⟨Nat.le_of_eq e1, Nat.le_of_eq e2⟩
  intro n
  induction n with
  | zero =>
    intro x1 x2 h H locs cells slots ls hf hS hl
    exact jE_f hf
  | succ n ih =>
    intro x1 x2 h H locs cells slots ls hf hS hl
    unfold fX3_thickness_4 at hf
    refine lv_iload_n (pc := 4) hx hb dX3_thickness_4 rfl (lv_at hl 2 rfl) ?_
    refine lv_aload_n (pc := 5) hx hb dX3_thickness_5 rfl (lv_at hl 0 rfl) ?_
    obtain ⟨y1, h1, e9, hf⟩ := jB_some hf
    refine j_callV (pc := 6) (st1 := [.int y1, .int x2]) (As := []) (rest := [.int x2]) cx hS rfl hl.1 hm (metX3_skins l _ _ _ _ (hth.at hS) e9) (jle hf) (hth.at hS) rfl (lw_V q371 q372 q373 q114 q374) pdX3_skins rfl rfl (Nat.le_of_ble_eq_true rfl) ⟨Nat.le_of_ble_eq_true rfl, Nat.le_of_ble_eq_true rfl⟩ dX3_thickness_6 rfl (fun H locs cells slots hS => ?_)
    refine lv_icmp_ge (pc := 9) (tgt := 27) hx hb dX3_thickness_9 (by decide) (fun hc => ?_) (fun hc => ?_)
    · have hf := jI_t hf hc
      exact wX3_thickness_27 cx e1 e2 a0 hth _ _ _ _ _ _ _ hf hS (lv_sub hl [0, 1] rfl)
    · have hf := jI_f hf hc
      refine lv_iload_n (pc := 12) hx hb dX3_thickness_12 rfl (lv_at hl 1 rfl) ?_
      refine lv_aload_n (pc := 13) hx hb dX3_thickness_13 rfl (lv_at hl 0 rfl) ?_
      refine j_gR (pc := 14) cx hS hf fd_WornSkin_Shelf_thick q262 dX3_thickness_14 (fun y2 hf => ?_)
      refine lv_iload_n (pc := 17) hx hb dX3_thickness_17 rfl (lv_at hl 2 rfl) ?_
      refine j_aI (pc := 18) cx hS hf rfl dX3_thickness_18 (fun y3 hf => ?_)
      refine lv_iadd (pc := 19) hx hb dX3_thickness_19 ?_
      refine lv_istore_n (pc := 20) (i := 1) (lv' := [(1, .int (x1 + y3)), (0, .ref a0), (2, .int x2)]) hx hb dX3_thickness_20 rfl hl (Nat.le_of_ble_eq_true rfl) rfl (fun ls hl => ?_)
      refine lv_iinc (pc := 21) (v := (x2 + 1)) (lv' := [(2, .int (x2 + 1)), (1, .int (x1 + y3)), (0, .ref a0)]) hx hb dX3_thickness_21 hl (k := 2) rfl rfl (Nat.le_of_ble_eq_true rfl) rfl (fun ls hl => ?_)
      refine lv_goto (pc := 24) (tgt := 4) hx hb dX3_thickness_24 (by decide) ?_
      exact ih _ _ _ _ _ _ _ _ hf hS (lv_sub hl [2, 1, 0] rfl)
theorem wX3_thickness_0 {N : Nat} {r : Int32} (cx : jCx p s m args meth c cX3_thickness "WornSkin$Shelf" 3 (Option.some Jvm.ClassFile.FieldType.int) D dA H0 hs.2.2.2.2) (e1 : h'.2.2.1 = hs.2.2.1 + mc) (e2 : h'.2.2.2.1 = hs.2.2.2.1 + ms) (a0 : Nat) (hth : jTh hs a0 2) : ∀ (h : jH) (H : Heap) (locs : List Loc) (cells slots : Nat) (ls : Array Slot), (fX3_thickness N a0).1 h = some (r, h') → jS D dA H0 hs h H locs cells slots → lv_has ls 3 [(0, .ref a0)] → W p l e { frames := 2, cells := mc, slots := ms, locals := 40 } s m args below meth c H locs cells slots (jQ D dA H0 below s (.returned (some (.int r))) h' mc ms) (F0 m 0 ls []) := by
  have hx := cx.1
  have hb := cx.2.1
  have hown := cx.2.2.2.1
  have hts := cx.2.2.2.2.1
  have hm : h'.2.2.1 ≤ hs.2.2.1 + mc ∧ h'.2.2.2.1 ≤ hs.2.2.2.1 + ms := ⟨Nat.le_of_eq e1, Nat.le_of_eq e2⟩
  intro h H locs cells slots ls hf hS hl
  unfold fX3_thickness at hf
  refine lv_iconst (pc := 0) (v := 0) hx hb dX3_thickness_0 rfl ?_
  refine lv_istore_n (pc := 1) (i := 1) (lv' := [(1, .int 0), (0, .ref a0)]) hx hb dX3_thickness_1 rfl hl (Nat.le_of_ble_eq_true rfl) rfl (fun ls hl => ?_)
  refine lv_iconst (pc := 2) (v := 0) hx hb dX3_thickness_2 rfl ?_
  refine lv_istore_n (pc := 3) (i := 2) (lv' := [(2, .int 0), (1, .int 0), (0, .ref a0)]) hx hb dX3_thickness_3 rfl hl (Nat.le_of_ble_eq_true rfl) rfl (fun ls hl => ?_)
  exact wX3_thickness_4 cx e1 e2 a0 hth N _ _ _ _ _ _ _ _ hf hS (lv_sub hl [2, 1, 0] rfl)
theorem metX3_thickness (l : Launch) (N : Nat) (a0 : Nat) (h h' : jH) (r : Int32) (hth : jcd h a0 = some 2) (hf : (fX3_thickness N a0).1 h = some (r, h')) : jMet l yX3_thickness (ws_ yX3_thickness cX3_thickness 3 (Option.some Jvm.ClassFile.FieldType.int)) (2) (40) [.ref a0] h h' (.returned (some (.int r))) := by
  refine jStart rfl (jle hf) (Nat.le_of_ble_eq_true rfl) ?_
  intro p e s m below meth c D dA H0 mc ms ls cx hnm e1 e2 hS hl
  have hth := jTh.mk hS hth
  exact wX3_thickness_0 cx e1 e2 a0 hth  _ _ _ _ _ _ hf hS hl
def fX28_isDone (a0 : Nat) (x1 : Option Nat) : jM Int32 := jB (jgI [2] 1 x1) fun y1 => jB (jpI [2] 1 x1 (y1 + 1)) fun _ => jRn .boolean 1
theorem wX28_isDone_0 {r : Int32} (cx : jCx p s m args meth c cX28_isDone "WornSkin$Weeks" 2 (Option.some Jvm.ClassFile.FieldType.boolean) D dA H0 hs.2.2.2.2) (e1 : h'.2.2.1 = hs.2.2.1 + mc) (e2 : h'.2.2.2.1 = hs.2.2.2.1 + ms) (a0 : Nat) : ∀ (x1 : Option Nat), ∀ (h : jH) (H : Heap) (locs : List Loc) (cells slots : Nat) (ls : Array Slot), (fX28_isDone a0 x1).1 h = some (r, h') → jS D dA H0 hs h H locs cells slots → lv_has ls 2 [(0, .ref a0), (1, va_rf x1)] → W p l e { frames := 6, cells := mc, slots := ms, locals := 132 } s m args below meth c H locs cells slots (jQ D dA H0 below s (.returned (some (.int r))) h' mc ms) (F0 m 0 ls []) := by
  have hx := cx.1
  have hb := cx.2.1
  have hown := cx.2.2.2.1
  have hts := cx.2.2.2.2.1
  have hm : h'.2.2.1 ≤ hs.2.2.1 + mc ∧ h'.2.2.2.1 ≤ hs.2.2.2.1 + ms := ⟨Nat.le_of_eq e1, Nat.le_of_eq e2⟩
  intro x1 h H locs cells slots ls hf hS hl
  unfold fX28_isDone at hf
  refine j_aload_n (pc := 0) (r := x1) hx hb dX28_isDone_0 rfl (lv_at hl 1 rfl) ?_
  refine lv_dup (pc := 1) hx hb dX28_isDone_1 (jrfc _) ?_
  refine j_gI (pc := 2) cx hS hf fd_WornSkin_Shelf_week q257 dX28_isDone_2 (fun y1 hf => ?_)
  refine lv_iconst (pc := 5) (v := 1) hx hb dX28_isDone_5 rfl ?_
  refine lv_iadd (pc := 6) hx hb dX28_isDone_6 ?_
  refine j_pI (pc := 7) cx hS hf fp_WornSkin_Shelf_week (Or.inl rfl) q257 dX28_isDone_7 (fun h H locs hf hS => ?_)
  refine lv_iconst (pc := 10) (v := 1) hx hb dX28_isDone_10 rfl ?_
  exact j_zret (pc := 11) cx (Or.inl rfl) hS hf e1 e2 dX28_isDone_11
theorem metX28_isDone (l : Launch) (a0 : Nat) (x1 : Option Nat) (h h' : jH) (r : Int32) (hf : (fX28_isDone a0 x1).1 h = some (r, h')) : jMet l yX28_isDone (ws_ yX28_isDone cX28_isDone 2 (Option.some Jvm.ClassFile.FieldType.boolean)) (6) (132) [.ref a0, va_rf x1] h h' (.returned (some (.int r))) := by
  refine jStart rfl (jle hf) (by cases x1 <;> exact Nat.le_of_ble_eq_true rfl) ?_
  intro p e s m below meth c D dA H0 mc ms ls cx hnm e1 e2 hS hl
  have hl : lv_has ls 2 [(0, .ref a0), (1, va_rf x1)] := by cases x1 <;> exact hl
  exact wX28_isDone_0 cx e1 e2 a0 _ _ _ _ _ _ _ hf hS hl
def fX29_isDone (N : Nat) (a0 : Nat) (x1 : Option Nat) : jM Int32 := jB (jgI [29] 0 (some a0)) fun y1 => jB (jgI [29] 1 (some a0)) fun y2 => jB (jrc 2 x1) fun b4 => jB (fX3_mayScrape b4 y1 y2) fun y3 => if y3 = 0 then (jRn .boolean 0) else (jB (jgI [29] 0 (some a0)) fun y5 => jB (jgI [29] 1 (some a0)) fun y6 => jB (jrc 2 x1) fun b8 => jB (fX3_scrapes N b8 y5 y6) fun _ => jRn .boolean 1)
theorem wX29_isDone_0 {N : Nat} {r : Int32} (cx : jCx p s m args meth c cX29_isDone "WornSkin$Scrapes" 2 (Option.some Jvm.ClassFile.FieldType.boolean) D dA H0 hs.2.2.2.2) (e1 : h'.2.2.1 = hs.2.2.1 + mc) (e2 : h'.2.2.2.1 = hs.2.2.2.1 + ms) (a0 : Nat) : ∀ (x1 : Option Nat), ∀ (h : jH) (H : Heap) (locs : List Loc) (cells slots : Nat) (ls : Array Slot), (fX29_isDone N a0 x1).1 h = some (r, h') → jS D dA H0 hs h H locs cells slots → lv_has ls 2 [(0, .ref a0), (1, va_rf x1)] → W p l e { frames := 6, cells := mc, slots := ms, locals := 132 } s m args below meth c H locs cells slots (jQ D dA H0 below s (.returned (some (.int r))) h' mc ms) (F0 m 0 ls []) := by
  have hx := cx.1
  have hb := cx.2.1
  have hown := cx.2.2.2.1
  have hts := cx.2.2.2.2.1
  have hm : h'.2.2.1 ≤ hs.2.2.1 + mc ∧ h'.2.2.2.1 ≤ hs.2.2.2.1 + ms := ⟨Nat.le_of_eq e1, Nat.le_of_eq e2⟩
  intro x1 h H locs cells slots ls hf hS hl
  unfold fX29_isDone at hf
  refine j_aload_n (pc := 0) (r := x1) hx hb dX29_isDone_0 rfl (lv_at hl 1 rfl) ?_
  refine lv_aload_n (pc := 1) hx hb dX29_isDone_1 rfl (lv_at hl 0 rfl) ?_
  refine j_gI (pc := 2) cx hS hf fd_WornSkin_Scrapes_skin q1122 dX29_isDone_2 (fun y1 hf => ?_)
  refine lv_aload_n (pc := 5) hx hb dX29_isDone_5 rfl (lv_at hl 0 rfl) ?_
  refine j_gI (pc := 6) cx hS hf fd_WornSkin_Scrapes_third q1123 dX29_isDone_6 (fun y2 hf => ?_)
  obtain ⟨b4, eb, hrc, hf⟩ := jrc_s hf
  refine j_nn (pc := 9) eb [.int y2, .int y1] [] rfl ?_
  obtain ⟨y3, h1, e9, hf⟩ := jB_some hf
  refine j_callV (pc := 9) (st1 := [.int y3]) (As := [.int y1, .int y2]) (rest := []) cx hS rfl hl.1 hm (metX3_mayScrape l _ _ _ _ _ _ hrc e9) (jle hf) hrc rfl (lw_V q1437 q1386 q1387 q114 q1388) pdX3_mayScrape rfl rfl (Nat.le_of_ble_eq_true rfl) ⟨Nat.le_of_ble_eq_true rfl, Nat.le_of_ble_eq_true rfl⟩ dX29_isDone_9 rfl (fun H locs cells slots hS => ?_)
  refine lv_if_ne (pc := 12) (tgt := 17) hx hb dX29_isDone_12 (by decide) (fun hc => ?_) (fun hc => ?_)
  · have hf := jI_f hf hc
    refine j_aload_n (pc := 17) (r := x1) hx hb dX29_isDone_17 rfl (lv_at hl 1 rfl) ?_
    refine lv_aload_n (pc := 18) hx hb dX29_isDone_18 rfl (lv_at hl 0 rfl) ?_
    refine j_gI (pc := 19) cx hS hf fd_WornSkin_Scrapes_skin q1122 dX29_isDone_19 (fun y5 hf => ?_)
    refine lv_aload_n (pc := 22) hx hb dX29_isDone_22 rfl (lv_at hl 0 rfl) ?_
    refine j_gI (pc := 23) cx hS hf fd_WornSkin_Scrapes_third q1123 dX29_isDone_23 (fun y6 hf => ?_)
    obtain ⟨b8, eb, hrc, hf⟩ := jrc_s hf
    refine j_nn (pc := 26) eb [.int y6, .int y5] [] rfl ?_
    obtain ⟨_, h1, e9, hf⟩ := jB_some hf
    refine j_callV (pc := 26) (st1 := []) (As := [.int y5, .int y6]) (rest := []) cx hS rfl hl.1 hm (metX3_scrapes l _ _ _ _ _ _ _ hrc e9) (jle hf) hrc rfl (lw_V q1438 q1395 q1396 q114 q1397) pdX3_scrapes rfl rfl (Nat.le_of_ble_eq_true rfl) ⟨Nat.le_of_ble_eq_true rfl, Nat.le_of_ble_eq_true rfl⟩ dX29_isDone_26 rfl (fun H locs cells slots hS => ?_)
    refine lv_iconst (pc := 29) (v := 1) hx hb dX29_isDone_29 rfl ?_
    exact j_zret (pc := 30) cx (Or.inl rfl) hS hf e1 e2 dX29_isDone_30
  · have hf := jI_t hf hc
    refine lv_iconst (pc := 15) (v := 0) hx hb dX29_isDone_15 rfl ?_
    exact j_zret (pc := 16) cx (Or.inl rfl) hS hf e1 e2 dX29_isDone_16
theorem metX29_isDone (l : Launch) (N : Nat) (a0 : Nat) (x1 : Option Nat) (h h' : jH) (r : Int32) (hf : (fX29_isDone N a0 x1).1 h = some (r, h')) : jMet l yX29_isDone (ws_ yX29_isDone cX29_isDone 2 (Option.some Jvm.ClassFile.FieldType.boolean)) (6) (132) [.ref a0, va_rf x1] h h' (.returned (some (.int r))) := by
  refine jStart rfl (jle hf) (by cases x1 <;> exact Nat.le_of_ble_eq_true rfl) ?_
  intro p e s m below meth c D dA H0 mc ms ls cx hnm e1 e2 hS hl
  have hl : lv_has ls 2 [(0, .ref a0), (1, va_rf x1)] := by cases x1 <;> exact hl
  exact wX29_isDone_0 cx e1 e2 a0 _ _ _ _ _ _ _ hf hS hl
def fX30_isDone (N : Nat) (a0 : Nat) (x1 : Option Nat) : jM Int32 := jB (jgI [30] 0 (some a0)) fun y1 => jB (jgI [30] 1 (some a0)) fun y2 => jB (jgI [30] 2 (some a0)) fun y3 => jB (jrc 2 x1) fun b5 => jB (fX3_mayWrite N b5 y1 y2 y3) fun y4 => if y4 = 0 then (jRn .boolean 0) else (jB (jgI [30] 0 (some a0)) fun y6 => jB (jgI [30] 1 (some a0)) fun y7 => jB (jgI [30] 2 (some a0)) fun y8 => jB (jrc 2 x1) fun b10 => jB (fX3_writes N b10 y6 y7 y8) fun _ => jRn .boolean 1)
theorem wX30_isDone_0 {N : Nat} {r : Int32} (cx : jCx p s m args meth c cX30_isDone "WornSkin$Writes" 2 (Option.some Jvm.ClassFile.FieldType.boolean) D dA H0 hs.2.2.2.2) (e1 : h'.2.2.1 = hs.2.2.1 + mc) (e2 : h'.2.2.2.1 = hs.2.2.2.1 + ms) (a0 : Nat) : ∀ (x1 : Option Nat), ∀ (h : jH) (H : Heap) (locs : List Loc) (cells slots : Nat) (ls : Array Slot), (fX30_isDone N a0 x1).1 h = some (r, h') → jS D dA H0 hs h H locs cells slots → lv_has ls 2 [(0, .ref a0), (1, va_rf x1)] → W p l e { frames := 6, cells := mc, slots := ms, locals := 132 } s m args below meth c H locs cells slots (jQ D dA H0 below s (.returned (some (.int r))) h' mc ms) (F0 m 0 ls []) := by
  have hx := cx.1
  have hb := cx.2.1
  have hown := cx.2.2.2.1
  have hts := cx.2.2.2.2.1
  have hm : h'.2.2.1 ≤ hs.2.2.1 + mc ∧ h'.2.2.2.1 ≤ hs.2.2.2.1 + ms := ⟨Nat.le_of_eq e1, Nat.le_of_eq e2⟩
  intro x1 h H locs cells slots ls hf hS hl
  unfold fX30_isDone at hf
  refine j_aload_n (pc := 0) (r := x1) hx hb dX30_isDone_0 rfl (lv_at hl 1 rfl) ?_
  refine lv_aload_n (pc := 1) hx hb dX30_isDone_1 rfl (lv_at hl 0 rfl) ?_
  refine j_gI (pc := 2) cx hS hf fd_WornSkin_Writes_text q1135 dX30_isDone_2 (fun y1 hf => ?_)
  refine lv_aload_n (pc := 5) hx hb dX30_isDone_5 rfl (lv_at hl 0 rfl) ?_
  refine j_gI (pc := 6) cx hS hf fd_WornSkin_Writes_skin q1136 dX30_isDone_6 (fun y2 hf => ?_)
  refine lv_aload_n (pc := 9) hx hb dX30_isDone_9 rfl (lv_at hl 0 rfl) ?_
  refine j_gI (pc := 10) cx hS hf fd_WornSkin_Writes_line q1137 dX30_isDone_10 (fun y3 hf => ?_)
  obtain ⟨b5, eb, hrc, hf⟩ := jrc_s hf
  refine j_nn (pc := 13) eb [.int y3, .int y2, .int y1] [] rfl ?_
  obtain ⟨y4, h1, e9, hf⟩ := jB_some hf
  refine j_callV (pc := 13) (st1 := [.int y4]) (As := [.int y1, .int y2, .int y3]) (rest := []) cx hS rfl hl.1 hm (metX3_mayWrite l _ _ _ _ _ _ _ _ hrc e9) (jle hf) hrc rfl (lw_V q1445 q1337 q1338 q114 q1339) pdX3_mayWrite rfl rfl (Nat.le_of_ble_eq_true rfl) ⟨Nat.le_of_ble_eq_true rfl, Nat.le_of_ble_eq_true rfl⟩ dX30_isDone_13 rfl (fun H locs cells slots hS => ?_)
  refine lv_if_ne (pc := 16) (tgt := 21) hx hb dX30_isDone_16 (by decide) (fun hc => ?_) (fun hc => ?_)
  · have hf := jI_f hf hc
    refine j_aload_n (pc := 21) (r := x1) hx hb dX30_isDone_21 rfl (lv_at hl 1 rfl) ?_
    refine lv_aload_n (pc := 22) hx hb dX30_isDone_22 rfl (lv_at hl 0 rfl) ?_
    refine j_gI (pc := 23) cx hS hf fd_WornSkin_Writes_text q1135 dX30_isDone_23 (fun y6 hf => ?_)
    refine lv_aload_n (pc := 26) hx hb dX30_isDone_26 rfl (lv_at hl 0 rfl) ?_
    refine j_gI (pc := 27) cx hS hf fd_WornSkin_Writes_skin q1136 dX30_isDone_27 (fun y7 hf => ?_)
    refine lv_aload_n (pc := 30) hx hb dX30_isDone_30 rfl (lv_at hl 0 rfl) ?_
    refine j_gI (pc := 31) cx hS hf fd_WornSkin_Writes_line q1137 dX30_isDone_31 (fun y8 hf => ?_)
    obtain ⟨b10, eb, hrc, hf⟩ := jrc_s hf
    refine j_nn (pc := 34) eb [.int y8, .int y7, .int y6] [] rfl ?_
    obtain ⟨_, h1, e9, hf⟩ := jB_some hf
    refine j_callV (pc := 34) (st1 := []) (As := [.int y6, .int y7, .int y8]) (rest := []) cx hS rfl hl.1 hm (metX3_writes l _ _ _ _ _ _ _ _ hrc e9) (jle hf) hrc rfl (lw_V q1446 q1374 q1375 q114 q1376) pdX3_writes rfl rfl (Nat.le_of_ble_eq_true rfl) ⟨Nat.le_of_ble_eq_true rfl, Nat.le_of_ble_eq_true rfl⟩ dX30_isDone_34 rfl (fun H locs cells slots hS => ?_)
    refine lv_iconst (pc := 37) (v := 1) hx hb dX30_isDone_37 rfl ?_
    exact j_zret (pc := 38) cx (Or.inl rfl) hS hf e1 e2 dX30_isDone_38
  · have hf := jI_t hf hc
    refine lv_iconst (pc := 19) (v := 0) hx hb dX30_isDone_19 rfl ?_
    exact j_zret (pc := 20) cx (Or.inl rfl) hS hf e1 e2 dX30_isDone_20
theorem metX30_isDone (l : Launch) (N : Nat) (a0 : Nat) (x1 : Option Nat) (h h' : jH) (r : Int32) (hf : (fX30_isDone N a0 x1).1 h = some (r, h')) : jMet l yX30_isDone (ws_ yX30_isDone cX30_isDone 2 (Option.some Jvm.ClassFile.FieldType.boolean)) (6) (132) [.ref a0, va_rf x1] h h' (.returned (some (.int r))) := by
  refine jStart rfl (jle hf) (by cases x1 <;> exact Nat.le_of_ble_eq_true rfl) ?_
  intro p e s m below meth c D dA H0 mc ms ls cx hnm e1 e2 hS hl
  have hl : lv_has ls 2 [(0, .ref a0), (1, va_rf x1)] := by cases x1 <;> exact hl
  exact wX30_isDone_0 cx e1 e2 a0 _ _ _ _ _ _ _ hf hS hl
def fX8_init (a0 : Nat) (x1 : Int32) : jM Unit := jB (jth 9 (some a0)) fun _ => jB (jpI [9] 6 (some a0) x1) fun _ => jR ()
theorem wX8_init_0 {r : Unit} (cx : jCx p s m args meth c cX8_init "WornSkin$Wrong" 2 (Option.none : Option Jvm.ClassFile.FieldType) D dA H0 hs.2.2.2.2) (e1 : h'.2.2.1 = hs.2.2.1 + mc) (e2 : h'.2.2.2.1 = hs.2.2.2.1 + ms) (hfl : l.stackTraces = false) (hin : meth.name = "<init>") (a0 : Nat) : ∀ (x1 : Int32), ∀ (h : jH) (H : Heap) (locs : List Loc) (cells slots : Nat) (ls : Array Slot), (fX8_init a0 x1).1 h = some (r, h') → jS D dA H0 hs h H locs cells slots → lv_has ls 2 [(0, .ref a0), (1, .int x1)] → W p l e { frames := 4, cells := mc, slots := ms, locals := 62 } s m args below meth c H locs cells slots (jQ D dA H0 below s (.returned none) h' mc ms) (F0 m 0 ls []) := by
  have hx := cx.1
  have hb := cx.2.1
  have hown := cx.2.2.2.1
  have hts := cx.2.2.2.2.1
  have hm : h'.2.2.1 ≤ hs.2.2.1 + mc ∧ h'.2.2.2.1 ≤ hs.2.2.2.1 + ms := ⟨Nat.le_of_eq e1, Nat.le_of_eq e2⟩
  intro x1 h H locs cells slots ls hf hS hl
  unfold fX8_init at hf
  refine lv_aload_n (pc := 0) hx hb dX8_init_0 rfl (lv_at hl 0 rfl) ?_
  refine j_ctorT (pc := 1) (r := (some a0)) (rest := []) hfl cx hS rfl hl.1 hf (X := "java/lang/Exception") (names := []) rfl (by decide) (jchE cx) jta jtc9 q640 q639 q662 q663 q664 dX8_init_1 (Nat.le_of_ble_eq_true rfl) (Nat.le_of_ble_eq_true rfl) (Nat.le_of_ble_eq_true rfl) (fun h H locs hf hS => ?_)
  refine lv_aload_n (pc := 4) hx hb dX8_init_4 rfl (lv_at hl 0 rfl) ?_
  refine lv_iload_n (pc := 5) hx hb dX8_init_5 rfl (lv_at hl 1 rfl) ?_
  refine j_pI (pc := 6) cx hS hf fp_WornSkin_Wrong_fault (Or.inr ⟨rfl, hin, rfl⟩) q666 dX8_init_6 (fun h H locs hf hS => ?_)
  exact j_vret (pc := 9) cx hS hf e1 e2 dX8_init_9
theorem metX8_init (l : Launch) (hfl : l.stackTraces = false) (a0 : Nat) (x1 : Int32) (h h' : jH) (r : Unit) (hf : (fX8_init a0 x1).1 h = some (r, h')) : jMet l yX8_init (ws_ yX8_init cX8_init 2 (Option.none : Option Jvm.ClassFile.FieldType)) (4) (62) [.ref a0, .int x1] h h' (.returned none) := by
  refine jStart rfl (jle hf) (Nat.le_of_ble_eq_true rfl) ?_
  intro p e s m below meth c D dA H0 mc ms ls cx hnm e1 e2 hS hl
  exact wX8_init_0 cx e1 e2 hfl hnm a0 _ _ _ _ _ _ _ hf hS hl
end
