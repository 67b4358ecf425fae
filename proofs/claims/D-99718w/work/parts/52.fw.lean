set_option maxRecDepth 100000
section
variable {p : Program} {l : Launch} {e : Env} {s : State} {m : MethodId} {args : Array Value} {below : List Frame} {meth : Method} {c : Code} {D : va_G} {dA : Nat → ClassId → Prop} {H0 : Heap} {hs h' : jH} {mc ms : Nat}
def fX6_finds (N : Nat) (a0 : Nat) : jM (Option Nat) := jB (jpI [6] 2 (some a0) (-1)) fun _ => jB (jgR [6] 3 (some a0)) fun y1 => jB (jgR [0] 2 y1) fun y2 => jB (jgR [6] 3 (some a0)) fun y3 => jB (jgR [0] 1 y3) fun y4 => jB (jrc 2 y2) fun b6 => jB (fX3_copies b6 y4) fun y5 => jB (fX6_goes N a0 0 0) fun _ => jR (some a0)
theorem wX6_finds_0 {N : Nat} {r : Option Nat} (cx : jCx p s m args meth c cX6_finds "WornSkin$Lays" 1 (Option.some (Jvm.ClassFile.FieldType.object "WornSkin$Lays")) D dA H0 hs.2.2.2.2) (e1 : h'.2.2.1 = hs.2.2.1 + mc) (e2 : h'.2.2.2.1 = hs.2.2.2.1 + ms) (a0 : Nat) (hth : jTh hs a0 6) : ∀ (h : jH) (H : Heap) (locs : List Loc) (cells slots : Nat) (ls : Array Slot), (fX6_finds N a0).1 h = some (r, h') → jS D dA H0 hs h H locs cells slots → lv_has ls 1 [(0, .ref a0)] → W p l e { frames := 49, cells := mc, slots := ms, locals := 1079 } s m args below meth c H locs cells slots (jQ D dA H0 below s (.returned (some (va_rf r))) h' mc ms) (F0 m 0 ls []) := by
  have hx := cx.1
  have hb := cx.2.1
  have hown := cx.2.2.2.1
  have hts := cx.2.2.2.2.1
  have hm : h'.2.2.1 ≤ hs.2.2.1 + mc ∧ h'.2.2.2.1 ≤ hs.2.2.2.1 + ms := ⟨Nat.le_of_eq e1, Nat.le_of_eq e2⟩
  intro h H locs cells slots ls hf hS hl
  unfold fX6_finds at hf
  refine lv_aload_n (pc := 0) hx hb dX6_finds_0 rfl (lv_at hl 0 rfl) ?_
  refine lv_iconst (pc := 1) (v := (-1)) hx hb dX6_finds_1 rfl ?_
  refine j_pI (pc := 2) cx hS hf fp_WornSkin_Lays_most (Or.inl rfl) q414 dX6_finds_2 (fun h H locs hf hS => ?_)
  refine lv_aload_n (pc := 5) hx hb dX6_finds_5 rfl (lv_at hl 0 rfl) ?_
  refine j_gR (pc := 6) cx hS hf fd_WornSkin_Lays_this_0 q416 dX6_finds_6 (fun y1 hf => ?_)
  refine j_gRN (pc := 9) cx hS hf fd_WornSkin_trial q431 dX6_finds_9 (fun y2 hf => ?_)
  refine lv_aload_n (pc := 12) hx hb dX6_finds_12 rfl (lv_at hl 0 rfl) ?_
  refine j_gR (pc := 13) cx hS hf fd_WornSkin_Lays_this_0 q416 dX6_finds_13 (fun y3 hf => ?_)
  refine j_gRN (pc := 16) cx hS hf fd_WornSkin_shelf q429 dX6_finds_16 (fun y4 hf => ?_)
  obtain ⟨b6, eb, hrc, hf⟩ := jrc_s hf
  refine j_nn (pc := 19) eb [va_rf y4] [] rfl ?_
  obtain ⟨y5, h1, e9, hf⟩ := jB_some hf
  refine j_callV (pc := 19) (st1 := [va_rf y5]) (As := [va_rf y4]) (rest := []) cx hS rfl hl.1 hm (metX3_copies l _ _ _ _ _ hrc e9) (jle hf) hrc rfl (lw_V q1514 q1368 q1369 q114 q1370) pdX3_copies rfl rfl (Nat.le_of_ble_eq_true rfl) ⟨Nat.le_of_ble_eq_true rfl, Nat.le_of_ble_eq_true rfl⟩ dX6_finds_19 rfl (fun H locs cells slots hS => ?_)
  refine lv_pop (pc := 22) hx hb dX6_finds_22 (jrfc _) ?_
  refine lv_aload_n (pc := 23) hx hb dX6_finds_23 rfl (lv_at hl 0 rfl) ?_
  refine lv_iconst (pc := 24) (v := 0) hx hb dX6_finds_24 rfl ?_
  refine lv_iconst (pc := 25) (v := 0) hx hb dX6_finds_25 rfl ?_
  obtain ⟨_, h1, e9, hf⟩ := jB_some hf
  refine j_callV (pc := 26) (st1 := []) (As := [.int 0, .int 0]) (rest := []) cx hS rfl hl.1 hm (metX6_goes l _ _ _ _ _ _ _ (hth.at hS) e9) (jle hf) (hth.at hS) rfl (lw_V q1515 q1517 qs46 q122 q1518) pdX6_goes rfl rfl (Nat.le_of_ble_eq_true rfl) ⟨Nat.le_of_ble_eq_true rfl, Nat.le_of_ble_eq_true rfl⟩ dX6_finds_26 rfl (fun H locs cells slots hS => ?_)
  refine lv_aload_n (pc := 29) hx hb dX6_finds_29 rfl (lv_at hl 0 rfl) ?_
  exact j_aret (pc := 30) cx hS hf (Or.inl ⟨_, rfl⟩) e1 e2 dX6_finds_30
theorem metX6_finds (l : Launch) (N : Nat) (a0 : Nat) (h h' : jH) (r : Option Nat) (hth : jcd h a0 = some 6) (hf : (fX6_finds N a0).1 h = some (r, h')) : jMet l yX6_finds (ws_ yX6_finds cX6_finds 1 (Option.some (Jvm.ClassFile.FieldType.object "WornSkin$Lays"))) (49) (1079) [.ref a0] h h' (.returned (some (va_rf r))) := by
  refine jStart rfl (jle hf) (Nat.le_of_ble_eq_true rfl) ?_
  intro p e s m below meth c D dA H0 mc ms ls cx hnm e1 e2 hS hl
  have hth := jTh.mk hS hth
  exact wX6_finds_0 cx e1 e2 a0 hth  _ _ _ _ _ _ hf hS hl
def fX1_lay_48 (N : Nat) (a0 : Nat) (v0 : Int32) : jM Int32 := jR v0
def fX1_lay_16 (N : Nat) (a0 : Nat) (x1 : Int32) : jM Int32 := jB (jgR [0] 6 (some a0)) fun y1 => jB (jrc 6 y1) fun b3 => jB (fX6_finds N b3) fun y2 => if x1 = (-1) then (jB (jgR [0] 6 (some a0)) fun y7 => jB (jgI [6] 2 y7) fun y8 => fX1_lay_48 N a0 y8) else (jB (jgR [0] 6 (some a0)) fun y4 => jB (jgR [6] 1 y4) fun y5 => jB (jaI 0 y5 x1) fun y6 => fX1_lay_48 N a0 y6)
def fX1_lay (N : Nat) (a0 : Nat) (x1 : Int32) : jM Int32 := if x1 = (-1) then (fX1_lay_16 N a0 x1) else (jB (fX1_isText a0 x1) fun y1 => if y1 = 0 then (jR (-2)) else (fX1_lay_16 N a0 x1))
theorem wX1_lay_48 {N : Nat} {r : Int32} (cx : jCx p s m args meth c cX1_lay "WornSkin" 2 (Option.some Jvm.ClassFile.FieldType.int) D dA H0 hs.2.2.2.2) (e1 : h'.2.2.1 = hs.2.2.1 + mc) (e2 : h'.2.2.2.1 = hs.2.2.2.1 + ms) (a0 : Nat) (hth : jTh hs a0 0) : ∀ (v0 : Int32), ∀ (h : jH) (H : Heap) (locs : List Loc) (cells slots : Nat) (ls : Array Slot), (fX1_lay_48 N a0 v0).1 h = some (r, h') → jS D dA H0 hs h H locs cells slots → lv_has ls 2 [(0, .ref a0)] → W p l e { frames := 50, cells := mc, slots := ms, locals := 1099 } s m args below meth c H locs cells slots (jQ D dA H0 below s (.returned (some (.int r))) h' mc ms) (F0 m 48 ls [.int v0]) := by
  have hx := cx.1
  have hb := cx.2.1
  have hown := cx.2.2.2.1
  have hts := cx.2.2.2.2.1
  have hm : h'.2.2.1 ≤ hs.2.2.1 + mc ∧ h'.2.2.2.1 ≤ hs.2.2.2.1 + ms := ⟨Nat.le_of_eq e1, Nat.le_of_eq e2⟩
  intro v0 h H locs cells slots ls hf hS hl
  unfold fX1_lay_48 at hf
  exact j_iret (pc := 48) cx hS hf e1 e2 dX1_lay_48
theorem wX1_lay_16 {N : Nat} {r : Int32} (cx : jCx p s m args meth c cX1_lay "WornSkin" 2 (Option.some Jvm.ClassFile.FieldType.int) D dA H0 hs.2.2.2.2) (e1 : h'.2.2.1 = hs.2.2.1 + mc) (e2 : h'.2.2.2.1 = hs.2.2.2.1 + ms) (a0 : Nat) (hth : jTh hs a0 0) : ∀ (x1 : Int32), ∀ (h : jH) (H : Heap) (locs : List Loc) (cells slots : Nat) (ls : Array Slot), (fX1_lay_16 N a0 x1).1 h = some (r, h') → jS D dA H0 hs h H locs cells slots → lv_has ls 2 [(0, .ref a0), (1, .int x1)] → W p l e { frames := 50, cells := mc, slots := ms, locals := 1099 } s m args below meth c H locs cells slots (jQ D dA H0 below s (.returned (some (.int r))) h' mc ms) (F0 m 16 ls []) := by
  have hx := cx.1
  have hb := cx.2.1
  have hown := cx.2.2.2.1
  have hts := cx.2.2.2.2.1
  have hm : h'.2.2.1 ≤ hs.2.2.1 + mc ∧ h'.2.2.2.1 ≤ hs.2.2.2.1 + ms := ⟨Nat.le_of_eq e1, Nat.le_of_eq e2⟩
  intro x1 h H locs cells slots ls hf hS hl
  unfold fX1_lay_16 at hf
  refine lv_aload_n (pc := 16) hx hb dX1_lay_16 rfl (lv_at hl 0 rfl) ?_
  refine j_gR (pc := 17) cx hS hf fd_WornSkin_lays q436 dX1_lay_17 (fun y1 hf => ?_)
  obtain ⟨b3, eb, hrc, hf⟩ := jrc_s hf
  refine j_nn (pc := 20) eb [] [] rfl ?_
  obtain ⟨y2, h1, e9, hf⟩ := jB_some hf
  refine j_callV (pc := 20) (st1 := [va_rf y2]) (As := []) (rest := []) cx hS rfl hl.1 hm (metX6_finds l _ _ _ _ _ hrc e9) (jle hf) hrc rfl (lw_V q1510 q1511 q1512 q122 q1513) pdX6_finds rfl rfl (Nat.le_of_ble_eq_true rfl) ⟨Nat.le_of_ble_eq_true rfl, Nat.le_of_ble_eq_true rfl⟩ dX1_lay_20 rfl (fun H locs cells slots hS => ?_)
  refine lv_pop (pc := 23) hx hb dX1_lay_23 (jrfc _) ?_
  refine lv_iload_n (pc := 24) hx hb dX1_lay_24 rfl (lv_at hl 1 rfl) ?_
  refine lv_iconst (pc := 25) (v := (-1)) hx hb dX1_lay_25 rfl ?_
  refine lv_icmp_ne (pc := 26) (tgt := 39) hx hb dX1_lay_26 (by decide) (fun hc => ?_) (fun hc => ?_)
  · have hf := jI_f hf hc
    refine lv_aload_n (pc := 39) hx hb dX1_lay_39 rfl (lv_at hl 0 rfl) ?_
    refine j_gR (pc := 40) cx hS hf fd_WornSkin_lays q436 dX1_lay_40 (fun y4 hf => ?_)
    refine j_gR (pc := 43) cx hS hf fd_WornSkin_Lays_best q413 dX1_lay_43 (fun y5 hf => ?_)
    refine lv_iload_n (pc := 46) hx hb dX1_lay_46 rfl (lv_at hl 1 rfl) ?_
    refine j_aI (pc := 47) cx hS hf rfl dX1_lay_47 (fun y6 hf => ?_)
    exact wX1_lay_48 cx e1 e2 a0 hth _ _ _ _ _ _ _ hf hS (lv_sub hl [0] rfl)
  · have hf := jI_t hf hc
    refine lv_aload_n (pc := 29) hx hb dX1_lay_29 rfl (lv_at hl 0 rfl) ?_
    refine j_gR (pc := 30) cx hS hf fd_WornSkin_lays q436 dX1_lay_30 (fun y7 hf => ?_)
    refine j_gI (pc := 33) cx hS hf fd_WornSkin_Lays_most q415 dX1_lay_33 (fun y8 hf => ?_)
    refine lv_goto (pc := 36) (tgt := 48) hx hb dX1_lay_36 (by decide) ?_
    exact wX1_lay_48 cx e1 e2 a0 hth _ _ _ _ _ _ _ hf hS (lv_sub hl [0] rfl)
theorem wX1_lay_0 {N : Nat} {r : Int32} (cx : jCx p s m args meth c cX1_lay "WornSkin" 2 (Option.some Jvm.ClassFile.FieldType.int) D dA H0 hs.2.2.2.2) (e1 : h'.2.2.1 = hs.2.2.1 + mc) (e2 : h'.2.2.2.1 = hs.2.2.2.1 + ms) (a0 : Nat) (hth : jTh hs a0 0) : ∀ (x1 : Int32), ∀ (h : jH) (H : Heap) (locs : List Loc) (cells slots : Nat) (ls : Array Slot), (fX1_lay N a0 x1).1 h = some (r, h') → jS D dA H0 hs h H locs cells slots → lv_has ls 2 [(0, .ref a0), (1, .int x1)] → W p l e { frames := 50, cells := mc, slots := ms, locals := 1099 } s m args below meth c H locs cells slots (jQ D dA H0 below s (.returned (some (.int r))) h' mc ms) (F0 m 0 ls []) := by
  have hx := cx.1
  have hb := cx.2.1
  have hown := cx.2.2.2.1
  have hts := cx.2.2.2.2.1
  have hm : h'.2.2.1 ≤ hs.2.2.1 + mc ∧ h'.2.2.2.1 ≤ hs.2.2.2.1 + ms := ⟨Nat.le_of_eq e1, Nat.le_of_eq e2⟩
  intro x1 h H locs cells slots ls hf hS hl
  unfold fX1_lay at hf
  refine lv_iload_n (pc := 0) hx hb dX1_lay_0 rfl (lv_at hl 1 rfl) ?_
  refine lv_iconst (pc := 1) (v := (-1)) hx hb dX1_lay_1 rfl ?_
  refine lv_icmp_eq (pc := 2) (tgt := 16) hx hb dX1_lay_2 (by decide) (fun hc => ?_) (fun hc => ?_)
  · have hf := jI_t hf hc
    exact wX1_lay_16 cx e1 e2 a0 hth _ _ _ _ _ _ _ hf hS hl
  · have hf := jI_f hf hc
    refine lv_aload_n (pc := 5) hx hb dX1_lay_5 rfl (lv_at hl 0 rfl) ?_
    refine lv_iload_n (pc := 6) hx hb dX1_lay_6 rfl (lv_at hl 1 rfl) ?_
    obtain ⟨y1, h1, e9, hf⟩ := jB_some hf
    refine j_callV (pc := 7) (st1 := [.int y1]) (As := [.int x1]) (rest := []) cx hS rfl hl.1 hm (metX1_isText l _ _ _ _ _ (hth.at hS) e9) (jle hf) (hth.at hS) rfl (lw_V q1282 q1284 qs36 q112 q1285) pdX1_isText rfl rfl (Nat.le_of_ble_eq_true rfl) ⟨Nat.le_of_ble_eq_true rfl, Nat.le_of_ble_eq_true rfl⟩ dX1_lay_7 rfl (fun H locs cells slots hS => ?_)
    refine lv_if_ne (pc := 10) (tgt := 16) hx hb dX1_lay_10 (by decide) (fun hc => ?_) (fun hc => ?_)
    · have hf := jI_f hf hc
      exact wX1_lay_16 cx e1 e2 a0 hth _ _ _ _ _ _ _ hf hS hl
    · have hf := jI_t hf hc
      refine lv_bipush (pc := 13) (v := (-2)) hx hb dX1_lay_13 rfl ?_
      exact j_iret (pc := 15) cx hS hf e1 e2 dX1_lay_15
theorem metX1_lay (l : Launch) (N : Nat) (a0 : Nat) (x1 : Int32) (h h' : jH) (r : Int32) (hth : jcd h a0 = some 0) (hf : (fX1_lay N a0 x1).1 h = some (r, h')) : jMet l yX1_lay (ws_ yX1_lay cX1_lay 2 (Option.some Jvm.ClassFile.FieldType.int)) (50) (1099) [.ref a0, .int x1] h h' (.returned (some (.int r))) := by
  refine jStart rfl (jle hf) (Nat.le_of_ble_eq_true rfl) ?_
  intro p e s m below meth c D dA H0 mc ms ls cx hnm e1 e2 hS hl
  have hth := jTh.mk hS hth
  exact wX1_lay_0 cx e1 e2 a0 hth _ _ _ _ _ _ _ hf hS hl
end
