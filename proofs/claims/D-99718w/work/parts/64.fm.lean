set_option maxRecDepth 100000
section
variable {p : Program} {l : Launch} {e : Env} {s : State} {m : MethodId} {args : Array Value} {below : List Frame} {meth : Method} {c : Code} {D : va_G} {dA : Nat → ClassId → Prop} {H0 : Heap} {hs h' : jH} {mc ms : Nat}
def fX7_cost_77 (N : Nat) (a0 : Nat) (v0 : Int32) : jM Int32 := jR v0
def fX7_cost_21 (N : Nat) (a0 : Nat) : jM Int32 := jR (-1)
def fX7_cost (N : Nat) (a0 : Nat) (x1 : Int32) (x2 : Int32) : jM Int32 := jB (jpI [7] 0 (some a0) 0) fun _ => jB (fX7_isText a0 x1) fun y1 => if y1 = 0 then (fX7_cost_21 N a0) else (jB (fX7_isSkin a0 x2) fun y2 => if y2 = 0 then (fX7_cost_21 N a0) else (jB (fX7_placeOf N a0 x1 x2) fun y3 => if y3 < 0 then (jB (fX7_costBy N a0 x1 x2 9) fun y4 => jB (fX7_costBy N a0 x1 x2 63) fun y5 => if 0 ≤ y4 then (if 0 ≤ y5 then (fX7_cost_77 N a0 (jmin y4 y5)) else (fX7_cost_77 N a0 y4)) else (fX7_cost_77 N a0 y5)) else (jR 0)))
theorem wX7_cost_77 {N : Nat} {r : Int32} (cx : jCx p s m args meth c cX7_cost "WornSkinModel" 5 (Option.some Jvm.ClassFile.FieldType.int) D dA H0 hs.2.2.2.2) (e1 : h'.2.2.1 = hs.2.2.1 + mc) (e2 : h'.2.2.2.1 = hs.2.2.2.1 + ms) (a0 : Nat) (hth : jTh hs a0 7) : ∀ (v0 : Int32), ∀ (h : jH) (H : Heap) (locs : List Loc) (cells slots : Nat) (ls : Array Slot), (fX7_cost_77 N a0 v0).1 h = some (r, h') → jS D dA H0 hs h H locs cells slots → lv_has ls 5 [(0, .ref a0)] → W p l e { frames := 3, cells := mc, slots := ms, locals := 75 } s m args below meth c H locs cells slots (jQ D dA H0 below s (.returned (some (.int r))) h' mc ms) (F0 m 77 ls [.int v0]) := by
  have hx := cx.1
  have hb := cx.2.1
  have hown := cx.2.2.2.1
  have hts := cx.2.2.2.2.1
  have hm : h'.2.2.1 ≤ hs.2.2.1 + mc ∧ h'.2.2.2.1 ≤ hs.2.2.2.1 + ms := ⟨Nat.le_of_eq e1, Nat.le_of_eq e2⟩
  intro v0 h H locs cells slots ls hf hS hl
  unfold fX7_cost_77 at hf
  exact j_iret (pc := 77) cx hS hf e1 e2 dX7_cost_77
theorem wX7_cost_21 {N : Nat} {r : Int32} (cx : jCx p s m args meth c cX7_cost "WornSkinModel" 5 (Option.some Jvm.ClassFile.FieldType.int) D dA H0 hs.2.2.2.2) (e1 : h'.2.2.1 = hs.2.2.1 + mc) (e2 : h'.2.2.2.1 = hs.2.2.2.1 + ms) (a0 : Nat) (hth : jTh hs a0 7) : ∀ (h : jH) (H : Heap) (locs : List Loc) (cells slots : Nat) (ls : Array Slot), (fX7_cost_21 N a0).1 h = some (r, h') → jS D dA H0 hs h H locs cells slots → lv_has ls 5 [(0, .ref a0)] → W p l e { frames := 3, cells := mc, slots := ms, locals := 75 } s m args below meth c H locs cells slots (jQ D dA H0 below s (.returned (some (.int r))) h' mc ms) (F0 m 21 ls []) := by
  have hx := cx.1
  have hb := cx.2.1
  have hown := cx.2.2.2.1
  have hts := cx.2.2.2.2.1
  have hm : h'.2.2.1 ≤ hs.2.2.1 + mc ∧ h'.2.2.2.1 ≤ hs.2.2.2.1 + ms := ⟨Nat.le_of_eq e1, Nat.le_of_eq e2⟩
  intro h H locs cells slots ls hf hS hl
  unfold fX7_cost_21 at hf
  refine lv_iconst (pc := 21) (v := (-1)) hx hb dX7_cost_21 rfl ?_
  exact j_iret (pc := 22) cx hS hf e1 e2 dX7_cost_22
theorem wX7_cost_0 {N : Nat} {r : Int32} (cx : jCx p s m args meth c cX7_cost "WornSkinModel" 5 (Option.some Jvm.ClassFile.FieldType.int) D dA H0 hs.2.2.2.2) (e1 : h'.2.2.1 = hs.2.2.1 + mc) (e2 : h'.2.2.2.1 = hs.2.2.2.1 + ms) (a0 : Nat) (hth : jTh hs a0 7) : ∀ (x1 : Int32) (x2 : Int32), ∀ (h : jH) (H : Heap) (locs : List Loc) (cells slots : Nat) (ls : Array Slot), (fX7_cost N a0 x1 x2).1 h = some (r, h') → jS D dA H0 hs h H locs cells slots → lv_has ls 5 [(0, .ref a0), (1, .int x1), (2, .int x2)] → W p l e { frames := 3, cells := mc, slots := ms, locals := 75 } s m args below meth c H locs cells slots (jQ D dA H0 below s (.returned (some (.int r))) h' mc ms) (F0 m 0 ls []) := by
  have hx := cx.1
  have hb := cx.2.1
  have hown := cx.2.2.2.1
  have hts := cx.2.2.2.2.1
  have hm : h'.2.2.1 ≤ hs.2.2.1 + mc ∧ h'.2.2.2.1 ≤ hs.2.2.2.1 + ms := ⟨Nat.le_of_eq e1, Nat.le_of_eq e2⟩
  intro x1 x2 h H locs cells slots ls hf hS hl
  unfold fX7_cost at hf
  refine lv_aload_n (pc := 0) hx hb dX7_cost_0 rfl (lv_at hl 0 rfl) ?_
  refine lv_iconst (pc := 1) (v := 0) hx hb dX7_cost_1 rfl ?_
  refine j_pI (pc := 2) cx hS hf fp_WornSkinModel_thrown (Or.inl rfl) q1684 dX7_cost_2 (fun h H locs hf hS => ?_)
  refine lv_aload_n (pc := 5) hx hb dX7_cost_5 rfl (lv_at hl 0 rfl) ?_
  refine lv_iload_n (pc := 6) hx hb dX7_cost_6 rfl (lv_at hl 1 rfl) ?_
  obtain ⟨y1, h1, e9, hf⟩ := jB_some hf
  refine j_callV (pc := 7) (st1 := [.int y1]) (As := [.int x1]) (rest := []) cx hS rfl hl.1 hm (metX7_isText l _ _ _ _ _ (hth.at hS) e9) (jle hf) (hth.at hS) rfl (lw_V q2071 q2073 qs89 q123 q2074) pdX7_isText rfl rfl (Nat.le_of_ble_eq_true rfl) ⟨Nat.le_of_ble_eq_true rfl, Nat.le_of_ble_eq_true rfl⟩ dX7_cost_7 rfl (fun H locs cells slots hS => ?_)
  refine lv_if_eq (pc := 10) (tgt := 21) hx hb dX7_cost_10 (by decide) (fun hc => ?_) (fun hc => ?_)
  · have hf := jI_t hf hc
    exact wX7_cost_21 cx e1 e2 a0 hth _ _ _ _ _ _ hf hS (lv_sub hl [0] rfl)
  · have hf := jI_f hf hc
    refine lv_aload_n (pc := 13) hx hb dX7_cost_13 rfl (lv_at hl 0 rfl) ?_
    refine lv_iload_n (pc := 14) hx hb dX7_cost_14 rfl (lv_at hl 2 rfl) ?_
    obtain ⟨y2, h1, e9, hf⟩ := jB_some hf
    refine j_callV (pc := 15) (st1 := [.int y2]) (As := [.int x2]) (rest := []) cx hS rfl hl.1 hm (metX7_isSkin l _ _ _ _ _ (hth.at hS) e9) (jle hf) (hth.at hS) rfl (lw_V q2031 q2033 qs80 q123 q2034) pdX7_isSkin rfl rfl (Nat.le_of_ble_eq_true rfl) ⟨Nat.le_of_ble_eq_true rfl, Nat.le_of_ble_eq_true rfl⟩ dX7_cost_15 rfl (fun H locs cells slots hS => ?_)
    refine lv_if_ne (pc := 18) (tgt := 23) hx hb dX7_cost_18 (by decide) (fun hc => ?_) (fun hc => ?_)
    · have hf := jI_f hf hc
      refine lv_aload_n (pc := 23) hx hb dX7_cost_23 rfl (lv_at hl 0 rfl) ?_
      refine lv_iload_n (pc := 24) hx hb dX7_cost_24 rfl (lv_at hl 1 rfl) ?_
      refine lv_iload_n (pc := 25) hx hb dX7_cost_25 rfl (lv_at hl 2 rfl) ?_
      obtain ⟨y3, h1, e9, hf⟩ := jB_some hf
      refine j_callV (pc := 26) (st1 := [.int y3]) (As := [.int x1, .int x2]) (rest := []) cx hS rfl hl.1 hm (metX7_placeOf l _ _ _ _ _ _ _ (hth.at hS) e9) (jle hf) (hth.at hS) rfl (lw_V q2196 q2198 qs102 q123 q2199) pdX7_placeOf rfl rfl (Nat.le_of_ble_eq_true rfl) ⟨Nat.le_of_ble_eq_true rfl, Nat.le_of_ble_eq_true rfl⟩ dX7_cost_26 rfl (fun H locs cells slots hS => ?_)
      refine lv_if_lt (pc := 29) (tgt := 34) hx hb dX7_cost_29 (by decide) (fun hc => ?_) (fun hc => ?_)
      · have hf := jI_t hf hc
        refine lv_aload_n (pc := 34) hx hb dX7_cost_34 rfl (lv_at hl 0 rfl) ?_
        refine lv_iload_n (pc := 35) hx hb dX7_cost_35 rfl (lv_at hl 1 rfl) ?_
        refine lv_iload_n (pc := 36) hx hb dX7_cost_36 rfl (lv_at hl 2 rfl) ?_
        refine lv_bipush (pc := 37) (v := 9) hx hb dX7_cost_37 rfl ?_
        obtain ⟨y4, h1, e9, hf⟩ := jB_some hf
        refine j_callV (pc := 39) (st1 := [.int y4]) (As := [.int x1, .int x2, .int 9]) (rest := []) cx hS rfl hl.1 hm (metX7_costBy l _ _ _ _ _ _ _ _ (hth.at hS) e9) (jle hf) (hth.at hS) rfl (lw_V q2204 q2206 qs103 q123 q2207) pdX7_costBy rfl rfl (Nat.le_of_ble_eq_true rfl) ⟨Nat.le_of_ble_eq_true rfl, Nat.le_of_ble_eq_true rfl⟩ dX7_cost_39 rfl (fun H locs cells slots hS => ?_)
        refine lv_istore_n (pc := 42) (i := 3) (lv' := [(3, .int y4), (0, .ref a0), (1, .int x1), (2, .int x2)]) hx hb dX7_cost_42 rfl hl (Nat.le_of_ble_eq_true rfl) rfl (fun ls hl => ?_)
        refine lv_aload_n (pc := 43) hx hb dX7_cost_43 rfl (lv_at hl 1 rfl) ?_
        refine lv_iload_n (pc := 44) hx hb dX7_cost_44 rfl (lv_at hl 2 rfl) ?_
        refine lv_iload_n (pc := 45) hx hb dX7_cost_45 rfl (lv_at hl 3 rfl) ?_
        refine lv_bipush (pc := 46) (v := 63) hx hb dX7_cost_46 rfl ?_
        obtain ⟨y5, h1, e9, hf⟩ := jB_some hf
        refine j_callV (pc := 48) (st1 := [.int y5]) (As := [.int x1, .int x2, .int 63]) (rest := []) cx hS rfl hl.1 hm (metX7_costBy l _ _ _ _ _ _ _ _ (hth.at hS) e9) (jle hf) (hth.at hS) rfl (lw_V q2204 q2206 qs103 q123 q2207) pdX7_costBy rfl rfl (Nat.le_of_ble_eq_true rfl) ⟨Nat.le_of_ble_eq_true rfl, Nat.le_of_ble_eq_true rfl⟩ dX7_cost_48 rfl (fun H locs cells slots hS => ?_)
        refine lv_istore (pc := 51) (i := 4) (lv' := [(4, .int y5), (3, .int y4), (0, .ref a0), (1, .int x1), (2, .int x2)]) hx hb dX7_cost_51 hl (Nat.le_of_ble_eq_true rfl) rfl (fun ls hl => ?_)
        refine lv_iload_n (pc := 53) hx hb dX7_cost_53 rfl (lv_at hl 1 rfl) ?_
        refine lv_if_ge (pc := 54) (tgt := 62) hx hb dX7_cost_54 (by decide) (fun hc => ?_) (fun hc => ?_)
        · have hf := jI_t hf hc
          refine lv_iload (pc := 62) hx hb dX7_cost_62 (lv_at hl 0 rfl) ?_
          refine lv_if_ge (pc := 64) (tgt := 71) hx hb dX7_cost_64 (by decide) (fun hc => ?_) (fun hc => ?_)
          · have hf := jI_t hf hc
            refine lv_iload_n (pc := 71) hx hb dX7_cost_71 rfl (lv_at hl 1 rfl) ?_
            refine lv_iload (pc := 72) hx hb dX7_cost_72 (lv_at hl 0 rfl) ?_
            refine j_min (pc := 74) cx hS hl.1 (jle hf) hm q2208 q526 q126 q527 (Nat.le_of_ble_eq_true rfl) (Nat.le_of_ble_eq_true rfl) dX7_cost_74 ?_
            exact wX7_cost_77 cx e1 e2 a0 hth _ _ _ _ _ _ _ hf hS (lv_sub hl [2] rfl)
          · have hf := jI_f hf hc
            refine lv_iload_n (pc := 67) hx hb dX7_cost_67 rfl (lv_at hl 1 rfl) ?_
            refine lv_goto (pc := 68) (tgt := 77) hx hb dX7_cost_68 (by decide) ?_
            exact wX7_cost_77 cx e1 e2 a0 hth _ _ _ _ _ _ _ hf hS (lv_sub hl [2] rfl)
        · have hf := jI_f hf hc
          refine lv_iload (pc := 57) hx hb dX7_cost_57 (lv_at hl 0 rfl) ?_
          refine lv_goto (pc := 59) (tgt := 77) hx hb dX7_cost_59 (by decide) ?_
          exact wX7_cost_77 cx e1 e2 a0 hth _ _ _ _ _ _ _ hf hS (lv_sub hl [2] rfl)
      · have hf := jI_f hf hc
        refine lv_iconst (pc := 32) (v := 0) hx hb dX7_cost_32 rfl ?_
        exact j_iret (pc := 33) cx hS hf e1 e2 dX7_cost_33
    · have hf := jI_t hf hc
      exact wX7_cost_21 cx e1 e2 a0 hth _ _ _ _ _ _ hf hS (lv_sub hl [0] rfl)
theorem metX7_cost (l : Launch) (N : Nat) (a0 : Nat) (x1 : Int32) (x2 : Int32) (h h' : jH) (r : Int32) (hth : jcd h a0 = some 7) (hf : (fX7_cost N a0 x1 x2).1 h = some (r, h')) : jMet l yX7_cost (ws_ yX7_cost cX7_cost 5 (Option.some Jvm.ClassFile.FieldType.int)) (3) (75) [.ref a0, .int x1, .int x2] h h' (.returned (some (.int r))) := by
  refine jStart rfl (jle hf) (Nat.le_of_ble_eq_true rfl) ?_
  intro p e s m below meth c D dA H0 mc ms ls cx hnm e1 e2 hS hl
  have hth := jTh.mk hS hth
  exact wX7_cost_0 cx e1 e2 a0 hth _ _ _ _ _ _ _ _ hf hS hl
def fX7_unwrites_59 (N : Nat) (a0 : Nat) : jM Unit := jR ()
def fX7_unwrites_3 (N : Nat) (a0 : Nat) : Nat → Int32 → Int32 → Int32 → Int32 → jM Unit
  | 0, _, _, _, _ => jE
  | n + 1, x1, x2, x3, x4 => jB (jgR [7] 18 (some a0)) fun y1 => jB (jaI 0 y1 x1) fun y2 => if (x3 + y2) ≤ x4 then (fX7_unwrites_59 N a0) else (jB (jgR [7] 48 (some a0)) fun y3 => jB (jaI 0 y3 ((7 + (6 * x2)) + x4)) fun y4 => jB (jnz 7) fun _ => jB (jsI 0 y3 ((7 + (6 * x2)) + x4) (y4 / 7)) fun _ => jB (jgR [7] 48 (some a0)) fun y5 => jB (jaI 0 y5 (4 + x2)) fun y6 => jB (jsI 0 y5 (4 + x2) (y6 &&& ((1 <<< (x4 &&& 31)) ^^^ (-1)))) fun _ => fX7_unwrites_3 N a0 n x1 x2 x3 (x4 + 1))
def fX7_unwrites (N : Nat) (a0 : Nat) (x1 : Int32) (x2 : Int32) (x3 : Int32) : jM Unit := fX7_unwrites_3 N a0 N x1 x2 x3 x3
theorem wX7_unwrites_59 {N : Nat} {r : Unit} (cx : jCx p s m args meth c cX7_unwrites "WornSkinModel" 5 (Option.none : Option Jvm.ClassFile.FieldType) D dA H0 hs.2.2.2.2) (e1 : h'.2.2.1 = hs.2.2.1 + mc) (e2 : h'.2.2.2.1 = hs.2.2.2.1 + ms) (a0 : Nat) (hth : jTh hs a0 7) : ∀ (h : jH) (H : Heap) (locs : List Loc) (cells slots : Nat) (ls : Array Slot), (fX7_unwrites_59 N a0).1 h = some (r, h') → jS D dA H0 hs h H locs cells slots → lv_has ls 5 [(0, .ref a0)] → W p l e { frames := 0, cells := mc, slots := ms, locals := 0 } s m args below meth c H locs cells slots (jQ D dA H0 below s (.returned none) h' mc ms) (F0 m 59 ls []) := by
  have hx := cx.1
  have hb := cx.2.1
  have hown := cx.2.2.2.1
  have hts := cx.2.2.2.2.1
  have hm : h'.2.2.1 ≤ hs.2.2.1 + mc ∧ h'.2.2.2.1 ≤ hs.2.2.2.1 + ms := ⟨Nat.le_of_eq e1, Nat.le_of_eq e2⟩
  intro h H locs cells slots ls hf hS hl
  unfold fX7_unwrites_59 at hf
  exact j_vret (pc := 59) cx hS hf e1 e2 dX7_unwrites_59
theorem wX7_unwrites_3 {N : Nat} {r : Unit} (cx : jCx p s m args meth c cX7_unwrites "WornSkinModel" 5 (Option.none : Option Jvm.ClassFile.FieldType) D dA H0 hs.2.2.2.2) (e1 : h'.2.2.1 = hs.2.2.1 + mc) (e2 : h'.2.2.2.1 = hs.2.2.2.1 + ms) (a0 : Nat) (hth : jTh hs a0 7) : ∀ (n : Nat) (x1 : Int32) (x2 : Int32) (x3 : Int32) (x4 : Int32), ∀ (h : jH) (H : Heap) (locs : List Loc) (cells slots : Nat) (ls : Array Slot), (fX7_unwrites_3 N a0 n x1 x2 x3 x4).1 h = some (r, h') → jS D dA H0 hs h H locs cells slots → lv_has ls 5 [(0, .ref a0), (1, .int x1), (2, .int x2), (3, .int x3), (4, .int x4)] → W p l e { frames := 0, cells := mc, slots := ms, locals := 0 } s m args below meth c H locs cells slots (jQ D dA H0 below s (.returned none) h' mc ms) (F0 m 3 ls []) := by
  have hx := cx.1
  have hb := cx.2.1
  have hown := cx.2.2.2.1
  have hts := cx.2.2.2.2.1
  have hm : h'.2.2.1 ≤ hs.2.2.1 + mc ∧ h'.2.2.2.1 ≤ hs.2.2.2.1 + ms := ⟨Nat.le_of_eq e1, Nat.le_of_eq e2⟩
  intro n
  induction n with
  | zero =>
    intro x1 x2 x3 x4 h H locs cells slots ls hf hS hl
    exact jE_f hf
  | succ n ih =>
    intro x1 x2 x3 x4 h H locs cells slots ls hf hS hl
    unfold fX7_unwrites_3 at hf
    refine lv_iload (pc := 3) hx hb dX7_unwrites_3 (lv_at hl 4 rfl) ?_
    refine lv_iload_n (pc := 5) hx hb dX7_unwrites_5 rfl (lv_at hl 3 rfl) ?_
    refine lv_aload_n (pc := 6) hx hb dX7_unwrites_6 rfl (lv_at hl 0 rfl) ?_
    refine j_gR (pc := 7) cx hS hf fd_WornSkinModel_long0 q1702 dX7_unwrites_7 (fun y1 hf => ?_)
    refine lv_iload_n (pc := 10) hx hb dX7_unwrites_10 rfl (lv_at hl 1 rfl) ?_
    refine j_aI (pc := 11) cx hS hf rfl dX7_unwrites_11 (fun y2 hf => ?_)
    refine lv_iadd (pc := 12) hx hb dX7_unwrites_12 ?_
    refine lv_icmp_ge (pc := 13) (tgt := 59) hx hb dX7_unwrites_13 (by decide) (fun hc => ?_) (fun hc => ?_)
    · have hf := jI_t hf hc
      exact wX7_unwrites_59 cx e1 e2 a0 hth _ _ _ _ _ _ hf hS (lv_sub hl [0] rfl)
    · have hf := jI_f hf hc
      refine lv_aload_n (pc := 16) hx hb dX7_unwrites_16 rfl (lv_at hl 0 rfl) ?_
      refine j_gR (pc := 17) cx hS hf fd_WornSkinModel_s q1732 dX7_unwrites_17 (fun y3 hf => ?_)
      refine lv_bipush (pc := 20) (v := 7) hx hb dX7_unwrites_20 rfl ?_
      refine lv_bipush (pc := 22) (v := 6) hx hb dX7_unwrites_22 rfl ?_
      refine lv_iload_n (pc := 24) hx hb dX7_unwrites_24 rfl (lv_at hl 2 rfl) ?_
      refine lv_imul (pc := 25) hx hb dX7_unwrites_25 ?_
      refine lv_iadd (pc := 26) hx hb dX7_unwrites_26 ?_
      refine lv_iload (pc := 27) hx hb dX7_unwrites_27 (lv_at hl 4 rfl) ?_
      refine lv_iadd (pc := 29) hx hb dX7_unwrites_29 ?_
      refine lv_dup2_11 (pc := 30) hx hb dX7_unwrites_30 rfl (jrfc _) ?_
      refine j_aI (pc := 31) cx hS hf rfl dX7_unwrites_31 (fun y4 hf => ?_)
      refine lv_bipush (pc := 32) (v := 7) hx hb dX7_unwrites_32 rfl ?_
      obtain ⟨hne, hf⟩ := jnz_s hf
      refine lv_idiv (pc := 34) hx hb dX7_unwrites_34 hne ?_
      refine j_sI (pc := 35) cx hS hf rfl dX7_unwrites_35 (fun h H locs hf hS => ?_)
      refine lv_aload_n (pc := 36) hx hb dX7_unwrites_36 rfl (lv_at hl 0 rfl) ?_
      refine j_gR (pc := 37) cx hS hf fd_WornSkinModel_s q1732 dX7_unwrites_37 (fun y5 hf => ?_)
      refine lv_iconst (pc := 40) (v := 4) hx hb dX7_unwrites_40 rfl ?_
      refine lv_iload_n (pc := 41) hx hb dX7_unwrites_41 rfl (lv_at hl 2 rfl) ?_
      refine lv_iadd (pc := 42) hx hb dX7_unwrites_42 ?_
      refine lv_dup2_11 (pc := 43) hx hb dX7_unwrites_43 rfl (jrfc _) ?_
      refine j_aI (pc := 44) cx hS hf rfl dX7_unwrites_44 (fun y6 hf => ?_)
      refine lv_iconst (pc := 45) (v := 1) hx hb dX7_unwrites_45 rfl ?_
      refine lv_iload (pc := 46) hx hb dX7_unwrites_46 (lv_at hl 4 rfl) ?_
      refine lv_ishl (pc := 48) hx hb dX7_unwrites_48 ?_
      refine lv_iconst (pc := 49) (v := (-1)) hx hb dX7_unwrites_49 rfl ?_
      refine lv_ixor (pc := 50) hx hb dX7_unwrites_50 ?_
      refine lv_iand (pc := 51) hx hb dX7_unwrites_51 ?_
      refine j_sI (pc := 52) cx hS hf rfl dX7_unwrites_52 (fun h H locs hf hS => ?_)
      refine lv_iinc (pc := 53) (v := (x4 + 1)) (lv' := [(4, .int (x4 + 1)), (0, .ref a0), (1, .int x1), (2, .int x2), (3, .int x3)]) hx hb dX7_unwrites_53 hl (k := 4) rfl rfl (Nat.le_of_ble_eq_true rfl) rfl (fun ls hl => ?_)
      refine lv_goto (pc := 56) (tgt := 3) hx hb dX7_unwrites_56 (by decide) ?_
      exact ih _ _ _ _ _ _ _ _ _ _ hf hS (lv_sub hl [1, 2, 3, 4, 0] rfl)
theorem wX7_unwrites_0 {N : Nat} {r : Unit} (cx : jCx p s m args meth c cX7_unwrites "WornSkinModel" 5 (Option.none : Option Jvm.ClassFile.FieldType) D dA H0 hs.2.2.2.2) (e1 : h'.2.2.1 = hs.2.2.1 + mc) (e2 : h'.2.2.2.1 = hs.2.2.2.1 + ms) (a0 : Nat) (hth : jTh hs a0 7) : ∀ (x1 : Int32) (x2 : Int32) (x3 : Int32), ∀ (h : jH) (H : Heap) (locs : List Loc) (cells slots : Nat) (ls : Array Slot), (fX7_unwrites N a0 x1 x2 x3).1 h = some (r, h') → jS D dA H0 hs h H locs cells slots → lv_has ls 5 [(0, .ref a0), (1, .int x1), (2, .int x2), (3, .int x3)] → W p l e { frames := 0, cells := mc, slots := ms, locals := 0 } s m args below meth c H locs cells slots (jQ D dA H0 below s (.returned none) h' mc ms) (F0 m 0 ls []) := by
  have hx := cx.1
  have hb := cx.2.1
  have hown := cx.2.2.2.1
  have hts := cx.2.2.2.2.1
  have hm : h'.2.2.1 ≤ hs.2.2.1 + mc ∧ h'.2.2.2.1 ≤ hs.2.2.2.1 + ms := ⟨Nat.le_of_eq e1, Nat.le_of_eq e2⟩
  intro x1 x2 x3 h H locs cells slots ls hf hS hl
  unfold fX7_unwrites at hf
  refine lv_iload_n (pc := 0) hx hb dX7_unwrites_0 rfl (lv_at hl 3 rfl) ?_
  refine lv_istore (pc := 1) (i := 4) (lv' := [(4, .int x3), (0, .ref a0), (1, .int x1), (2, .int x2), (3, .int x3)]) hx hb dX7_unwrites_1 hl (Nat.le_of_ble_eq_true rfl) rfl (fun ls hl => ?_)
  exact wX7_unwrites_3 cx e1 e2 a0 hth N _ _ _ _ _ _ _ _ _ _ hf hS (lv_sub hl [1, 2, 3, 4, 0] rfl)
theorem metX7_unwrites (l : Launch) (N : Nat) (a0 : Nat) (x1 : Int32) (x2 : Int32) (x3 : Int32) (h h' : jH) (r : Unit) (hth : jcd h a0 = some 7) (hf : (fX7_unwrites N a0 x1 x2 x3).1 h = some (r, h')) : jMet l yX7_unwrites (ws_ yX7_unwrites cX7_unwrites 5 (Option.none : Option Jvm.ClassFile.FieldType)) (0) (0) [.ref a0, .int x1, .int x2, .int x3] h h' (.returned none) := by
  refine jStart rfl (jle hf) (Nat.le_of_ble_eq_true rfl) ?_
  intro p e s m below meth c D dA H0 mc ms ls cx hnm e1 e2 hS hl
  have hth := jTh.mk hS hth
  exact wX7_unwrites_0 cx e1 e2 a0 hth _ _ _ _ _ _ _ _ _ hf hS hl
def fX7_writesAll_157 (N : Nat) (rec : Int32 → Int32 → jM Unit) (a0 : Nat) (x1 : Int32) (x2 : Int32) : jM Unit := jB (jgR [7] 55 (some a0)) fun y1 => jB (jsI 0 y1 x1 (-1)) fun _ => jB (rec (x1 + 1) x2) fun _ => jR ()
def fX7_writesAll_151 (N : Nat) (rec : Int32 → Int32 → jM Unit) (k62 : Int32 → Int32 → Int32 → jM Unit) (a0 : Nat) (x1 : Int32) (x2 : Int32) (x3 : Int32) : jM Unit := k62 x1 x2 (x3 + 1)
def fX7_writesAll_62 (N : Nat) (rec : Int32 → Int32 → jM Unit) (a0 : Nat) : Nat → Int32 → Int32 → Int32 → jM Unit
  | 0, _, _, _ => jE
  | n + 1, x1, x2, x3 => jB (jgR [7] 10 (some a0)) fun y1 => jB (jaI 0 y1 0) fun y2 => if (6 * y2) ≤ x3 then (fX7_writesAll_157 N rec a0 x1 x2) else (jB (jnz 6) fun _ => jB (jnz 6) fun _ => jB (jgR [7] 13 (some a0)) fun y3 => jB (jaI 0 y3 (x3 / 6)) fun y4 => if y4 ≤ (x3 - x3 / 6 * 6) then (fX7_writesAll_151 N rec (fX7_writesAll_62 N rec a0 n) a0 x1 x2 x3) else (jB (jnz 6) fun _ => jB (fX7_canWrite N a0 x1 (x3 / 6) (x3 - x3 / 6 * 6)) fun y5 => if y5 = 0 then (fX7_writesAll_151 N rec (fX7_writesAll_62 N rec a0 n) a0 x1 x2 x3) else (jB (jgR [7] 55 (some a0)) fun y6 => jB (jsI 0 y6 x1 x3) fun _ => jB (jnz 6) fun _ => jB (fX7_writes N a0 x1 (x3 / 6) (x3 - x3 / 6 * 6)) fun _ => jB (rec (x1 + 1) (x2 + 1)) fun _ => jB (jnz 6) fun _ => jB (fX7_unwrites N a0 x1 (x3 / 6) (x3 - x3 / 6 * 6)) fun _ => fX7_writesAll_151 N rec (fX7_writesAll_62 N rec a0 n) a0 x1 x2 x3)))
def fX7_writesAll_59 (N : Nat) (rec : Int32 → Int32 → jM Unit) (a0 : Nat) : jM Unit := jR ()
def fX7_writesAll_35 (N : Nat) (rec : Int32 → Int32 → jM Unit) (a0 : Nat) : Nat → Int32 → jM Unit
  | 0, _ => jE
  | n + 1, x3 => if 6 ≤ x3 then (fX7_writesAll_59 N rec a0) else (jB (jgR [7] 56 (some a0)) fun y1 => jB (jgR [7] 55 (some a0)) fun y2 => jB (jaI 0 y2 x3) fun y3 => jB (jsI 0 y1 x3 y3) fun _ => fX7_writesAll_35 N rec a0 n (x3 + 1))
def gX7_writesAll (N : Nat) (rec : Int32 → Int32 → jM Unit) (a0 : Nat) (x1 : Int32) (x2 : Int32) : jM Unit := jB (jgR [7] 10 (some a0)) fun y1 => jB (jaI 0 y1 1) fun y2 => jB (jgI [7] 57 (some a0)) fun y3 => if y3 < ((x2 + y2) - x1) then (jB (jgR [7] 10 (some a0)) fun y4 => jB (jaI 0 y4 1) fun y5 => if x1 = y5 then (jB (jpI [7] 57 (some a0) x2) fun _ => fX7_writesAll_35 N rec a0 N 0) else (fX7_writesAll_62 N rec a0 N x1 x2 0)) else (jR ())
theorem wX7_writesAll_157 {N : Nat} {rec : Int32 → Int32 → jM Unit} {FR LO : Nat} {r : Unit} (cx : jCx p s m args meth c cX7_writesAll "WornSkinModel" 5 (Option.none : Option Jvm.ClassFile.FieldType) D dA H0 hs.2.2.2.2) (e1 : h'.2.2.1 = hs.2.2.1 + mc) (e2 : h'.2.2.2.1 = hs.2.2.2.1 + ms) (a0 : Nat) (hth : jTh hs a0 7) (hrec : ∀ (x1 : Int32) (x2 : Int32) (h : jH) (r : Unit) (h1 : jH), (rec x1 x2).1 h = some (r, h1) → jcd h a0 = some 7 → jMet l yX7_writesAll (ws_ yX7_writesAll cX7_writesAll 5 (Option.none : Option Jvm.ClassFile.FieldType)) FR LO [.ref a0, .int x1, .int x2] h h1 (.returned none)) : ∀ (x1 : Int32) (x2 : Int32), ∀ (h : jH) (H : Heap) (locs : List Loc) (cells slots : Nat) (ls : Array Slot), (fX7_writesAll_157 N rec a0 x1 x2).1 h = some (r, h') → jS D dA H0 hs h H locs cells slots → lv_has ls 5 [(0, .ref a0), (1, .int x1), (2, .int x2)] → W p l e { frames := FR + 1, cells := mc, slots := ms, locals := LO + 24 } s m args below meth c H locs cells slots (jQ D dA H0 below s (.returned none) h' mc ms) (F0 m 157 ls []) := by
  have hx := cx.1
  have hb := cx.2.1
  have hown := cx.2.2.2.1
  have hts := cx.2.2.2.2.1
  have hm : h'.2.2.1 ≤ hs.2.2.1 + mc ∧ h'.2.2.2.1 ≤ hs.2.2.2.1 + ms := ⟨Nat.le_of_eq e1, Nat.le_of_eq e2⟩
  intro x1 x2 h H locs cells slots ls hf hS hl
  unfold fX7_writesAll_157 at hf
  refine lv_aload_n (pc := 157) hx hb dX7_writesAll_157 rfl (lv_at hl 0 rfl) ?_
  refine j_gR (pc := 158) cx hS hf fd_WornSkinModel_row q1739 dX7_writesAll_158 (fun y1 hf => ?_)
  refine lv_iload_n (pc := 161) hx hb dX7_writesAll_161 rfl (lv_at hl 1 rfl) ?_
  refine lv_iconst (pc := 162) (v := (-1)) hx hb dX7_writesAll_162 rfl ?_
  refine j_sI (pc := 163) cx hS hf rfl dX7_writesAll_163 (fun h H locs hf hS => ?_)
  refine lv_aload_n (pc := 164) hx hb dX7_writesAll_164 rfl (lv_at hl 0 rfl) ?_
  refine lv_iload_n (pc := 165) hx hb dX7_writesAll_165 rfl (lv_at hl 1 rfl) ?_
  refine lv_iconst (pc := 166) (v := 1) hx hb dX7_writesAll_166 rfl ?_
  refine lv_iadd (pc := 167) hx hb dX7_writesAll_167 ?_
  refine lv_iload_n (pc := 168) hx hb dX7_writesAll_168 rfl (lv_at hl 2 rfl) ?_
  obtain ⟨_, h1, e9, hf⟩ := jB_some hf
  refine j_callV (pc := 169) (st1 := []) (As := [.int (x1 + 1), .int x2]) (rest := []) cx hS rfl hl.1 hm (hrec _ _ _ _ _ e9 (hth.at hS)) (jle hf) (hth.at hS) rfl (lw_V q2213 q2215 qs104 q123 q2216) pdX7_writesAll rfl rfl (Nat.le_of_ble_eq_true rfl) ⟨jfr2 (Nat.le_of_ble_eq_true rfl), jlo2 (Nat.le_of_ble_eq_true rfl)⟩ dX7_writesAll_169 rfl (fun H locs cells slots hS => ?_)
  exact j_vret (pc := 172) cx hS hf e1 e2 dX7_writesAll_172
theorem wX7_writesAll_151 {N : Nat} {rec : Int32 → Int32 → jM Unit} {FR LO : Nat} {k62 : Int32 → Int32 → Int32 → jM Unit} {r : Unit} (cx : jCx p s m args meth c cX7_writesAll "WornSkinModel" 5 (Option.none : Option Jvm.ClassFile.FieldType) D dA H0 hs.2.2.2.2) (e1 : h'.2.2.1 = hs.2.2.1 + mc) (e2 : h'.2.2.2.1 = hs.2.2.2.1 + ms) (a0 : Nat) (hth : jTh hs a0 7) (hrec : ∀ (x1 : Int32) (x2 : Int32) (h : jH) (r : Unit) (h1 : jH), (rec x1 x2).1 h = some (r, h1) → jcd h a0 = some 7 → jMet l yX7_writesAll (ws_ yX7_writesAll cX7_writesAll 5 (Option.none : Option Jvm.ClassFile.FieldType)) FR LO [.ref a0, .int x1, .int x2] h h1 (.returned none)) (hk62 : ∀ (x1 : Int32) (x2 : Int32) (x3 : Int32), ∀ (h : jH) (H : Heap) (locs : List Loc) (cells slots : Nat) (ls : Array Slot), (k62 x1 x2 x3).1 h = some (r, h') → jS D dA H0 hs h H locs cells slots → lv_has ls 5 [(0, .ref a0), (1, .int x1), (2, .int x2), (3, .int x3)] → W p l e { frames := FR + 1, cells := mc, slots := ms, locals := LO + 24 } s m args below meth c H locs cells slots (jQ D dA H0 below s (.returned none) h' mc ms) (F0 m 62 ls [])) : ∀ (x1 : Int32) (x2 : Int32) (x3 : Int32), ∀ (h : jH) (H : Heap) (locs : List Loc) (cells slots : Nat) (ls : Array Slot), (fX7_writesAll_151 N rec k62 a0 x1 x2 x3).1 h = some (r, h') → jS D dA H0 hs h H locs cells slots → lv_has ls 5 [(0, .ref a0), (1, .int x1), (2, .int x2), (3, .int x3)] → W p l e { frames := FR + 1, cells := mc, slots := ms, locals := LO + 24 } s m args below meth c H locs cells slots (jQ D dA H0 below s (.returned none) h' mc ms) (F0 m 151 ls []) := by
  have hx := cx.1
  have hb := cx.2.1
  have hown := cx.2.2.2.1
  have hts := cx.2.2.2.2.1
  have hm : h'.2.2.1 ≤ hs.2.2.1 + mc ∧ h'.2.2.2.1 ≤ hs.2.2.2.1 + ms := ⟨Nat.le_of_eq e1, Nat.le_of_eq e2⟩
  intro x1 x2 x3 h H locs cells slots ls hf hS hl
  unfold fX7_writesAll_151 at hf
  refine lv_iinc (pc := 151) (v := (x3 + 1)) (lv' := [(3, .int (x3 + 1)), (0, .ref a0), (1, .int x1), (2, .int x2)]) hx hb dX7_writesAll_151 hl (k := 3) rfl rfl (Nat.le_of_ble_eq_true rfl) rfl (fun ls hl => ?_)
  refine lv_goto (pc := 154) (tgt := 62) hx hb dX7_writesAll_154 (by decide) ?_
  exact hk62 _ _ _ _ _ _ _ _ _ hf hS (lv_sub hl [1, 2, 3, 0] rfl)
theorem wX7_writesAll_62 {N : Nat} {rec : Int32 → Int32 → jM Unit} {FR LO : Nat} {r : Unit} (cx : jCx p s m args meth c cX7_writesAll "WornSkinModel" 5 (Option.none : Option Jvm.ClassFile.FieldType) D dA H0 hs.2.2.2.2) (e1 : h'.2.2.1 = hs.2.2.1 + mc) (e2 : h'.2.2.2.1 = hs.2.2.2.1 + ms) (a0 : Nat) (hth : jTh hs a0 7) (hrec : ∀ (x1 : Int32) (x2 : Int32) (h : jH) (r : Unit) (h1 : jH), (rec x1 x2).1 h = some (r, h1) → jcd h a0 = some 7 → jMet l yX7_writesAll (ws_ yX7_writesAll cX7_writesAll 5 (Option.none : Option Jvm.ClassFile.FieldType)) FR LO [.ref a0, .int x1, .int x2] h h1 (.returned none)) : ∀ (n : Nat) (x1 : Int32) (x2 : Int32) (x3 : Int32), ∀ (h : jH) (H : Heap) (locs : List Loc) (cells slots : Nat) (ls : Array Slot), (fX7_writesAll_62 N rec a0 n x1 x2 x3).1 h = some (r, h') → jS D dA H0 hs h H locs cells slots → lv_has ls 5 [(0, .ref a0), (1, .int x1), (2, .int x2), (3, .int x3)] → W p l e { frames := FR + 1, cells := mc, slots := ms, locals := LO + 24 } s m args below meth c H locs cells slots (jQ D dA H0 below s (.returned none) h' mc ms) (F0 m 62 ls []) := by
  have hx := cx.1
  have hb := cx.2.1
  have hown := cx.2.2.2.1
  have hts := cx.2.2.2.2.1
  have hm : h'.2.2.1 ≤ hs.2.2.1 + mc ∧ h'.2.2.2.1 ≤ hs.2.2.2.1 + ms := ⟨Nat.le_of_eq e1, Nat.le_of_eq e2⟩
  intro n
  induction n with
  | zero =>
    intro x1 x2 x3 h H locs cells slots ls hf hS hl
    exact jE_f hf
  | succ n ih =>
    intro x1 x2 x3 h H locs cells slots ls hf hS hl
    unfold fX7_writesAll_62 at hf
    refine lv_iload_n (pc := 62) hx hb dX7_writesAll_62 rfl (lv_at hl 3 rfl) ?_
    refine lv_bipush (pc := 63) (v := 6) hx hb dX7_writesAll_63 rfl ?_
    refine lv_aload_n (pc := 65) hx hb dX7_writesAll_65 rfl (lv_at hl 0 rfl) ?_
    refine j_gR (pc := 66) cx hS hf fd_WornSkinModel_library q1694 dX7_writesAll_66 (fun y1 hf => ?_)
    refine lv_iconst (pc := 69) (v := 0) hx hb dX7_writesAll_69 rfl ?_
    refine j_aI (pc := 70) cx hS hf rfl dX7_writesAll_70 (fun y2 hf => ?_)
    refine lv_imul (pc := 71) hx hb dX7_writesAll_71 ?_
    refine lv_icmp_ge (pc := 72) (tgt := 157) hx hb dX7_writesAll_72 (by decide) (fun hc => ?_) (fun hc => ?_)
    · have hf := jI_t hf hc
      exact wX7_writesAll_157 cx e1 e2 a0 hth hrec _ _ _ _ _ _ _ _ hf hS (lv_sub hl [0, 1, 2] rfl)
    · have hf := jI_f hf hc
      refine lv_iload_n (pc := 75) hx hb dX7_writesAll_75 rfl (lv_at hl 3 rfl) ?_
      refine lv_bipush (pc := 76) (v := 6) hx hb dX7_writesAll_76 rfl ?_
      obtain ⟨hne, hf⟩ := jnz_s hf
      refine lv_idiv (pc := 78) hx hb dX7_writesAll_78 hne ?_
      refine lv_istore (pc := 79) (i := 4) (lv' := [(4, .int (x3 / 6)), (0, .ref a0), (1, .int x1), (2, .int x2), (3, .int x3)]) hx hb dX7_writesAll_79 hl (Nat.le_of_ble_eq_true rfl) rfl (fun ls hl => ?_)
      refine lv_iload_n (pc := 81) hx hb dX7_writesAll_81 rfl (lv_at hl 4 rfl) ?_
      refine lv_bipush (pc := 82) (v := 6) hx hb dX7_writesAll_82 rfl ?_
      obtain ⟨hne, hf⟩ := jnz_s hf
      refine lv_irem (pc := 84) hx hb dX7_writesAll_84 hne ?_
      refine lv_aload_n (pc := 85) hx hb dX7_writesAll_85 rfl (lv_at hl 1 rfl) ?_
      refine j_gR (pc := 86) cx hS hf fd_WornSkinModel_linesOf q1697 dX7_writesAll_86 (fun y3 hf => ?_)
      refine lv_iload (pc := 89) hx hb dX7_writesAll_89 (lv_at hl 0 rfl) ?_
      refine j_aI (pc := 91) cx hS hf rfl dX7_writesAll_91 (fun y4 hf => ?_)
      refine lv_icmp_ge (pc := 92) (tgt := 151) hx hb dX7_writesAll_92 (by decide) (fun hc => ?_) (fun hc => ?_)
      · have hf := jI_t hf hc
        exact wX7_writesAll_151 cx e1 e2 a0 hth hrec ih _ _ _ _ _ _ _ _ _ hf hS (lv_sub hl [1, 2, 3, 4] rfl)
      · have hf := jI_f hf hc
        refine lv_aload_n (pc := 95) hx hb dX7_writesAll_95 rfl (lv_at hl 1 rfl) ?_
        refine lv_iload_n (pc := 96) hx hb dX7_writesAll_96 rfl (lv_at hl 2 rfl) ?_
        refine lv_iload (pc := 97) hx hb dX7_writesAll_97 (lv_at hl 0 rfl) ?_
        refine lv_iload_n (pc := 99) hx hb dX7_writesAll_99 rfl (lv_at hl 4 rfl) ?_
        refine lv_bipush (pc := 100) (v := 6) hx hb dX7_writesAll_100 rfl ?_
        obtain ⟨hne, hf⟩ := jnz_s hf
        refine lv_irem (pc := 102) hx hb dX7_writesAll_102 hne ?_
        obtain ⟨y5, h1, e9, hf⟩ := jB_some hf
        refine j_callV (pc := 103) (st1 := [.int y5]) (As := [.int x1, .int (x3 / 6), .int (x3 - x3 / 6 * 6)]) (rest := []) cx hS rfl hl.1 hm (metX7_canWrite l _ _ _ _ _ _ _ _ (hth.at hS) e9) (jle hf) (hth.at hS) rfl (lw_V q2116 q2118 qs94 q123 q2119) pdX7_canWrite rfl rfl (Nat.le_of_ble_eq_true rfl) ⟨jfr1 (Nat.le_of_ble_eq_true rfl), jfr1 (Nat.le_of_ble_eq_true rfl)⟩ dX7_writesAll_103 rfl (fun H locs cells slots hS => ?_)
        refine lv_if_ne (pc := 106) (tgt := 112) hx hb dX7_writesAll_106 (by decide) (fun hc => ?_) (fun hc => ?_)
        · have hf := jI_f hf hc
          refine lv_aload_n (pc := 112) hx hb dX7_writesAll_112 rfl (lv_at hl 1 rfl) ?_
          refine j_gR (pc := 113) cx hS hf fd_WornSkinModel_row q1739 dX7_writesAll_113 (fun y6 hf => ?_)
          refine lv_iload_n (pc := 116) hx hb dX7_writesAll_116 rfl (lv_at hl 2 rfl) ?_
          refine lv_iload_n (pc := 117) hx hb dX7_writesAll_117 rfl (lv_at hl 4 rfl) ?_
          refine j_sI (pc := 118) cx hS hf rfl dX7_writesAll_118 (fun h H locs hf hS => ?_)
          refine lv_aload_n (pc := 119) hx hb dX7_writesAll_119 rfl (lv_at hl 1 rfl) ?_
          refine lv_iload_n (pc := 120) hx hb dX7_writesAll_120 rfl (lv_at hl 2 rfl) ?_
          refine lv_iload (pc := 121) hx hb dX7_writesAll_121 (lv_at hl 0 rfl) ?_
          refine lv_iload_n (pc := 123) hx hb dX7_writesAll_123 rfl (lv_at hl 4 rfl) ?_
          refine lv_bipush (pc := 124) (v := 6) hx hb dX7_writesAll_124 rfl ?_
          obtain ⟨hne, hf⟩ := jnz_s hf
          refine lv_irem (pc := 126) hx hb dX7_writesAll_126 hne ?_
          obtain ⟨_, h1, e9, hf⟩ := jB_some hf
          refine j_callV (pc := 127) (st1 := []) (As := [.int x1, .int (x3 / 6), .int (x3 - x3 / 6 * 6)]) (rest := []) cx hS rfl hl.1 hm (metX7_writes l _ _ _ _ _ _ _ _ (hth.at hS) e9) (jle hf) (hth.at hS) rfl (lw_V q2128 q2130 qs96 q123 q2131) pdX7_writes rfl rfl (Nat.le_of_ble_eq_true rfl) ⟨jfr1 (Nat.le_of_ble_eq_true rfl), jfr1 (Nat.le_of_ble_eq_true rfl)⟩ dX7_writesAll_127 rfl (fun H locs cells slots hS => ?_)
          refine lv_aload_n (pc := 130) hx hb dX7_writesAll_130 rfl (lv_at hl 1 rfl) ?_
          refine lv_iload_n (pc := 131) hx hb dX7_writesAll_131 rfl (lv_at hl 2 rfl) ?_
          refine lv_iconst (pc := 132) (v := 1) hx hb dX7_writesAll_132 rfl ?_
          refine lv_iadd (pc := 133) hx hb dX7_writesAll_133 ?_
          refine lv_iload_n (pc := 134) hx hb dX7_writesAll_134 rfl (lv_at hl 3 rfl) ?_
          refine lv_iconst (pc := 135) (v := 1) hx hb dX7_writesAll_135 rfl ?_
          refine lv_iadd (pc := 136) hx hb dX7_writesAll_136 ?_
          obtain ⟨_, h1, e9, hf⟩ := jB_some hf
          refine j_callV (pc := 137) (st1 := []) (As := [.int (x1 + 1), .int (x2 + 1)]) (rest := []) cx hS rfl hl.1 hm (hrec _ _ _ _ _ e9 (hth.at hS)) (jle hf) (hth.at hS) rfl (lw_V q2213 q2215 qs104 q123 q2216) pdX7_writesAll rfl rfl (Nat.le_of_ble_eq_true rfl) ⟨jfr2 (Nat.le_of_ble_eq_true rfl), jlo2 (Nat.le_of_ble_eq_true rfl)⟩ dX7_writesAll_137 rfl (fun H locs cells slots hS => ?_)
          refine lv_aload_n (pc := 140) hx hb dX7_writesAll_140 rfl (lv_at hl 1 rfl) ?_
          refine lv_iload_n (pc := 141) hx hb dX7_writesAll_141 rfl (lv_at hl 2 rfl) ?_
          refine lv_iload (pc := 142) hx hb dX7_writesAll_142 (lv_at hl 0 rfl) ?_
          refine lv_iload_n (pc := 144) hx hb dX7_writesAll_144 rfl (lv_at hl 4 rfl) ?_
          refine lv_bipush (pc := 145) (v := 6) hx hb dX7_writesAll_145 rfl ?_
          obtain ⟨hne, hf⟩ := jnz_s hf
          refine lv_irem (pc := 147) hx hb dX7_writesAll_147 hne ?_
          obtain ⟨_, h1, e9, hf⟩ := jB_some hf
          refine j_callV (pc := 148) (st1 := []) (As := [.int x1, .int (x3 / 6), .int (x3 - x3 / 6 * 6)]) (rest := []) cx hS rfl hl.1 hm (metX7_unwrites l _ _ _ _ _ _ _ _ (hth.at hS) e9) (jle hf) (hth.at hS) rfl (lw_V q2217 q2219 qs105 q123 q2220) pdX7_unwrites rfl rfl (Nat.le_of_ble_eq_true rfl) ⟨jfr1 (Nat.le_of_ble_eq_true rfl), jfr1 (Nat.le_of_ble_eq_true rfl)⟩ dX7_writesAll_148 rfl (fun H locs cells slots hS => ?_)
          exact wX7_writesAll_151 cx e1 e2 a0 hth hrec ih _ _ _ _ _ _ _ _ _ hf hS (lv_sub hl [1, 2, 3, 4] rfl)
        · have hf := jI_t hf hc
          refine lv_goto (pc := 109) (tgt := 151) hx hb dX7_writesAll_109 (by decide) ?_
          exact wX7_writesAll_151 cx e1 e2 a0 hth hrec ih _ _ _ _ _ _ _ _ _ hf hS (lv_sub hl [1, 2, 3, 4] rfl)
theorem wX7_writesAll_59 {N : Nat} {rec : Int32 → Int32 → jM Unit} {FR LO : Nat} {r : Unit} (cx : jCx p s m args meth c cX7_writesAll "WornSkinModel" 5 (Option.none : Option Jvm.ClassFile.FieldType) D dA H0 hs.2.2.2.2) (e1 : h'.2.2.1 = hs.2.2.1 + mc) (e2 : h'.2.2.2.1 = hs.2.2.2.1 + ms) (a0 : Nat) (hth : jTh hs a0 7) (hrec : ∀ (x1 : Int32) (x2 : Int32) (h : jH) (r : Unit) (h1 : jH), (rec x1 x2).1 h = some (r, h1) → jcd h a0 = some 7 → jMet l yX7_writesAll (ws_ yX7_writesAll cX7_writesAll 5 (Option.none : Option Jvm.ClassFile.FieldType)) FR LO [.ref a0, .int x1, .int x2] h h1 (.returned none)) : ∀ (h : jH) (H : Heap) (locs : List Loc) (cells slots : Nat) (ls : Array Slot), (fX7_writesAll_59 N rec a0).1 h = some (r, h') → jS D dA H0 hs h H locs cells slots → lv_has ls 5 [(0, .ref a0)] → W p l e { frames := FR + 1, cells := mc, slots := ms, locals := LO + 24 } s m args below meth c H locs cells slots (jQ D dA H0 below s (.returned none) h' mc ms) (F0 m 59 ls []) := by
  have hx := cx.1
  have hb := cx.2.1
  have hown := cx.2.2.2.1
  have hts := cx.2.2.2.2.1
  have hm : h'.2.2.1 ≤ hs.2.2.1 + mc ∧ h'.2.2.2.1 ≤ hs.2.2.2.1 + ms := ⟨Nat.le_of_eq e1, Nat.le_of_eq e2⟩
  intro h H locs cells slots ls hf hS hl
  unfold fX7_writesAll_59 at hf
  exact j_vret (pc := 59) cx hS hf e1 e2 dX7_writesAll_59
theorem wX7_writesAll_35 {N : Nat} {rec : Int32 → Int32 → jM Unit} {FR LO : Nat} {r : Unit} (cx : jCx p s m args meth c cX7_writesAll "WornSkinModel" 5 (Option.none : Option Jvm.ClassFile.FieldType) D dA H0 hs.2.2.2.2) (e1 : h'.2.2.1 = hs.2.2.1 + mc) (e2 : h'.2.2.2.1 = hs.2.2.2.1 + ms) (a0 : Nat) (hth : jTh hs a0 7) (hrec : ∀ (x1 : Int32) (x2 : Int32) (h : jH) (r : Unit) (h1 : jH), (rec x1 x2).1 h = some (r, h1) → jcd h a0 = some 7 → jMet l yX7_writesAll (ws_ yX7_writesAll cX7_writesAll 5 (Option.none : Option Jvm.ClassFile.FieldType)) FR LO [.ref a0, .int x1, .int x2] h h1 (.returned none)) : ∀ (n : Nat) (x3 : Int32), ∀ (h : jH) (H : Heap) (locs : List Loc) (cells slots : Nat) (ls : Array Slot), (fX7_writesAll_35 N rec a0 n x3).1 h = some (r, h') → jS D dA H0 hs h H locs cells slots → lv_has ls 5 [(0, .ref a0), (3, .int x3)] → W p l e { frames := FR + 1, cells := mc, slots := ms, locals := LO + 24 } s m args below meth c H locs cells slots (jQ D dA H0 below s (.returned none) h' mc ms) (F0 m 35 ls []) := by
  have hx := cx.1
  have hb := cx.2.1
  have hown := cx.2.2.2.1
  have hts := cx.2.2.2.2.1
  have hm : h'.2.2.1 ≤ hs.2.2.1 + mc ∧ h'.2.2.2.1 ≤ hs.2.2.2.1 + ms := ⟨Nat.le_of_eq e1, Nat.le_of_eq e2⟩
  intro n
  induction n with
  | zero =>
    intro x3 h H locs cells slots ls hf hS hl
    exact jE_f hf
  | succ n ih =>
    intro x3 h H locs cells slots ls hf hS hl
    unfold fX7_writesAll_35 at hf
    refine lv_iload_n (pc := 35) hx hb dX7_writesAll_35 rfl (lv_at hl 1 rfl) ?_
    refine lv_bipush (pc := 36) (v := 6) hx hb dX7_writesAll_36 rfl ?_
    refine lv_icmp_ge (pc := 38) (tgt := 59) hx hb dX7_writesAll_38 (by decide) (fun hc => ?_) (fun hc => ?_)
    · have hf := jI_t hf hc
      exact wX7_writesAll_59 cx e1 e2 a0 hth hrec _ _ _ _ _ _ hf hS (lv_sub hl [0] rfl)
    · have hf := jI_f hf hc
      refine lv_aload_n (pc := 41) hx hb dX7_writesAll_41 rfl (lv_at hl 0 rfl) ?_
      refine j_gR (pc := 42) cx hS hf fd_WornSkinModel_bestRow q1740 dX7_writesAll_42 (fun y1 hf => ?_)
      refine lv_iload_n (pc := 45) hx hb dX7_writesAll_45 rfl (lv_at hl 1 rfl) ?_
      refine lv_aload_n (pc := 46) hx hb dX7_writesAll_46 rfl (lv_at hl 0 rfl) ?_
      refine j_gR (pc := 47) cx hS hf fd_WornSkinModel_row q1739 dX7_writesAll_47 (fun y2 hf => ?_)
      refine lv_iload_n (pc := 50) hx hb dX7_writesAll_50 rfl (lv_at hl 1 rfl) ?_
      refine j_aI (pc := 51) cx hS hf rfl dX7_writesAll_51 (fun y3 hf => ?_)
      refine j_sI (pc := 52) cx hS hf rfl dX7_writesAll_52 (fun h H locs hf hS => ?_)
      refine lv_iinc (pc := 53) (v := (x3 + 1)) (lv' := [(3, .int (x3 + 1)), (0, .ref a0)]) hx hb dX7_writesAll_53 hl (k := 1) rfl rfl (Nat.le_of_ble_eq_true rfl) rfl (fun ls hl => ?_)
      refine lv_goto (pc := 56) (tgt := 35) hx hb dX7_writesAll_56 (by decide) ?_
      exact ih _ _ _ _ _ _ _ hf hS (lv_sub hl [1, 0] rfl)
theorem wX7_writesAll_0 {N : Nat} {rec : Int32 → Int32 → jM Unit} {FR LO : Nat} {r : Unit} (cx : jCx p s m args meth c cX7_writesAll "WornSkinModel" 5 (Option.none : Option Jvm.ClassFile.FieldType) D dA H0 hs.2.2.2.2) (e1 : h'.2.2.1 = hs.2.2.1 + mc) (e2 : h'.2.2.2.1 = hs.2.2.2.1 + ms) (a0 : Nat) (hth : jTh hs a0 7) (hrec : ∀ (x1 : Int32) (x2 : Int32) (h : jH) (r : Unit) (h1 : jH), (rec x1 x2).1 h = some (r, h1) → jcd h a0 = some 7 → jMet l yX7_writesAll (ws_ yX7_writesAll cX7_writesAll 5 (Option.none : Option Jvm.ClassFile.FieldType)) FR LO [.ref a0, .int x1, .int x2] h h1 (.returned none)) : ∀ (x1 : Int32) (x2 : Int32), ∀ (h : jH) (H : Heap) (locs : List Loc) (cells slots : Nat) (ls : Array Slot), (gX7_writesAll N rec a0 x1 x2).1 h = some (r, h') → jS D dA H0 hs h H locs cells slots → lv_has ls 5 [(0, .ref a0), (1, .int x1), (2, .int x2)] → W p l e { frames := FR + 1, cells := mc, slots := ms, locals := LO + 24 } s m args below meth c H locs cells slots (jQ D dA H0 below s (.returned none) h' mc ms) (F0 m 0 ls []) := by
  have hx := cx.1
  have hb := cx.2.1
  have hown := cx.2.2.2.1
  have hts := cx.2.2.2.2.1
  have hm : h'.2.2.1 ≤ hs.2.2.1 + mc ∧ h'.2.2.2.1 ≤ hs.2.2.2.1 + ms := ⟨Nat.le_of_eq e1, Nat.le_of_eq e2⟩
  intro x1 x2 h H locs cells slots ls hf hS hl
  unfold gX7_writesAll at hf
  refine lv_iload_n (pc := 0) hx hb dX7_writesAll_0 rfl (lv_at hl 2 rfl) ?_
  refine lv_aload_n (pc := 1) hx hb dX7_writesAll_1 rfl (lv_at hl 0 rfl) ?_
  refine j_gR (pc := 2) cx hS hf fd_WornSkinModel_library q1694 dX7_writesAll_2 (fun y1 hf => ?_)
  refine lv_iconst (pc := 5) (v := 1) hx hb dX7_writesAll_5 rfl ?_
  refine j_aI (pc := 6) cx hS hf rfl dX7_writesAll_6 (fun y2 hf => ?_)
  refine lv_iadd (pc := 7) hx hb dX7_writesAll_7 ?_
  refine lv_iload_n (pc := 8) hx hb dX7_writesAll_8 rfl (lv_at hl 1 rfl) ?_
  refine lv_isub (pc := 9) hx hb dX7_writesAll_9 ?_
  refine lv_aload_n (pc := 10) hx hb dX7_writesAll_10 rfl (lv_at hl 0 rfl) ?_
  refine j_gI (pc := 11) cx hS hf fd_WornSkinModel_most q1741 dX7_writesAll_11 (fun y3 hf => ?_)
  refine lv_icmp_gt (pc := 14) (tgt := 18) hx hb dX7_writesAll_14 (by decide) (fun hc => ?_) (fun hc => ?_)
  · have hf := jI_t hf hc
    refine lv_iload_n (pc := 18) hx hb dX7_writesAll_18 rfl (lv_at hl 1 rfl) ?_
    refine lv_aload_n (pc := 19) hx hb dX7_writesAll_19 rfl (lv_at hl 0 rfl) ?_
    refine j_gR (pc := 20) cx hS hf fd_WornSkinModel_library q1694 dX7_writesAll_20 (fun y4 hf => ?_)
    refine lv_iconst (pc := 23) (v := 1) hx hb dX7_writesAll_23 rfl ?_
    refine j_aI (pc := 24) cx hS hf rfl dX7_writesAll_24 (fun y5 hf => ?_)
    refine lv_icmp_ne (pc := 25) (tgt := 60) hx hb dX7_writesAll_25 (by decide) (fun hc => ?_) (fun hc => ?_)
    · have hf := jI_f hf hc
      refine lv_iconst (pc := 60) (v := 0) hx hb dX7_writesAll_60 rfl ?_
      refine lv_istore_n (pc := 61) (i := 3) (lv' := [(3, .int 0), (0, .ref a0), (1, .int x1), (2, .int x2)]) hx hb dX7_writesAll_61 rfl hl (Nat.le_of_ble_eq_true rfl) rfl (fun ls hl => ?_)
      exact wX7_writesAll_62 cx e1 e2 a0 hth hrec N _ _ _ _ _ _ _ _ _ hf hS (lv_sub hl [1, 2, 3, 0] rfl)
    · have hf := jI_t hf hc
      refine lv_aload_n (pc := 28) hx hb dX7_writesAll_28 rfl (lv_at hl 0 rfl) ?_
      refine lv_iload_n (pc := 29) hx hb dX7_writesAll_29 rfl (lv_at hl 2 rfl) ?_
      refine j_pI (pc := 30) cx hS hf fp_WornSkinModel_most (Or.inl rfl) q1741 dX7_writesAll_30 (fun h H locs hf hS => ?_)
      refine lv_iconst (pc := 33) (v := 0) hx hb dX7_writesAll_33 rfl ?_
      refine lv_istore_n (pc := 34) (i := 3) (lv' := [(3, .int 0), (0, .ref a0), (1, .int x1), (2, .int x2)]) hx hb dX7_writesAll_34 rfl hl (Nat.le_of_ble_eq_true rfl) rfl (fun ls hl => ?_)
      exact wX7_writesAll_35 cx e1 e2 a0 hth hrec N _ _ _ _ _ _ _ hf hS (lv_sub hl [1, 0] rfl)
  · have hf := jI_f hf hc
    exact j_vret (pc := 17) cx hS hf e1 e2 dX7_writesAll_17
theorem megX7_writesAll (l : Launch) (N : Nat) (rec : Int32 → Int32 → jM Unit) (FR LO : Nat) (a0 : Nat) (x1 : Int32) (x2 : Int32) (h h' : jH) (r : Unit) (hth : jcd h a0 = some 7) (hrec : ∀ (x1 : Int32) (x2 : Int32) (h : jH) (r : Unit) (h1 : jH), (rec x1 x2).1 h = some (r, h1) → jcd h a0 = some 7 → jMet l yX7_writesAll (ws_ yX7_writesAll cX7_writesAll 5 (Option.none : Option Jvm.ClassFile.FieldType)) FR LO [.ref a0, .int x1, .int x2] h h1 (.returned none)) (hf : (gX7_writesAll N rec a0 x1 x2).1 h = some (r, h')) : jMet l yX7_writesAll (ws_ yX7_writesAll cX7_writesAll 5 (Option.none : Option Jvm.ClassFile.FieldType)) (FR + 1) (LO + 24) [.ref a0, .int x1, .int x2] h h' (.returned none) := by
  refine jStart rfl (jle hf) (Nat.le_of_ble_eq_true rfl) ?_
  intro p e s m below meth c D dA H0 mc ms ls cx hnm e1 e2 hS hl
  have hth := jTh.mk hS hth
  exact wX7_writesAll_0 cx e1 e2 a0 hth hrec _ _ _ _ _ _ _ _ hf hS hl
def rX7_writesAll (N : Nat) (a0 : Nat) : Nat → Int32 → Int32 → jM Unit
  | 0, _, _ => jE
  | d + 1, x1, x2 => gX7_writesAll N (rX7_writesAll N a0 d) a0 x1 x2
theorem merX7_writesAll (l : Launch) (N : Nat) (a0 : Nat) : ∀ (d : Nat) (x1 : Int32) (x2 : Int32) (h h' : jH) (r : Unit), jcd h a0 = some 7 → (rX7_writesAll N a0 d x1 x2).1 h = some (r, h') → jMet l yX7_writesAll (ws_ yX7_writesAll cX7_writesAll 5 (Option.none : Option Jvm.ClassFile.FieldType)) (1 * d) (24 * d) [.ref a0, .int x1, .int x2] h h' (.returned none) := by
  intro d
  induction d with
  | zero =>
    intro x1 x2 h h' r hth hf
    exact jE_f hf
  | succ d ih =>
    intro x1 x2 h h' r hth hf
    exact megX7_writesAll l N (rX7_writesAll N a0 d) (1 * d) (24 * d) a0 x1 x2 h h' r hth (fun x1 x2 h r h1 hh hq => ih x1 x2 h h1 r hq hh) hf
def fX7_writesAll (N : Nat) (a0 : Nat) (x1 : Int32) (x2 : Int32) : jM Unit := rX7_writesAll N a0 8 x1 x2
theorem metX7_writesAll (l : Launch) (N : Nat) (a0 : Nat) (x1 : Int32) (x2 : Int32) (h h' : jH) (r : Unit) (hth : jcd h a0 = some 7) (hf : (fX7_writesAll N a0 x1 x2).1 h = some (r, h')) : jMet l yX7_writesAll (ws_ yX7_writesAll cX7_writesAll 5 (Option.none : Option Jvm.ClassFile.FieldType)) (8) (192) [.ref a0, .int x1, .int x2] h h' (.returned none) := merX7_writesAll l N a0 8 x1 x2 h h' r hth hf
def fX7_lay_50 (N : Nat) (a0 : Nat) (v0 : Int32) : jM Int32 := jR v0
def fX7_lay_21 (N : Nat) (a0 : Nat) (x1 : Int32) : jM Int32 := jB (jpI [7] 57 (some a0) (-1)) fun _ => jB (fX7_writesAll N a0 0 0) fun _ => if x1 = (-1) then (jB (jgI [7] 57 (some a0)) fun y4 => fX7_lay_50 N a0 y4) else (jB (jgR [7] 56 (some a0)) fun y2 => jB (jaI 0 y2 x1) fun y3 => fX7_lay_50 N a0 y3)
def fX7_lay (N : Nat) (a0 : Nat) (x1 : Int32) : jM Int32 := jB (jpI [7] 0 (some a0) 0) fun _ => if x1 = (-1) then (fX7_lay_21 N a0 x1) else (jB (fX7_isText a0 x1) fun y1 => if y1 = 0 then (jR (-2)) else (fX7_lay_21 N a0 x1))
theorem wX7_lay_50 {N : Nat} {r : Int32} (cx : jCx p s m args meth c cX7_lay "WornSkinModel" 2 (Option.some Jvm.ClassFile.FieldType.int) D dA H0 hs.2.2.2.2) (e1 : h'.2.2.1 = hs.2.2.1 + mc) (e2 : h'.2.2.2.1 = hs.2.2.2.1 + ms) (a0 : Nat) (hth : jTh hs a0 7) : ∀ (v0 : Int32), ∀ (h : jH) (H : Heap) (locs : List Loc) (cells slots : Nat) (ls : Array Slot), (fX7_lay_50 N a0 v0).1 h = some (r, h') → jS D dA H0 hs h H locs cells slots → lv_has ls 2 [(0, .ref a0)] → W p l e { frames := 9, cells := mc, slots := ms, locals := 216 } s m args below meth c H locs cells slots (jQ D dA H0 below s (.returned (some (.int r))) h' mc ms) (F0 m 50 ls [.int v0]) := by
  have hx := cx.1
  have hb := cx.2.1
  have hown := cx.2.2.2.1
  have hts := cx.2.2.2.2.1
  have hm : h'.2.2.1 ≤ hs.2.2.1 + mc ∧ h'.2.2.2.1 ≤ hs.2.2.2.1 + ms := ⟨Nat.le_of_eq e1, Nat.le_of_eq e2⟩
  intro v0 h H locs cells slots ls hf hS hl
  unfold fX7_lay_50 at hf
  exact j_iret (pc := 50) cx hS hf e1 e2 dX7_lay_50
theorem wX7_lay_21 {N : Nat} {r : Int32} (cx : jCx p s m args meth c cX7_lay "WornSkinModel" 2 (Option.some Jvm.ClassFile.FieldType.int) D dA H0 hs.2.2.2.2) (e1 : h'.2.2.1 = hs.2.2.1 + mc) (e2 : h'.2.2.2.1 = hs.2.2.2.1 + ms) (a0 : Nat) (hth : jTh hs a0 7) : ∀ (x1 : Int32), ∀ (h : jH) (H : Heap) (locs : List Loc) (cells slots : Nat) (ls : Array Slot), (fX7_lay_21 N a0 x1).1 h = some (r, h') → jS D dA H0 hs h H locs cells slots → lv_has ls 2 [(0, .ref a0), (1, .int x1)] → W p l e { frames := 9, cells := mc, slots := ms, locals := 216 } s m args below meth c H locs cells slots (jQ D dA H0 below s (.returned (some (.int r))) h' mc ms) (F0 m 21 ls []) := by
  have hx := cx.1
  have hb := cx.2.1
  have hown := cx.2.2.2.1
  have hts := cx.2.2.2.2.1
  have hm : h'.2.2.1 ≤ hs.2.2.1 + mc ∧ h'.2.2.2.1 ≤ hs.2.2.2.1 + ms := ⟨Nat.le_of_eq e1, Nat.le_of_eq e2⟩
  intro x1 h H locs cells slots ls hf hS hl
  unfold fX7_lay_21 at hf
  refine lv_aload_n (pc := 21) hx hb dX7_lay_21 rfl (lv_at hl 0 rfl) ?_
  refine lv_iconst (pc := 22) (v := (-1)) hx hb dX7_lay_22 rfl ?_
  refine j_pI (pc := 23) cx hS hf fp_WornSkinModel_most (Or.inl rfl) q1741 dX7_lay_23 (fun h H locs hf hS => ?_)
  refine lv_aload_n (pc := 26) hx hb dX7_lay_26 rfl (lv_at hl 0 rfl) ?_
  refine lv_iconst (pc := 27) (v := 0) hx hb dX7_lay_27 rfl ?_
  refine lv_iconst (pc := 28) (v := 0) hx hb dX7_lay_28 rfl ?_
  obtain ⟨_, h1, e9, hf⟩ := jB_some hf
  refine j_callV (pc := 29) (st1 := []) (As := [.int 0, .int 0]) (rest := []) cx hS rfl hl.1 hm (metX7_writesAll l _ _ _ _ _ _ _ (hth.at hS) e9) (jle hf) (hth.at hS) rfl (lw_V q2213 q2215 qs104 q123 q2216) pdX7_writesAll rfl rfl (Nat.le_of_ble_eq_true rfl) ⟨Nat.le_of_ble_eq_true rfl, Nat.le_of_ble_eq_true rfl⟩ dX7_lay_29 rfl (fun H locs cells slots hS => ?_)
  refine lv_iload_n (pc := 32) hx hb dX7_lay_32 rfl (lv_at hl 1 rfl) ?_
  refine lv_iconst (pc := 33) (v := (-1)) hx hb dX7_lay_33 rfl ?_
  refine lv_icmp_ne (pc := 34) (tgt := 44) hx hb dX7_lay_34 (by decide) (fun hc => ?_) (fun hc => ?_)
  · have hf := jI_f hf hc
    refine lv_aload_n (pc := 44) hx hb dX7_lay_44 rfl (lv_at hl 0 rfl) ?_
    refine j_gR (pc := 45) cx hS hf fd_WornSkinModel_bestRow q1740 dX7_lay_45 (fun y2 hf => ?_)
    refine lv_iload_n (pc := 48) hx hb dX7_lay_48 rfl (lv_at hl 1 rfl) ?_
    refine j_aI (pc := 49) cx hS hf rfl dX7_lay_49 (fun y3 hf => ?_)
    exact wX7_lay_50 cx e1 e2 a0 hth _ _ _ _ _ _ _ hf hS (lv_sub hl [0] rfl)
  · have hf := jI_t hf hc
    refine lv_aload_n (pc := 37) hx hb dX7_lay_37 rfl (lv_at hl 0 rfl) ?_
    refine j_gI (pc := 38) cx hS hf fd_WornSkinModel_most q1741 dX7_lay_38 (fun y4 hf => ?_)
    refine lv_goto (pc := 41) (tgt := 50) hx hb dX7_lay_41 (by decide) ?_
    exact wX7_lay_50 cx e1 e2 a0 hth _ _ _ _ _ _ _ hf hS (lv_sub hl [0] rfl)
theorem wX7_lay_0 {N : Nat} {r : Int32} (cx : jCx p s m args meth c cX7_lay "WornSkinModel" 2 (Option.some Jvm.ClassFile.FieldType.int) D dA H0 hs.2.2.2.2) (e1 : h'.2.2.1 = hs.2.2.1 + mc) (e2 : h'.2.2.2.1 = hs.2.2.2.1 + ms) (a0 : Nat) (hth : jTh hs a0 7) : ∀ (x1 : Int32), ∀ (h : jH) (H : Heap) (locs : List Loc) (cells slots : Nat) (ls : Array Slot), (fX7_lay N a0 x1).1 h = some (r, h') → jS D dA H0 hs h H locs cells slots → lv_has ls 2 [(0, .ref a0), (1, .int x1)] → W p l e { frames := 9, cells := mc, slots := ms, locals := 216 } s m args below meth c H locs cells slots (jQ D dA H0 below s (.returned (some (.int r))) h' mc ms) (F0 m 0 ls []) := by
  have hx := cx.1
  have hb := cx.2.1
  have hown := cx.2.2.2.1
  have hts := cx.2.2.2.2.1
  have hm : h'.2.2.1 ≤ hs.2.2.1 + mc ∧ h'.2.2.2.1 ≤ hs.2.2.2.1 + ms := ⟨Nat.le_of_eq e1, Nat.le_of_eq e2⟩
  intro x1 h H locs cells slots ls hf hS hl
  unfold fX7_lay at hf
  refine lv_aload_n (pc := 0) hx hb dX7_lay_0 rfl (lv_at hl 0 rfl) ?_
  refine lv_iconst (pc := 1) (v := 0) hx hb dX7_lay_1 rfl ?_
  refine j_pI (pc := 2) cx hS hf fp_WornSkinModel_thrown (Or.inl rfl) q1684 dX7_lay_2 (fun h H locs hf hS => ?_)
  refine lv_iload_n (pc := 5) hx hb dX7_lay_5 rfl (lv_at hl 1 rfl) ?_
  refine lv_iconst (pc := 6) (v := (-1)) hx hb dX7_lay_6 rfl ?_
  refine lv_icmp_eq (pc := 7) (tgt := 21) hx hb dX7_lay_7 (by decide) (fun hc => ?_) (fun hc => ?_)
  · have hf := jI_t hf hc
    exact wX7_lay_21 cx e1 e2 a0 hth _ _ _ _ _ _ _ hf hS hl
  · have hf := jI_f hf hc
    refine lv_aload_n (pc := 10) hx hb dX7_lay_10 rfl (lv_at hl 0 rfl) ?_
    refine lv_iload_n (pc := 11) hx hb dX7_lay_11 rfl (lv_at hl 1 rfl) ?_
    obtain ⟨y1, h1, e9, hf⟩ := jB_some hf
    refine j_callV (pc := 12) (st1 := [.int y1]) (As := [.int x1]) (rest := []) cx hS rfl hl.1 hm (metX7_isText l _ _ _ _ _ (hth.at hS) e9) (jle hf) (hth.at hS) rfl (lw_V q2071 q2073 qs89 q123 q2074) pdX7_isText rfl rfl (Nat.le_of_ble_eq_true rfl) ⟨Nat.le_of_ble_eq_true rfl, Nat.le_of_ble_eq_true rfl⟩ dX7_lay_12 rfl (fun H locs cells slots hS => ?_)
    refine lv_if_ne (pc := 15) (tgt := 21) hx hb dX7_lay_15 (by decide) (fun hc => ?_) (fun hc => ?_)
    · have hf := jI_f hf hc
      exact wX7_lay_21 cx e1 e2 a0 hth _ _ _ _ _ _ _ hf hS hl
    · have hf := jI_t hf hc
      refine lv_bipush (pc := 18) (v := (-2)) hx hb dX7_lay_18 rfl ?_
      exact j_iret (pc := 20) cx hS hf e1 e2 dX7_lay_20
theorem metX7_lay (l : Launch) (N : Nat) (a0 : Nat) (x1 : Int32) (h h' : jH) (r : Int32) (hth : jcd h a0 = some 7) (hf : (fX7_lay N a0 x1).1 h = some (r, h')) : jMet l yX7_lay (ws_ yX7_lay cX7_lay 2 (Option.some Jvm.ClassFile.FieldType.int)) (9) (216) [.ref a0, .int x1] h h' (.returned (some (.int r))) := by
  refine jStart rfl (jle hf) (Nat.le_of_ble_eq_true rfl) ?_
  intro p e s m below meth c D dA H0 mc ms ls cx hnm e1 e2 hS hl
  have hth := jTh.mk hS hth
  exact wX7_lay_0 cx e1 e2 a0 hth _ _ _ _ _ _ _ hf hS hl
def fX7_bears_80 (N : Nat) (a0 : Nat) (x3 : Int32) : jM Int32 := jB (jgR [7] 50 (some a0)) fun y1 => jB (jgR [7] 48 (some a0)) fun y2 => jB (fX7_copies N y1 0 y2 0) fun _ => jR x3
def fX7_bears_46 (N : Nat) (a0 : Nat) : Nat → Int32 → Int32 → Int32 → Int32 → jM Int32
  | 0, _, _, _, _ => jE
  | n + 1, x1, x2, x3, x4 => if x4 < 0 then (fX7_bears_80 N a0 x3) else (jB (fX7_writes N a0 x2 x1 x4) fun _ => jB (fX7_scrapes N a0 x1 63) fun _ => jB (fX7_placeOf N a0 x2 x1) fun y3 => fX7_bears_46 N a0 n x1 x2 (x3 + 1) y3)
def fX7_bears_21 (N : Nat) (a0 : Nat) : jM Int32 := jR (-1)
def fX7_bears (N : Nat) (a0 : Nat) (x1 : Int32) (x2 : Int32) : jM Int32 := jB (jpI [7] 0 (some a0) 0) fun _ => jB (fX7_isSkin a0 x1) fun y1 => if y1 = 0 then (fX7_bears_21 N a0) else (jB (fX7_isText a0 x2) fun y2 => if y2 = 0 then (fX7_bears_21 N a0) else (jB (jgR [7] 48 (some a0)) fun y3 => jB (jgR [7] 50 (some a0)) fun y4 => jB (fX7_copies N y3 0 y4 0) fun _ => jB (fX7_placeOf N a0 x2 x1) fun y6 => fX7_bears_46 N a0 N x1 x2 0 y6))
theorem wX7_bears_80 {N : Nat} {r : Int32} (cx : jCx p s m args meth c cX7_bears "WornSkinModel" 5 (Option.some Jvm.ClassFile.FieldType.int) D dA H0 hs.2.2.2.2) (e1 : h'.2.2.1 = hs.2.2.1 + mc) (e2 : h'.2.2.2.1 = hs.2.2.2.1 + ms) (a0 : Nat) (hth : jTh hs a0 7) : ∀ (x3 : Int32), ∀ (h : jH) (H : Heap) (locs : List Loc) (cells slots : Nat) (ls : Array Slot), (fX7_bears_80 N a0 x3).1 h = some (r, h') → jS D dA H0 hs h H locs cells slots → lv_has ls 5 [(0, .ref a0), (3, .int x3)] → W p l e { frames := 2, cells := mc, slots := ms, locals := 50 } s m args below meth c H locs cells slots (jQ D dA H0 below s (.returned (some (.int r))) h' mc ms) (F0 m 80 ls []) := by
  have hx := cx.1
  have hb := cx.2.1
  have hown := cx.2.2.2.1
  have hts := cx.2.2.2.2.1
  have hm : h'.2.2.1 ≤ hs.2.2.1 + mc ∧ h'.2.2.2.1 ≤ hs.2.2.2.1 + ms := ⟨Nat.le_of_eq e1, Nat.le_of_eq e2⟩
  intro x3 h H locs cells slots ls hf hS hl
  unfold fX7_bears_80 at hf
  refine lv_aload_n (pc := 80) hx hb dX7_bears_80 rfl (lv_at hl 0 rfl) ?_
  refine j_gR (pc := 81) cx hS hf fd_WornSkinModel_before q1734 dX7_bears_81 (fun y1 hf => ?_)
  refine lv_iconst (pc := 84) (v := 0) hx hb dX7_bears_84 rfl ?_
  refine lv_aload_n (pc := 85) hx hb dX7_bears_85 rfl (lv_at hl 0 rfl) ?_
  refine j_gR (pc := 86) cx hS hf fd_WornSkinModel_s q1732 dX7_bears_86 (fun y2 hf => ?_)
  refine lv_iconst (pc := 89) (v := 0) hx hb dX7_bears_89 rfl ?_
  obtain ⟨_, h1, e9, hf⟩ := jB_some hf
  refine j_callS (pc := 90) (st1 := []) (As := [va_rf y1, .int 0, va_rf y2, .int 0]) (rest := []) cx hS rfl hl.1 hm (metX7_copies l _ _ _ _ _ _ _ _ e9) (jle hf) (lw_S q2125 q2126 q123 q2127) pdX7_copies rfl rfl (Nat.le_of_ble_eq_true rfl) ⟨Nat.le_of_ble_eq_true rfl, Nat.le_of_ble_eq_true rfl⟩ dX7_bears_90 rfl (fun H locs cells slots hS => ?_)
  refine lv_iload_n (pc := 93) hx hb dX7_bears_93 rfl (lv_at hl 1 rfl) ?_
  exact j_iret (pc := 94) cx hS hf e1 e2 dX7_bears_94
theorem wX7_bears_46 {N : Nat} {r : Int32} (cx : jCx p s m args meth c cX7_bears "WornSkinModel" 5 (Option.some Jvm.ClassFile.FieldType.int) D dA H0 hs.2.2.2.2) (e1 : h'.2.2.1 = hs.2.2.1 + mc) (e2 : h'.2.2.2.1 = hs.2.2.2.1 + ms) (a0 : Nat) (hth : jTh hs a0 7) : ∀ (n : Nat) (x1 : Int32) (x2 : Int32) (x3 : Int32) (x4 : Int32), ∀ (h : jH) (H : Heap) (locs : List Loc) (cells slots : Nat) (ls : Array Slot), (fX7_bears_46 N a0 n x1 x2 x3 x4).1 h = some (r, h') → jS D dA H0 hs h H locs cells slots → lv_has ls 5 [(0, .ref a0), (1, .int x1), (2, .int x2), (3, .int x3), (4, .int x4)] → W p l e { frames := 2, cells := mc, slots := ms, locals := 50 } s m args below meth c H locs cells slots (jQ D dA H0 below s (.returned (some (.int r))) h' mc ms) (F0 m 46 ls []) := by
  have hx := cx.1
  have hb := cx.2.1
  have hown := cx.2.2.2.1
  have hts := cx.2.2.2.2.1
  have hm : h'.2.2.1 ≤ hs.2.2.1 + mc ∧ h'.2.2.2.1 ≤ hs.2.2.2.1 + ms := ⟨Nat.le_of_eq e1, Nat.le_of_eq e2⟩
  intro n
  induction n with
  | zero =>
    intro x1 x2 x3 x4 h H locs cells slots ls hf hS hl
    exact jE_f hf
  | succ n ih =>
    intro x1 x2 x3 x4 h H locs cells slots ls hf hS hl
    unfold fX7_bears_46 at hf
    refine lv_iload (pc := 46) hx hb dX7_bears_46 (lv_at hl 4 rfl) ?_
    refine lv_if_lt (pc := 48) (tgt := 80) hx hb dX7_bears_48 (by decide) (fun hc => ?_) (fun hc => ?_)
    · have hf := jI_t hf hc
      exact wX7_bears_80 cx e1 e2 a0 hth _ _ _ _ _ _ _ hf hS (lv_sub hl [0, 3] rfl)
    · have hf := jI_f hf hc
      refine lv_aload_n (pc := 51) hx hb dX7_bears_51 rfl (lv_at hl 0 rfl) ?_
      refine lv_iload_n (pc := 52) hx hb dX7_bears_52 rfl (lv_at hl 2 rfl) ?_
      refine lv_iload_n (pc := 53) hx hb dX7_bears_53 rfl (lv_at hl 1 rfl) ?_
      refine lv_iload (pc := 54) hx hb dX7_bears_54 (lv_at hl 4 rfl) ?_
      obtain ⟨_, h1, e9, hf⟩ := jB_some hf
      refine j_callV (pc := 56) (st1 := []) (As := [.int x2, .int x1, .int x4]) (rest := []) cx hS rfl hl.1 hm (metX7_writes l _ _ _ _ _ _ _ _ (hth.at hS) e9) (jle hf) (hth.at hS) rfl (lw_V q2128 q2130 qs96 q123 q2131) pdX7_writes rfl rfl (Nat.le_of_ble_eq_true rfl) ⟨Nat.le_of_ble_eq_true rfl, Nat.le_of_ble_eq_true rfl⟩ dX7_bears_56 rfl (fun H locs cells slots hS => ?_)
      refine lv_aload_n (pc := 59) hx hb dX7_bears_59 rfl (lv_at hl 0 rfl) ?_
      refine lv_iload_n (pc := 60) hx hb dX7_bears_60 rfl (lv_at hl 1 rfl) ?_
      refine lv_bipush (pc := 61) (v := 63) hx hb dX7_bears_61 rfl ?_
      obtain ⟨_, h1, e9, hf⟩ := jB_some hf
      refine j_callV (pc := 63) (st1 := []) (As := [.int x1, .int 63]) (rest := []) cx hS rfl hl.1 hm (metX7_scrapes l _ _ _ _ _ _ _ (hth.at hS) e9) (jle hf) (hth.at hS) rfl (lw_V q2144 q2146 qs99 q123 q2147) pdX7_scrapes rfl rfl (Nat.le_of_ble_eq_true rfl) ⟨Nat.le_of_ble_eq_true rfl, Nat.le_of_ble_eq_true rfl⟩ dX7_bears_63 rfl (fun H locs cells slots hS => ?_)
      refine lv_iinc (pc := 66) (v := (x3 + 1)) (lv' := [(3, .int (x3 + 1)), (0, .ref a0), (1, .int x1), (2, .int x2), (4, .int x4)]) hx hb dX7_bears_66 hl (k := 3) rfl rfl (Nat.le_of_ble_eq_true rfl) rfl (fun ls hl => ?_)
      refine lv_aload_n (pc := 69) hx hb dX7_bears_69 rfl (lv_at hl 1 rfl) ?_
      refine lv_iload_n (pc := 70) hx hb dX7_bears_70 rfl (lv_at hl 3 rfl) ?_
      refine lv_iload_n (pc := 71) hx hb dX7_bears_71 rfl (lv_at hl 2 rfl) ?_
      obtain ⟨y3, h1, e9, hf⟩ := jB_some hf
      refine j_callV (pc := 72) (st1 := [.int y3]) (As := [.int x2, .int x1]) (rest := []) cx hS rfl hl.1 hm (metX7_placeOf l _ _ _ _ _ _ _ (hth.at hS) e9) (jle hf) (hth.at hS) rfl (lw_V q2196 q2198 qs102 q123 q2199) pdX7_placeOf rfl rfl (Nat.le_of_ble_eq_true rfl) ⟨Nat.le_of_ble_eq_true rfl, Nat.le_of_ble_eq_true rfl⟩ dX7_bears_72 rfl (fun H locs cells slots hS => ?_)
      refine lv_istore (pc := 75) (i := 4) (lv' := [(4, .int y3), (3, .int (x3 + 1)), (0, .ref a0), (1, .int x1), (2, .int x2)]) hx hb dX7_bears_75 hl (Nat.le_of_ble_eq_true rfl) rfl (fun ls hl => ?_)
      refine lv_goto (pc := 77) (tgt := 46) hx hb dX7_bears_77 (by decide) ?_
      exact ih _ _ _ _ _ _ _ _ _ _ hf hS (lv_sub hl [2, 3, 4, 1, 0] rfl)
theorem wX7_bears_21 {N : Nat} {r : Int32} (cx : jCx p s m args meth c cX7_bears "WornSkinModel" 5 (Option.some Jvm.ClassFile.FieldType.int) D dA H0 hs.2.2.2.2) (e1 : h'.2.2.1 = hs.2.2.1 + mc) (e2 : h'.2.2.2.1 = hs.2.2.2.1 + ms) (a0 : Nat) (hth : jTh hs a0 7) : ∀ (h : jH) (H : Heap) (locs : List Loc) (cells slots : Nat) (ls : Array Slot), (fX7_bears_21 N a0).1 h = some (r, h') → jS D dA H0 hs h H locs cells slots → lv_has ls 5 [(0, .ref a0)] → W p l e { frames := 2, cells := mc, slots := ms, locals := 50 } s m args below meth c H locs cells slots (jQ D dA H0 below s (.returned (some (.int r))) h' mc ms) (F0 m 21 ls []) := by
  have hx := cx.1
  have hb := cx.2.1
  have hown := cx.2.2.2.1
  have hts := cx.2.2.2.2.1
  have hm : h'.2.2.1 ≤ hs.2.2.1 + mc ∧ h'.2.2.2.1 ≤ hs.2.2.2.1 + ms := ⟨Nat.le_of_eq e1, Nat.le_of_eq e2⟩
  intro h H locs cells slots ls hf hS hl
  unfold fX7_bears_21 at hf
  refine lv_iconst (pc := 21) (v := (-1)) hx hb dX7_bears_21 rfl ?_
  exact j_iret (pc := 22) cx hS hf e1 e2 dX7_bears_22
theorem wX7_bears_0 {N : Nat} {r : Int32} (cx : jCx p s m args meth c cX7_bears "WornSkinModel" 5 (Option.some Jvm.ClassFile.FieldType.int) D dA H0 hs.2.2.2.2) (e1 : h'.2.2.1 = hs.2.2.1 + mc) (e2 : h'.2.2.2.1 = hs.2.2.2.1 + ms) (a0 : Nat) (hth : jTh hs a0 7) : ∀ (x1 : Int32) (x2 : Int32), ∀ (h : jH) (H : Heap) (locs : List Loc) (cells slots : Nat) (ls : Array Slot), (fX7_bears N a0 x1 x2).1 h = some (r, h') → jS D dA H0 hs h H locs cells slots → lv_has ls 5 [(0, .ref a0), (1, .int x1), (2, .int x2)] → W p l e { frames := 2, cells := mc, slots := ms, locals := 50 } s m args below meth c H locs cells slots (jQ D dA H0 below s (.returned (some (.int r))) h' mc ms) (F0 m 0 ls []) := by
  have hx := cx.1
  have hb := cx.2.1
  have hown := cx.2.2.2.1
  have hts := cx.2.2.2.2.1
  have hm : h'.2.2.1 ≤ hs.2.2.1 + mc ∧ h'.2.2.2.1 ≤ hs.2.2.2.1 + ms := ⟨Nat.le_of_eq e1, Nat.le_of_eq e2⟩
  intro x1 x2 h H locs cells slots ls hf hS hl
  unfold fX7_bears at hf
  refine lv_aload_n (pc := 0) hx hb dX7_bears_0 rfl (lv_at hl 0 rfl) ?_
  refine lv_iconst (pc := 1) (v := 0) hx hb dX7_bears_1 rfl ?_
  refine j_pI (pc := 2) cx hS hf fp_WornSkinModel_thrown (Or.inl rfl) q1684 dX7_bears_2 (fun h H locs hf hS => ?_)
  refine lv_aload_n (pc := 5) hx hb dX7_bears_5 rfl (lv_at hl 0 rfl) ?_
  refine lv_iload_n (pc := 6) hx hb dX7_bears_6 rfl (lv_at hl 1 rfl) ?_
  obtain ⟨y1, h1, e9, hf⟩ := jB_some hf
  refine j_callV (pc := 7) (st1 := [.int y1]) (As := [.int x1]) (rest := []) cx hS rfl hl.1 hm (metX7_isSkin l _ _ _ _ _ (hth.at hS) e9) (jle hf) (hth.at hS) rfl (lw_V q2031 q2033 qs80 q123 q2034) pdX7_isSkin rfl rfl (Nat.le_of_ble_eq_true rfl) ⟨Nat.le_of_ble_eq_true rfl, Nat.le_of_ble_eq_true rfl⟩ dX7_bears_7 rfl (fun H locs cells slots hS => ?_)
  refine lv_if_eq (pc := 10) (tgt := 21) hx hb dX7_bears_10 (by decide) (fun hc => ?_) (fun hc => ?_)
  · have hf := jI_t hf hc
    exact wX7_bears_21 cx e1 e2 a0 hth _ _ _ _ _ _ hf hS (lv_sub hl [0] rfl)
  · have hf := jI_f hf hc
    refine lv_aload_n (pc := 13) hx hb dX7_bears_13 rfl (lv_at hl 0 rfl) ?_
    refine lv_iload_n (pc := 14) hx hb dX7_bears_14 rfl (lv_at hl 2 rfl) ?_
    obtain ⟨y2, h1, e9, hf⟩ := jB_some hf
    refine j_callV (pc := 15) (st1 := [.int y2]) (As := [.int x2]) (rest := []) cx hS rfl hl.1 hm (metX7_isText l _ _ _ _ _ (hth.at hS) e9) (jle hf) (hth.at hS) rfl (lw_V q2071 q2073 qs89 q123 q2074) pdX7_isText rfl rfl (Nat.le_of_ble_eq_true rfl) ⟨Nat.le_of_ble_eq_true rfl, Nat.le_of_ble_eq_true rfl⟩ dX7_bears_15 rfl (fun H locs cells slots hS => ?_)
    refine lv_if_ne (pc := 18) (tgt := 23) hx hb dX7_bears_18 (by decide) (fun hc => ?_) (fun hc => ?_)
    · have hf := jI_f hf hc
      refine lv_aload_n (pc := 23) hx hb dX7_bears_23 rfl (lv_at hl 0 rfl) ?_
      refine j_gR (pc := 24) cx hS hf fd_WornSkinModel_s q1732 dX7_bears_24 (fun y3 hf => ?_)
      refine lv_iconst (pc := 27) (v := 0) hx hb dX7_bears_27 rfl ?_
      refine lv_aload_n (pc := 28) hx hb dX7_bears_28 rfl (lv_at hl 0 rfl) ?_
      refine j_gR (pc := 29) cx hS hf fd_WornSkinModel_before q1734 dX7_bears_29 (fun y4 hf => ?_)
      refine lv_iconst (pc := 32) (v := 0) hx hb dX7_bears_32 rfl ?_
      obtain ⟨_, h1, e9, hf⟩ := jB_some hf
      refine j_callS (pc := 33) (st1 := []) (As := [va_rf y3, .int 0, va_rf y4, .int 0]) (rest := []) cx hS rfl hl.1 hm (metX7_copies l _ _ _ _ _ _ _ _ e9) (jle hf) (lw_S q2125 q2126 q123 q2127) pdX7_copies rfl rfl (Nat.le_of_ble_eq_true rfl) ⟨Nat.le_of_ble_eq_true rfl, Nat.le_of_ble_eq_true rfl⟩ dX7_bears_33 rfl (fun H locs cells slots hS => ?_)
      refine lv_iconst (pc := 36) (v := 0) hx hb dX7_bears_36 rfl ?_
      refine lv_istore_n (pc := 37) (i := 3) (lv' := [(3, .int 0), (0, .ref a0), (1, .int x1), (2, .int x2)]) hx hb dX7_bears_37 rfl hl (Nat.le_of_ble_eq_true rfl) rfl (fun ls hl => ?_)
      refine lv_aload_n (pc := 38) hx hb dX7_bears_38 rfl (lv_at hl 1 rfl) ?_
      refine lv_iload_n (pc := 39) hx hb dX7_bears_39 rfl (lv_at hl 3 rfl) ?_
      refine lv_iload_n (pc := 40) hx hb dX7_bears_40 rfl (lv_at hl 2 rfl) ?_
      obtain ⟨y6, h1, e9, hf⟩ := jB_some hf
      refine j_callV (pc := 41) (st1 := [.int y6]) (As := [.int x2, .int x1]) (rest := []) cx hS rfl hl.1 hm (metX7_placeOf l _ _ _ _ _ _ _ (hth.at hS) e9) (jle hf) (hth.at hS) rfl (lw_V q2196 q2198 qs102 q123 q2199) pdX7_placeOf rfl rfl (Nat.le_of_ble_eq_true rfl) ⟨Nat.le_of_ble_eq_true rfl, Nat.le_of_ble_eq_true rfl⟩ dX7_bears_41 rfl (fun H locs cells slots hS => ?_)
      refine lv_istore (pc := 44) (i := 4) (lv' := [(4, .int y6), (3, .int 0), (0, .ref a0), (1, .int x1), (2, .int x2)]) hx hb dX7_bears_44 hl (Nat.le_of_ble_eq_true rfl) rfl (fun ls hl => ?_)
      exact wX7_bears_46 cx e1 e2 a0 hth N _ _ _ _ _ _ _ _ _ _ hf hS (lv_sub hl [2, 3, 4, 1, 0] rfl)
    · have hf := jI_t hf hc
      exact wX7_bears_21 cx e1 e2 a0 hth _ _ _ _ _ _ hf hS (lv_sub hl [0] rfl)
theorem metX7_bears (l : Launch) (N : Nat) (a0 : Nat) (x1 : Int32) (x2 : Int32) (h h' : jH) (r : Int32) (hth : jcd h a0 = some 7) (hf : (fX7_bears N a0 x1 x2).1 h = some (r, h')) : jMet l yX7_bears (ws_ yX7_bears cX7_bears 5 (Option.some Jvm.ClassFile.FieldType.int)) (2) (50) [.ref a0, .int x1, .int x2] h h' (.returned (some (.int r))) := by
  refine jStart rfl (jle hf) (Nat.le_of_ble_eq_true rfl) ?_
  intro p e s m below meth c D dA H0 mc ms ls cx hnm e1 e2 hS hl
  have hth := jTh.mk hS hth
  exact wX7_bears_0 cx e1 e2 a0 hth _ _ _ _ _ _ _ _ hf hS hl
def fX7_over_90 (N : Nat) (a0 : Nat) (x2 : Int32) : jM Int32 := jR x2
def fX7_over_84 (N : Nat) (k19 : Int32 → Int32 → Int32 → jM Int32) (a0 : Nat) (x1 : Int32) (x2 : Int32) (x3 : Int32) : jM Int32 := k19 x1 x2 (x3 + 1)
def fX7_over_60 (N : Nat) (k39 : Int32 → Int32 → Int32 → Int32 → Int32 → jM Int32) (a0 : Nat) (x1 : Int32) (x2 : Int32) (x3 : Int32) (x4 : Int32) (x5 : Int32) : jM Int32 := jB (jnz 7) fun _ => jB (jnz 7) fun _ => k39 x1 x2 x3 (x4 ||| (1 <<< (((x5 - x5 / 7 * 7) - 1) &&& 31))) (x5 / 7)
def fX7_over_39 (N : Nat) (k19 : Int32 → Int32 → Int32 → jM Int32) (a0 : Nat) : Nat → Int32 → Int32 → Int32 → Int32 → Int32 → jM Int32
  | 0, _, _, _, _, _ => jE
  | n + 1, x1, x2, x3, x4, x5 => if x5 ≤ 0 then (fX7_over_84 N k19 a0 x1 x2 x3) else (jB (jnz 7) fun _ => if ((x5 - x5 / 7 * 7) - 1) = x1 then (fX7_over_60 N (fX7_over_39 N k19 a0 n) a0 x1 (x2 ||| x4) x3 x4 x5) else (fX7_over_60 N (fX7_over_39 N k19 a0 n) a0 x1 x2 x3 x4 x5))
def fX7_over_19 (N : Nat) (a0 : Nat) : Nat → Int32 → Int32 → Int32 → jM Int32
  | 0, _, _, _ => jE
  | n + 1, x1, x2, x3 => if 18 ≤ x3 then (fX7_over_90 N a0 x2) else (jB (jgR [7] 48 (some a0)) fun y1 => jB (jaI 0 y1 (7 + x3)) fun y2 => fX7_over_39 N (fX7_over_19 N a0 n) a0 N x1 x2 x3 0 y2)
def fX7_over (N : Nat) (a0 : Nat) (x1 : Int32) : jM Int32 := jB (jpI [7] 0 (some a0) 0) fun _ => jB (fX7_isText a0 x1) fun y1 => if y1 = 0 then (jR (-1)) else (fX7_over_19 N a0 N x1 0 0)
theorem wX7_over_90 {N : Nat} {r : Int32} (cx : jCx p s m args meth c cX7_over "WornSkinModel" 6 (Option.some Jvm.ClassFile.FieldType.int) D dA H0 hs.2.2.2.2) (e1 : h'.2.2.1 = hs.2.2.1 + mc) (e2 : h'.2.2.2.1 = hs.2.2.2.1 + ms) (a0 : Nat) (hth : jTh hs a0 7) : ∀ (x2 : Int32), ∀ (h : jH) (H : Heap) (locs : List Loc) (cells slots : Nat) (ls : Array Slot), (fX7_over_90 N a0 x2).1 h = some (r, h') → jS D dA H0 hs h H locs cells slots → lv_has ls 6 [(0, .ref a0), (2, .int x2)] → W p l e { frames := 1, cells := mc, slots := ms, locals := 21 } s m args below meth c H locs cells slots (jQ D dA H0 below s (.returned (some (.int r))) h' mc ms) (F0 m 90 ls []) := by
  have hx := cx.1
  have hb := cx.2.1
  have hown := cx.2.2.2.1
  have hts := cx.2.2.2.2.1
  have hm : h'.2.2.1 ≤ hs.2.2.1 + mc ∧ h'.2.2.2.1 ≤ hs.2.2.2.1 + ms := ⟨Nat.le_of_eq e1, Nat.le_of_eq e2⟩
  intro x2 h H locs cells slots ls hf hS hl
  unfold fX7_over_90 at hf
  refine lv_iload_n (pc := 90) hx hb dX7_over_90 rfl (lv_at hl 1 rfl) ?_
  exact j_iret (pc := 91) cx hS hf e1 e2 dX7_over_91
theorem wX7_over_84 {N : Nat} {k19 : Int32 → Int32 → Int32 → jM Int32} {r : Int32} (cx : jCx p s m args meth c cX7_over "WornSkinModel" 6 (Option.some Jvm.ClassFile.FieldType.int) D dA H0 hs.2.2.2.2) (e1 : h'.2.2.1 = hs.2.2.1 + mc) (e2 : h'.2.2.2.1 = hs.2.2.2.1 + ms) (a0 : Nat) (hth : jTh hs a0 7) (hk19 : ∀ (x1 : Int32) (x2 : Int32) (x3 : Int32), ∀ (h : jH) (H : Heap) (locs : List Loc) (cells slots : Nat) (ls : Array Slot), (k19 x1 x2 x3).1 h = some (r, h') → jS D dA H0 hs h H locs cells slots → lv_has ls 6 [(0, .ref a0), (1, .int x1), (2, .int x2), (3, .int x3)] → W p l e { frames := 1, cells := mc, slots := ms, locals := 21 } s m args below meth c H locs cells slots (jQ D dA H0 below s (.returned (some (.int r))) h' mc ms) (F0 m 19 ls [])) : ∀ (x1 : Int32) (x2 : Int32) (x3 : Int32), ∀ (h : jH) (H : Heap) (locs : List Loc) (cells slots : Nat) (ls : Array Slot), (fX7_over_84 N k19 a0 x1 x2 x3).1 h = some (r, h') → jS D dA H0 hs h H locs cells slots → lv_has ls 6 [(0, .ref a0), (1, .int x1), (2, .int x2), (3, .int x3)] → W p l e { frames := 1, cells := mc, slots := ms, locals := 21 } s m args below meth c H locs cells slots (jQ D dA H0 below s (.returned (some (.int r))) h' mc ms) (F0 m 84 ls []) := by
  have hx := cx.1
  have hb := cx.2.1
  have hown := cx.2.2.2.1
  have hts := cx.2.2.2.2.1
  have hm : h'.2.2.1 ≤ hs.2.2.1 + mc ∧ h'.2.2.2.1 ≤ hs.2.2.2.1 + ms := ⟨Nat.le_of_eq e1, Nat.le_of_eq e2⟩
  intro x1 x2 x3 h H locs cells slots ls hf hS hl
  unfold fX7_over_84 at hf
  refine lv_iinc (pc := 84) (v := (x3 + 1)) (lv' := [(3, .int (x3 + 1)), (0, .ref a0), (1, .int x1), (2, .int x2)]) hx hb dX7_over_84 hl (k := 3) rfl rfl (Nat.le_of_ble_eq_true rfl) rfl (fun ls hl => ?_)
  refine lv_goto (pc := 87) (tgt := 19) hx hb dX7_over_87 (by decide) ?_
  exact hk19 _ _ _ _ _ _ _ _ _ hf hS (lv_sub hl [1, 2, 3, 0] rfl)
theorem wX7_over_60 {N : Nat} {k39 : Int32 → Int32 → Int32 → Int32 → Int32 → jM Int32} {r : Int32} (cx : jCx p s m args meth c cX7_over "WornSkinModel" 6 (Option.some Jvm.ClassFile.FieldType.int) D dA H0 hs.2.2.2.2) (e1 : h'.2.2.1 = hs.2.2.1 + mc) (e2 : h'.2.2.2.1 = hs.2.2.2.1 + ms) (a0 : Nat) (hth : jTh hs a0 7) (hk39 : ∀ (x1 : Int32) (x2 : Int32) (x3 : Int32) (x4 : Int32) (x5 : Int32), ∀ (h : jH) (H : Heap) (locs : List Loc) (cells slots : Nat) (ls : Array Slot), (k39 x1 x2 x3 x4 x5).1 h = some (r, h') → jS D dA H0 hs h H locs cells slots → lv_has ls 6 [(0, .ref a0), (1, .int x1), (2, .int x2), (3, .int x3), (4, .int x4), (5, .int x5)] → W p l e { frames := 1, cells := mc, slots := ms, locals := 21 } s m args below meth c H locs cells slots (jQ D dA H0 below s (.returned (some (.int r))) h' mc ms) (F0 m 39 ls [])) : ∀ (x1 : Int32) (x2 : Int32) (x3 : Int32) (x4 : Int32) (x5 : Int32), ∀ (h : jH) (H : Heap) (locs : List Loc) (cells slots : Nat) (ls : Array Slot), (fX7_over_60 N k39 a0 x1 x2 x3 x4 x5).1 h = some (r, h') → jS D dA H0 hs h H locs cells slots → lv_has ls 6 [(0, .ref a0), (1, .int x1), (2, .int x2), (3, .int x3), (4, .int x4), (5, .int x5)] → W p l e { frames := 1, cells := mc, slots := ms, locals := 21 } s m args below meth c H locs cells slots (jQ D dA H0 below s (.returned (some (.int r))) h' mc ms) (F0 m 60 ls []) := by
  have hx := cx.1
  have hb := cx.2.1
  have hown := cx.2.2.2.1
  have hts := cx.2.2.2.2.1
  have hm : h'.2.2.1 ≤ hs.2.2.1 + mc ∧ h'.2.2.2.1 ≤ hs.2.2.2.1 + ms := ⟨Nat.le_of_eq e1, Nat.le_of_eq e2⟩
  intro x1 x2 x3 x4 x5 h H locs cells slots ls hf hS hl
  unfold fX7_over_60 at hf
  refine lv_iload (pc := 60) hx hb dX7_over_60 (lv_at hl 4 rfl) ?_
  refine lv_iconst (pc := 62) (v := 1) hx hb dX7_over_62 rfl ?_
  refine lv_iload (pc := 63) hx hb dX7_over_63 (lv_at hl 5 rfl) ?_
  refine lv_bipush (pc := 65) (v := 7) hx hb dX7_over_65 rfl ?_
  obtain ⟨hne, hf⟩ := jnz_s hf
  refine lv_irem (pc := 67) hx hb dX7_over_67 hne ?_
  refine lv_iconst (pc := 68) (v := 1) hx hb dX7_over_68 rfl ?_
  refine lv_isub (pc := 69) hx hb dX7_over_69 ?_
  refine lv_ishl (pc := 70) hx hb dX7_over_70 ?_
  refine lv_ior (pc := 71) hx hb dX7_over_71 ?_
  refine lv_istore (pc := 72) (i := 4) (lv' := [(4, .int (x4 ||| (1 <<< (((x5 - x5 / 7 * 7) - 1) &&& 31)))), (0, .ref a0), (1, .int x1), (2, .int x2), (3, .int x3), (5, .int x5)]) hx hb dX7_over_72 hl (Nat.le_of_ble_eq_true rfl) rfl (fun ls hl => ?_)
  refine lv_iload (pc := 74) hx hb dX7_over_74 (lv_at hl 5 rfl) ?_
  refine lv_bipush (pc := 76) (v := 7) hx hb dX7_over_76 rfl ?_
  obtain ⟨hne, hf⟩ := jnz_s hf
  refine lv_idiv (pc := 78) hx hb dX7_over_78 hne ?_
  refine lv_istore (pc := 79) (i := 5) (lv' := [(5, .int (x5 / 7)), (4, .int (x4 ||| (1 <<< (((x5 - x5 / 7 * 7) - 1) &&& 31)))), (0, .ref a0), (1, .int x1), (2, .int x2), (3, .int x3)]) hx hb dX7_over_79 hl (Nat.le_of_ble_eq_true rfl) rfl (fun ls hl => ?_)
  refine lv_goto (pc := 81) (tgt := 39) hx hb dX7_over_81 (by decide) ?_
  exact hk39 _ _ _ _ _ _ _ _ _ _ _ hf hS (lv_sub hl [2, 3, 4, 5, 1, 0] rfl)
theorem wX7_over_39 {N : Nat} {k19 : Int32 → Int32 → Int32 → jM Int32} {r : Int32} (cx : jCx p s m args meth c cX7_over "WornSkinModel" 6 (Option.some Jvm.ClassFile.FieldType.int) D dA H0 hs.2.2.2.2) (e1 : h'.2.2.1 = hs.2.2.1 + mc) (e2 : h'.2.2.2.1 = hs.2.2.2.1 + ms) (a0 : Nat) (hth : jTh hs a0 7) (hk19 : ∀ (x1 : Int32) (x2 : Int32) (x3 : Int32), ∀ (h : jH) (H : Heap) (locs : List Loc) (cells slots : Nat) (ls : Array Slot), (k19 x1 x2 x3).1 h = some (r, h') → jS D dA H0 hs h H locs cells slots → lv_has ls 6 [(0, .ref a0), (1, .int x1), (2, .int x2), (3, .int x3)] → W p l e { frames := 1, cells := mc, slots := ms, locals := 21 } s m args below meth c H locs cells slots (jQ D dA H0 below s (.returned (some (.int r))) h' mc ms) (F0 m 19 ls [])) : ∀ (n : Nat) (x1 : Int32) (x2 : Int32) (x3 : Int32) (x4 : Int32) (x5 : Int32), ∀ (h : jH) (H : Heap) (locs : List Loc) (cells slots : Nat) (ls : Array Slot), (fX7_over_39 N k19 a0 n x1 x2 x3 x4 x5).1 h = some (r, h') → jS D dA H0 hs h H locs cells slots → lv_has ls 6 [(0, .ref a0), (1, .int x1), (2, .int x2), (3, .int x3), (4, .int x4), (5, .int x5)] → W p l e { frames := 1, cells := mc, slots := ms, locals := 21 } s m args below meth c H locs cells slots (jQ D dA H0 below s (.returned (some (.int r))) h' mc ms) (F0 m 39 ls []) := by
  have hx := cx.1
  have hb := cx.2.1
  have hown := cx.2.2.2.1
  have hts := cx.2.2.2.2.1
  have hm : h'.2.2.1 ≤ hs.2.2.1 + mc ∧ h'.2.2.2.1 ≤ hs.2.2.2.1 + ms := ⟨Nat.le_of_eq e1, Nat.le_of_eq e2⟩
  intro n
  induction n with
  | zero =>
    intro x1 x2 x3 x4 x5 h H locs cells slots ls hf hS hl
    exact jE_f hf
  | succ n ih =>
    intro x1 x2 x3 x4 x5 h H locs cells slots ls hf hS hl
    unfold fX7_over_39 at hf
    refine lv_iload (pc := 39) hx hb dX7_over_39 (lv_at hl 5 rfl) ?_
    refine lv_if_le (pc := 41) (tgt := 84) hx hb dX7_over_41 (by decide) (fun hc => ?_) (fun hc => ?_)
    · have hf := jI_t hf hc
      exact wX7_over_84 cx e1 e2 a0 hth hk19 _ _ _ _ _ _ _ _ _ hf hS (lv_sub hl [0, 1, 2, 3] rfl)
    · have hf := jI_f hf hc
      refine lv_iload (pc := 44) hx hb dX7_over_44 (lv_at hl 5 rfl) ?_
      refine lv_bipush (pc := 46) (v := 7) hx hb dX7_over_46 rfl ?_
      obtain ⟨hne, hf⟩ := jnz_s hf
      refine lv_irem (pc := 48) hx hb dX7_over_48 hne ?_
      refine lv_iconst (pc := 49) (v := 1) hx hb dX7_over_49 rfl ?_
      refine lv_isub (pc := 50) hx hb dX7_over_50 ?_
      refine lv_iload_n (pc := 51) hx hb dX7_over_51 rfl (lv_at hl 1 rfl) ?_
      refine lv_icmp_ne (pc := 52) (tgt := 60) hx hb dX7_over_52 (by decide) (fun hc => ?_) (fun hc => ?_)
      · have hf := jI_f hf hc
        exact wX7_over_60 cx e1 e2 a0 hth ih _ _ _ _ _ _ _ _ _ _ _ hf hS hl
      · have hf := jI_t hf hc
        refine lv_iload_n (pc := 55) hx hb dX7_over_55 rfl (lv_at hl 2 rfl) ?_
        refine lv_iload (pc := 56) hx hb dX7_over_56 (lv_at hl 4 rfl) ?_
        refine lv_ior (pc := 58) hx hb dX7_over_58 ?_
        refine lv_istore_n (pc := 59) (i := 2) (lv' := [(2, .int (x2 ||| x4)), (0, .ref a0), (1, .int x1), (3, .int x3), (4, .int x4), (5, .int x5)]) hx hb dX7_over_59 rfl hl (Nat.le_of_ble_eq_true rfl) rfl (fun ls hl => ?_)
        exact wX7_over_60 cx e1 e2 a0 hth ih _ _ _ _ _ _ _ _ _ _ _ hf hS (lv_sub hl [1, 2, 0, 3, 4, 5] rfl)
theorem wX7_over_19 {N : Nat} {r : Int32} (cx : jCx p s m args meth c cX7_over "WornSkinModel" 6 (Option.some Jvm.ClassFile.FieldType.int) D dA H0 hs.2.2.2.2) (e1 : h'.2.2.1 = hs.2.2.1 + mc) (e2 : h'.2.2.2.1 = hs.2.2.2.1 + ms) (a0 : Nat) (hth : jTh hs a0 7) : ∀ (n : Nat) (x1 : Int32) (x2 : Int32) (x3 : Int32), ∀ (h : jH) (H : Heap) (locs : List Loc) (cells slots : Nat) (ls : Array Slot), (fX7_over_19 N a0 n x1 x2 x3).1 h = some (r, h') → jS D dA H0 hs h H locs cells slots → lv_has ls 6 [(0, .ref a0), (1, .int x1), (2, .int x2), (3, .int x3)] → W p l e { frames := 1, cells := mc, slots := ms, locals := 21 } s m args below meth c H locs cells slots (jQ D dA H0 below s (.returned (some (.int r))) h' mc ms) (F0 m 19 ls []) := by
  have hx := cx.1
  have hb := cx.2.1
  have hown := cx.2.2.2.1
  have hts := cx.2.2.2.2.1
  have hm : h'.2.2.1 ≤ hs.2.2.1 + mc ∧ h'.2.2.2.1 ≤ hs.2.2.2.1 + ms := ⟨Nat.le_of_eq e1, Nat.le_of_eq e2⟩
  intro n
  induction n with
  | zero =>
    intro x1 x2 x3 h H locs cells slots ls hf hS hl
    exact jE_f hf
  | succ n ih =>
    intro x1 x2 x3 h H locs cells slots ls hf hS hl
    unfold fX7_over_19 at hf
    refine lv_iload_n (pc := 19) hx hb dX7_over_19 rfl (lv_at hl 3 rfl) ?_
    refine lv_bipush (pc := 20) (v := 18) hx hb dX7_over_20 rfl ?_
    refine lv_icmp_ge (pc := 22) (tgt := 90) hx hb dX7_over_22 (by decide) (fun hc => ?_) (fun hc => ?_)
    · have hf := jI_t hf hc
      exact wX7_over_90 cx e1 e2 a0 hth _ _ _ _ _ _ _ hf hS (lv_sub hl [0, 2] rfl)
    · have hf := jI_f hf hc
      refine lv_iconst (pc := 25) (v := 0) hx hb dX7_over_25 rfl ?_
      refine lv_istore (pc := 26) (i := 4) (lv' := [(4, .int 0), (0, .ref a0), (1, .int x1), (2, .int x2), (3, .int x3)]) hx hb dX7_over_26 hl (Nat.le_of_ble_eq_true rfl) rfl (fun ls hl => ?_)
      refine lv_aload_n (pc := 28) hx hb dX7_over_28 rfl (lv_at hl 1 rfl) ?_
      refine j_gR (pc := 29) cx hS hf fd_WornSkinModel_s q1732 dX7_over_29 (fun y1 hf => ?_)
      refine lv_bipush (pc := 32) (v := 7) hx hb dX7_over_32 rfl ?_
      refine lv_iload_n (pc := 34) hx hb dX7_over_34 rfl (lv_at hl 4 rfl) ?_
      refine lv_iadd (pc := 35) hx hb dX7_over_35 ?_
      refine j_aI (pc := 36) cx hS hf rfl dX7_over_36 (fun y2 hf => ?_)
      refine lv_istore (pc := 37) (i := 5) (lv' := [(5, .int y2), (4, .int 0), (0, .ref a0), (1, .int x1), (2, .int x2), (3, .int x3)]) hx hb dX7_over_37 hl (Nat.le_of_ble_eq_true rfl) rfl (fun ls hl => ?_)
      exact wX7_over_39 cx e1 e2 a0 hth ih N _ _ _ _ _ _ _ _ _ _ _ hf hS (lv_sub hl [2, 3, 4, 5, 1, 0] rfl)
theorem wX7_over_0 {N : Nat} {r : Int32} (cx : jCx p s m args meth c cX7_over "WornSkinModel" 6 (Option.some Jvm.ClassFile.FieldType.int) D dA H0 hs.2.2.2.2) (e1 : h'.2.2.1 = hs.2.2.1 + mc) (e2 : h'.2.2.2.1 = hs.2.2.2.1 + ms) (a0 : Nat) (hth : jTh hs a0 7) : ∀ (x1 : Int32), ∀ (h : jH) (H : Heap) (locs : List Loc) (cells slots : Nat) (ls : Array Slot), (fX7_over N a0 x1).1 h = some (r, h') → jS D dA H0 hs h H locs cells slots → lv_has ls 6 [(0, .ref a0), (1, .int x1)] → W p l e { frames := 1, cells := mc, slots := ms, locals := 21 } s m args below meth c H locs cells slots (jQ D dA H0 below s (.returned (some (.int r))) h' mc ms) (F0 m 0 ls []) := by
  have hx := cx.1
  have hb := cx.2.1
  have hown := cx.2.2.2.1
  have hts := cx.2.2.2.2.1
  have hm : h'.2.2.1 ≤ hs.2.2.1 + mc ∧ h'.2.2.2.1 ≤ hs.2.2.2.1 + ms := ⟨Nat.le_of_eq e1, Nat.le_of_eq e2⟩
  intro x1 h H locs cells slots ls hf hS hl
  unfold fX7_over at hf
  refine lv_aload_n (pc := 0) hx hb dX7_over_0 rfl (lv_at hl 0 rfl) ?_
  refine lv_iconst (pc := 1) (v := 0) hx hb dX7_over_1 rfl ?_
  refine j_pI (pc := 2) cx hS hf fp_WornSkinModel_thrown (Or.inl rfl) q1684 dX7_over_2 (fun h H locs hf hS => ?_)
  refine lv_aload_n (pc := 5) hx hb dX7_over_5 rfl (lv_at hl 0 rfl) ?_
  refine lv_iload_n (pc := 6) hx hb dX7_over_6 rfl (lv_at hl 1 rfl) ?_
  obtain ⟨y1, h1, e9, hf⟩ := jB_some hf
  refine j_callV (pc := 7) (st1 := [.int y1]) (As := [.int x1]) (rest := []) cx hS rfl hl.1 hm (metX7_isText l _ _ _ _ _ (hth.at hS) e9) (jle hf) (hth.at hS) rfl (lw_V q2071 q2073 qs89 q123 q2074) pdX7_isText rfl rfl (Nat.le_of_ble_eq_true rfl) ⟨Nat.le_of_ble_eq_true rfl, Nat.le_of_ble_eq_true rfl⟩ dX7_over_7 rfl (fun H locs cells slots hS => ?_)
  refine lv_if_ne (pc := 10) (tgt := 15) hx hb dX7_over_10 (by decide) (fun hc => ?_) (fun hc => ?_)
  · have hf := jI_f hf hc
    refine lv_iconst (pc := 15) (v := 0) hx hb dX7_over_15 rfl ?_
    refine lv_istore_n (pc := 16) (i := 2) (lv' := [(2, .int 0), (0, .ref a0), (1, .int x1)]) hx hb dX7_over_16 rfl hl (Nat.le_of_ble_eq_true rfl) rfl (fun ls hl => ?_)
    refine lv_iconst (pc := 17) (v := 0) hx hb dX7_over_17 rfl ?_
    refine lv_istore_n (pc := 18) (i := 3) (lv' := [(3, .int 0), (2, .int 0), (0, .ref a0), (1, .int x1)]) hx hb dX7_over_18 rfl hl (Nat.le_of_ble_eq_true rfl) rfl (fun ls hl => ?_)
    exact wX7_over_19 cx e1 e2 a0 hth N _ _ _ _ _ _ _ _ _ hf hS (lv_sub hl [2, 3, 1, 0] rfl)
  · have hf := jI_t hf hc
    refine lv_iconst (pc := 13) (v := (-1)) hx hb dX7_over_13 rfl ?_
    exact j_iret (pc := 14) cx hS hf e1 e2 dX7_over_14
theorem metX7_over (l : Launch) (N : Nat) (a0 : Nat) (x1 : Int32) (h h' : jH) (r : Int32) (hth : jcd h a0 = some 7) (hf : (fX7_over N a0 x1).1 h = some (r, h')) : jMet l yX7_over (ws_ yX7_over cX7_over 6 (Option.some Jvm.ClassFile.FieldType.int)) (1) (21) [.ref a0, .int x1] h h' (.returned (some (.int r))) := by
  refine jStart rfl (jle hf) (Nat.le_of_ble_eq_true rfl) ?_
  intro p e s m below meth c D dA H0 mc ms ls cx hnm e1 e2 hS hl
  have hth := jTh.mk hS hth
  exact wX7_over_0 cx e1 e2 a0 hth _ _ _ _ _ _ _ hf hS hl
def fX7_deepest_74 (N : Nat) (a0 : Nat) (x2 : Int32) : jM Int32 := jR x2
def fX7_deepest_68 (N : Nat) (k19 : Int32 → Int32 → Int32 → jM Int32) (a0 : Nat) (x1 : Int32) (x2 : Int32) (x3 : Int32) : jM Int32 := k19 x1 x2 (x3 + 1)
def fX7_deepest_19 (N : Nat) (a0 : Nat) : Nat → Int32 → Int32 → Int32 → jM Int32
  | 0, _, _, _ => jE
  | n + 1, x1, x2, x3 => jB (jgR [7] 13 (some a0)) fun y1 => jB (jaI 0 y1 x1) fun y2 => if y2 ≤ x3 then (fX7_deepest_74 N a0 x2) else (jB (jgR [7] 48 (some a0)) fun y3 => jB (jaI 0 y3 ((7 + (6 * x1)) + x3)) fun y4 => jB (fX7_deepOf N y4) fun y5 => jB (jgR [7] 48 (some a0)) fun y6 => jB (jaI 0 y6 ((7 + (6 * x1)) + x2)) fun y7 => jB (fX7_deepOf N y7) fun y8 => if y5 ≤ y8 then (fX7_deepest_68 N (fX7_deepest_19 N a0 n) a0 x1 x2 x3) else (fX7_deepest_68 N (fX7_deepest_19 N a0 n) a0 x1 x3 x3))
def fX7_deepest (N : Nat) (a0 : Nat) (x1 : Int32) : jM Int32 := jB (jpI [7] 0 (some a0) 0) fun _ => jB (fX7_isSkin a0 x1) fun y1 => if y1 = 0 then (jR (-1)) else (fX7_deepest_19 N a0 N x1 0 1)
theorem wX7_deepest_74 {N : Nat} {r : Int32} (cx : jCx p s m args meth c cX7_deepest "WornSkinModel" 4 (Option.some Jvm.ClassFile.FieldType.int) D dA H0 hs.2.2.2.2) (e1 : h'.2.2.1 = hs.2.2.1 + mc) (e2 : h'.2.2.2.1 = hs.2.2.2.1 + ms) (a0 : Nat) (hth : jTh hs a0 7) : ∀ (x2 : Int32), ∀ (h : jH) (H : Heap) (locs : List Loc) (cells slots : Nat) (ls : Array Slot), (fX7_deepest_74 N a0 x2).1 h = some (r, h') → jS D dA H0 hs h H locs cells slots → lv_has ls 4 [(0, .ref a0), (2, .int x2)] → W p l e { frames := 1, cells := mc, slots := ms, locals := 22 } s m args below meth c H locs cells slots (jQ D dA H0 below s (.returned (some (.int r))) h' mc ms) (F0 m 74 ls []) := by
  have hx := cx.1
  have hb := cx.2.1
  have hown := cx.2.2.2.1
  have hts := cx.2.2.2.2.1
  have hm : h'.2.2.1 ≤ hs.2.2.1 + mc ∧ h'.2.2.2.1 ≤ hs.2.2.2.1 + ms := ⟨Nat.le_of_eq e1, Nat.le_of_eq e2⟩
  intro x2 h H locs cells slots ls hf hS hl
  unfold fX7_deepest_74 at hf
  refine lv_iload_n (pc := 74) hx hb dX7_deepest_74 rfl (lv_at hl 1 rfl) ?_
  exact j_iret (pc := 75) cx hS hf e1 e2 dX7_deepest_75
theorem wX7_deepest_68 {N : Nat} {k19 : Int32 → Int32 → Int32 → jM Int32} {r : Int32} (cx : jCx p s m args meth c cX7_deepest "WornSkinModel" 4 (Option.some Jvm.ClassFile.FieldType.int) D dA H0 hs.2.2.2.2) (e1 : h'.2.2.1 = hs.2.2.1 + mc) (e2 : h'.2.2.2.1 = hs.2.2.2.1 + ms) (a0 : Nat) (hth : jTh hs a0 7) (hk19 : ∀ (x1 : Int32) (x2 : Int32) (x3 : Int32), ∀ (h : jH) (H : Heap) (locs : List Loc) (cells slots : Nat) (ls : Array Slot), (k19 x1 x2 x3).1 h = some (r, h') → jS D dA H0 hs h H locs cells slots → lv_has ls 4 [(0, .ref a0), (1, .int x1), (2, .int x2), (3, .int x3)] → W p l e { frames := 1, cells := mc, slots := ms, locals := 22 } s m args below meth c H locs cells slots (jQ D dA H0 below s (.returned (some (.int r))) h' mc ms) (F0 m 19 ls [])) : ∀ (x1 : Int32) (x2 : Int32) (x3 : Int32), ∀ (h : jH) (H : Heap) (locs : List Loc) (cells slots : Nat) (ls : Array Slot), (fX7_deepest_68 N k19 a0 x1 x2 x3).1 h = some (r, h') → jS D dA H0 hs h H locs cells slots → lv_has ls 4 [(0, .ref a0), (1, .int x1), (2, .int x2), (3, .int x3)] → W p l e { frames := 1, cells := mc, slots := ms, locals := 22 } s m args below meth c H locs cells slots (jQ D dA H0 below s (.returned (some (.int r))) h' mc ms) (F0 m 68 ls []) := by
  have hx := cx.1
  have hb := cx.2.1
  have hown := cx.2.2.2.1
  have hts := cx.2.2.2.2.1
  have hm : h'.2.2.1 ≤ hs.2.2.1 + mc ∧ h'.2.2.2.1 ≤ hs.2.2.2.1 + ms := ⟨Nat.le_of_eq e1, Nat.le_of_eq e2⟩
  intro x1 x2 x3 h H locs cells slots ls hf hS hl
  unfold fX7_deepest_68 at hf
  refine lv_iinc (pc := 68) (v := (x3 + 1)) (lv' := [(3, .int (x3 + 1)), (0, .ref a0), (1, .int x1), (2, .int x2)]) hx hb dX7_deepest_68 hl (k := 3) rfl rfl (Nat.le_of_ble_eq_true rfl) rfl (fun ls hl => ?_)
  refine lv_goto (pc := 71) (tgt := 19) hx hb dX7_deepest_71 (by decide) ?_
  exact hk19 _ _ _ _ _ _ _ _ _ hf hS (lv_sub hl [1, 2, 3, 0] rfl)
theorem wX7_deepest_19 {N : Nat} {r : Int32} (cx : jCx p s m args meth c cX7_deepest "WornSkinModel" 4 (Option.some Jvm.ClassFile.FieldType.int) D dA H0 hs.2.2.2.2) (e1 : h'.2.2.1 = hs.2.2.1 + mc) (e2 : h'.2.2.2.1 = hs.2.2.2.1 + ms) (a0 : Nat) (hth : jTh hs a0 7) : ∀ (n : Nat) (x1 : Int32) (x2 : Int32) (x3 : Int32), ∀ (h : jH) (H : Heap) (locs : List Loc) (cells slots : Nat) (ls : Array Slot), (fX7_deepest_19 N a0 n x1 x2 x3).1 h = some (r, h') → jS D dA H0 hs h H locs cells slots → lv_has ls 4 [(0, .ref a0), (1, .int x1), (2, .int x2), (3, .int x3)] → W p l e { frames := 1, cells := mc, slots := ms, locals := 22 } s m args below meth c H locs cells slots (jQ D dA H0 below s (.returned (some (.int r))) h' mc ms) (F0 m 19 ls []) := by
  have hx := cx.1
  have hb := cx.2.1
  have hown := cx.2.2.2.1
  have hts := cx.2.2.2.2.1
  have hm : h'.2.2.1 ≤ hs.2.2.1 + mc ∧ h'.2.2.2.1 ≤ hs.2.2.2.1 + ms := ⟨Nat.le_of_eq e1, Nat.le_of_eq e2⟩
  intro n
  induction n with
  | zero =>
    intro x1 x2 x3 h H locs cells slots ls hf hS hl
    exact jE_f hf
  | succ n ih =>
    intro x1 x2 x3 h H locs cells slots ls hf hS hl
    unfold fX7_deepest_19 at hf
    refine lv_iload_n (pc := 19) hx hb dX7_deepest_19 rfl (lv_at hl 3 rfl) ?_
    refine lv_aload_n (pc := 20) hx hb dX7_deepest_20 rfl (lv_at hl 0 rfl) ?_
    refine j_gR (pc := 21) cx hS hf fd_WornSkinModel_linesOf q1697 dX7_deepest_21 (fun y1 hf => ?_)
    refine lv_iload_n (pc := 24) hx hb dX7_deepest_24 rfl (lv_at hl 1 rfl) ?_
    refine j_aI (pc := 25) cx hS hf rfl dX7_deepest_25 (fun y2 hf => ?_)
    refine lv_icmp_ge (pc := 26) (tgt := 74) hx hb dX7_deepest_26 (by decide) (fun hc => ?_) (fun hc => ?_)
    · have hf := jI_t hf hc
      exact wX7_deepest_74 cx e1 e2 a0 hth _ _ _ _ _ _ _ hf hS (lv_sub hl [0, 2] rfl)
    · have hf := jI_f hf hc
      refine lv_aload_n (pc := 29) hx hb dX7_deepest_29 rfl (lv_at hl 0 rfl) ?_
      refine j_gR (pc := 30) cx hS hf fd_WornSkinModel_s q1732 dX7_deepest_30 (fun y3 hf => ?_)
      refine lv_bipush (pc := 33) (v := 7) hx hb dX7_deepest_33 rfl ?_
      refine lv_bipush (pc := 35) (v := 6) hx hb dX7_deepest_35 rfl ?_
      refine lv_iload_n (pc := 37) hx hb dX7_deepest_37 rfl (lv_at hl 1 rfl) ?_
      refine lv_imul (pc := 38) hx hb dX7_deepest_38 ?_
      refine lv_iadd (pc := 39) hx hb dX7_deepest_39 ?_
      refine lv_iload_n (pc := 40) hx hb dX7_deepest_40 rfl (lv_at hl 3 rfl) ?_
      refine lv_iadd (pc := 41) hx hb dX7_deepest_41 ?_
      refine j_aI (pc := 42) cx hS hf rfl dX7_deepest_42 (fun y4 hf => ?_)
      obtain ⟨y5, h1, e9, hf⟩ := jB_some hf
      refine j_callS (pc := 43) (st1 := [.int y5]) (As := [.int y4]) (rest := []) cx hS rfl hl.1 hm (metX7_deepOf l _ _ _ _ _ e9) (jle hf) (lw_S q2098 q2099 q123 q2100) pdX7_deepOf rfl rfl (Nat.le_of_ble_eq_true rfl) ⟨Nat.le_of_ble_eq_true rfl, Nat.le_of_ble_eq_true rfl⟩ dX7_deepest_43 rfl (fun H locs cells slots hS => ?_)
      refine lv_aload_n (pc := 46) hx hb dX7_deepest_46 rfl (lv_at hl 0 rfl) ?_
      refine j_gR (pc := 47) cx hS hf fd_WornSkinModel_s q1732 dX7_deepest_47 (fun y6 hf => ?_)
      refine lv_bipush (pc := 50) (v := 7) hx hb dX7_deepest_50 rfl ?_
      refine lv_bipush (pc := 52) (v := 6) hx hb dX7_deepest_52 rfl ?_
      refine lv_iload_n (pc := 54) hx hb dX7_deepest_54 rfl (lv_at hl 1 rfl) ?_
      refine lv_imul (pc := 55) hx hb dX7_deepest_55 ?_
      refine lv_iadd (pc := 56) hx hb dX7_deepest_56 ?_
      refine lv_iload_n (pc := 57) hx hb dX7_deepest_57 rfl (lv_at hl 2 rfl) ?_
      refine lv_iadd (pc := 58) hx hb dX7_deepest_58 ?_
      refine j_aI (pc := 59) cx hS hf rfl dX7_deepest_59 (fun y7 hf => ?_)
      obtain ⟨y8, h1, e9, hf⟩ := jB_some hf
      refine j_callS (pc := 60) (st1 := [.int y8, .int y5]) (As := [.int y7]) (rest := [.int y5]) cx hS rfl hl.1 hm (metX7_deepOf l _ _ _ _ _ e9) (jle hf) (lw_S q2098 q2099 q123 q2100) pdX7_deepOf rfl rfl (Nat.le_of_ble_eq_true rfl) ⟨Nat.le_of_ble_eq_true rfl, Nat.le_of_ble_eq_true rfl⟩ dX7_deepest_60 rfl (fun H locs cells slots hS => ?_)
      refine lv_icmp_le (pc := 63) (tgt := 68) hx hb dX7_deepest_63 (by decide) (fun hc => ?_) (fun hc => ?_)
      · have hf := jI_t hf hc
        exact wX7_deepest_68 cx e1 e2 a0 hth ih _ _ _ _ _ _ _ _ _ hf hS hl
      · have hf := jI_f hf hc
        refine lv_iload_n (pc := 66) hx hb dX7_deepest_66 rfl (lv_at hl 3 rfl) ?_
        refine lv_istore_n (pc := 67) (i := 2) (lv' := [(2, .int x3), (0, .ref a0), (1, .int x1), (3, .int x3)]) hx hb dX7_deepest_67 rfl hl (Nat.le_of_ble_eq_true rfl) rfl (fun ls hl => ?_)
        exact wX7_deepest_68 cx e1 e2 a0 hth ih _ _ _ _ _ _ _ _ _ hf hS (lv_sub hl [1, 2, 0, 3] rfl)
theorem wX7_deepest_0 {N : Nat} {r : Int32} (cx : jCx p s m args meth c cX7_deepest "WornSkinModel" 4 (Option.some Jvm.ClassFile.FieldType.int) D dA H0 hs.2.2.2.2) (e1 : h'.2.2.1 = hs.2.2.1 + mc) (e2 : h'.2.2.2.1 = hs.2.2.2.1 + ms) (a0 : Nat) (hth : jTh hs a0 7) : ∀ (x1 : Int32), ∀ (h : jH) (H : Heap) (locs : List Loc) (cells slots : Nat) (ls : Array Slot), (fX7_deepest N a0 x1).1 h = some (r, h') → jS D dA H0 hs h H locs cells slots → lv_has ls 4 [(0, .ref a0), (1, .int x1)] → W p l e { frames := 1, cells := mc, slots := ms, locals := 22 } s m args below meth c H locs cells slots (jQ D dA H0 below s (.returned (some (.int r))) h' mc ms) (F0 m 0 ls []) := by
  have hx := cx.1
  have hb := cx.2.1
  have hown := cx.2.2.2.1
  have hts := cx.2.2.2.2.1
  have hm : h'.2.2.1 ≤ hs.2.2.1 + mc ∧ h'.2.2.2.1 ≤ hs.2.2.2.1 + ms := ⟨Nat.le_of_eq e1, Nat.le_of_eq e2⟩
  intro x1 h H locs cells slots ls hf hS hl
  unfold fX7_deepest at hf
  refine lv_aload_n (pc := 0) hx hb dX7_deepest_0 rfl (lv_at hl 0 rfl) ?_
  refine lv_iconst (pc := 1) (v := 0) hx hb dX7_deepest_1 rfl ?_
  refine j_pI (pc := 2) cx hS hf fp_WornSkinModel_thrown (Or.inl rfl) q1684 dX7_deepest_2 (fun h H locs hf hS => ?_)
  refine lv_aload_n (pc := 5) hx hb dX7_deepest_5 rfl (lv_at hl 0 rfl) ?_
  refine lv_iload_n (pc := 6) hx hb dX7_deepest_6 rfl (lv_at hl 1 rfl) ?_
  obtain ⟨y1, h1, e9, hf⟩ := jB_some hf
  refine j_callV (pc := 7) (st1 := [.int y1]) (As := [.int x1]) (rest := []) cx hS rfl hl.1 hm (metX7_isSkin l _ _ _ _ _ (hth.at hS) e9) (jle hf) (hth.at hS) rfl (lw_V q2031 q2033 qs80 q123 q2034) pdX7_isSkin rfl rfl (Nat.le_of_ble_eq_true rfl) ⟨Nat.le_of_ble_eq_true rfl, Nat.le_of_ble_eq_true rfl⟩ dX7_deepest_7 rfl (fun H locs cells slots hS => ?_)
  refine lv_if_ne (pc := 10) (tgt := 15) hx hb dX7_deepest_10 (by decide) (fun hc => ?_) (fun hc => ?_)
  · have hf := jI_f hf hc
    refine lv_iconst (pc := 15) (v := 0) hx hb dX7_deepest_15 rfl ?_
    refine lv_istore_n (pc := 16) (i := 2) (lv' := [(2, .int 0), (0, .ref a0), (1, .int x1)]) hx hb dX7_deepest_16 rfl hl (Nat.le_of_ble_eq_true rfl) rfl (fun ls hl => ?_)
    refine lv_iconst (pc := 17) (v := 1) hx hb dX7_deepest_17 rfl ?_
    refine lv_istore_n (pc := 18) (i := 3) (lv' := [(3, .int 1), (2, .int 0), (0, .ref a0), (1, .int x1)]) hx hb dX7_deepest_18 rfl hl (Nat.le_of_ble_eq_true rfl) rfl (fun ls hl => ?_)
    exact wX7_deepest_19 cx e1 e2 a0 hth N _ _ _ _ _ _ _ _ _ hf hS (lv_sub hl [2, 3, 1, 0] rfl)
  · have hf := jI_t hf hc
    refine lv_iconst (pc := 13) (v := (-1)) hx hb dX7_deepest_13 rfl ?_
    exact j_iret (pc := 14) cx hS hf e1 e2 dX7_deepest_14
theorem metX7_deepest (l : Launch) (N : Nat) (a0 : Nat) (x1 : Int32) (h h' : jH) (r : Int32) (hth : jcd h a0 = some 7) (hf : (fX7_deepest N a0 x1).1 h = some (r, h')) : jMet l yX7_deepest (ws_ yX7_deepest cX7_deepest 4 (Option.some Jvm.ClassFile.FieldType.int)) (1) (22) [.ref a0, .int x1] h h' (.returned (some (.int r))) := by
  refine jStart rfl (jle hf) (Nat.le_of_ble_eq_true rfl) ?_
  intro p e s m below meth c D dA H0 mc ms ls cx hnm e1 e2 hS hl
  have hth := jTh.mk hS hth
  exact wX7_deepest_0 cx e1 e2 a0 hth _ _ _ _ _ _ _ hf hS hl
def fX7_bare_62 (N : Nat) (a0 : Nat) (x1 : Int32) (x2 : Int32) : jM Int32 := jB (jgR [7] 15 (some a0)) fun y1 => jB (jaI 0 y1 x1) fun y2 => jR (x2 &&& (y2 ^^^ (-1)))
def fX7_bare_54 (N : Nat) (k19 : Int32 → Int32 → Int32 → jM Int32) (a0 : Nat) (x1 : Int32) (x3 : Int32) (v0 : Int32) (v1 : Int32) : jM Int32 := k19 x1 (v0 ||| v1) (x3 + 1)
def fX7_bare_19 (N : Nat) (a0 : Nat) : Nat → Int32 → Int32 → Int32 → jM Int32
  | 0, _, _, _ => jE
  | n + 1, x1, x2, x3 => jB (jgR [7] 13 (some a0)) fun y1 => jB (jaI 0 y1 x1) fun y2 => if y2 ≤ x3 then (fX7_bare_62 N a0 x1 x2) else (jB (jgR [7] 48 (some a0)) fun y3 => jB (jaI 0 y3 ((7 + (6 * x1)) + x3)) fun y4 => if y4 = 0 then (fX7_bare_54 N (fX7_bare_19 N a0 n) a0 x1 x3 x2 (1 <<< (x3 &&& 31))) else (fX7_bare_54 N (fX7_bare_19 N a0 n) a0 x1 x3 x2 0))
def fX7_bare (N : Nat) (a0 : Nat) (x1 : Int32) : jM Int32 := jB (jpI [7] 0 (some a0) 0) fun _ => jB (fX7_isSkin a0 x1) fun y1 => if y1 = 0 then (jR (-1)) else (fX7_bare_19 N a0 N x1 0 0)
theorem wX7_bare_62 {N : Nat} {r : Int32} (cx : jCx p s m args meth c cX7_bare "WornSkinModel" 4 (Option.some Jvm.ClassFile.FieldType.int) D dA H0 hs.2.2.2.2) (e1 : h'.2.2.1 = hs.2.2.1 + mc) (e2 : h'.2.2.2.1 = hs.2.2.2.1 + ms) (a0 : Nat) (hth : jTh hs a0 7) : ∀ (x1 : Int32) (x2 : Int32), ∀ (h : jH) (H : Heap) (locs : List Loc) (cells slots : Nat) (ls : Array Slot), (fX7_bare_62 N a0 x1 x2).1 h = some (r, h') → jS D dA H0 hs h H locs cells slots → lv_has ls 4 [(0, .ref a0), (1, .int x1), (2, .int x2)] → W p l e { frames := 1, cells := mc, slots := ms, locals := 21 } s m args below meth c H locs cells slots (jQ D dA H0 below s (.returned (some (.int r))) h' mc ms) (F0 m 62 ls []) := by
  have hx := cx.1
  have hb := cx.2.1
  have hown := cx.2.2.2.1
  have hts := cx.2.2.2.2.1
  have hm : h'.2.2.1 ≤ hs.2.2.1 + mc ∧ h'.2.2.2.1 ≤ hs.2.2.2.1 + ms := ⟨Nat.le_of_eq e1, Nat.le_of_eq e2⟩
  intro x1 x2 h H locs cells slots ls hf hS hl
  unfold fX7_bare_62 at hf
  refine lv_iload_n (pc := 62) hx hb dX7_bare_62 rfl (lv_at hl 2 rfl) ?_
  refine lv_aload_n (pc := 63) hx hb dX7_bare_63 rfl (lv_at hl 0 rfl) ?_
  refine j_gR (pc := 64) cx hS hf fd_WornSkinModel_holes q1699 dX7_bare_64 (fun y1 hf => ?_)
  refine lv_iload_n (pc := 67) hx hb dX7_bare_67 rfl (lv_at hl 1 rfl) ?_
  refine j_aI (pc := 68) cx hS hf rfl dX7_bare_68 (fun y2 hf => ?_)
  refine lv_iconst (pc := 69) (v := (-1)) hx hb dX7_bare_69 rfl ?_
  refine lv_ixor (pc := 70) hx hb dX7_bare_70 ?_
  refine lv_iand (pc := 71) hx hb dX7_bare_71 ?_
  exact j_iret (pc := 72) cx hS hf e1 e2 dX7_bare_72
theorem wX7_bare_54 {N : Nat} {k19 : Int32 → Int32 → Int32 → jM Int32} {r : Int32} (cx : jCx p s m args meth c cX7_bare "WornSkinModel" 4 (Option.some Jvm.ClassFile.FieldType.int) D dA H0 hs.2.2.2.2) (e1 : h'.2.2.1 = hs.2.2.1 + mc) (e2 : h'.2.2.2.1 = hs.2.2.2.1 + ms) (a0 : Nat) (hth : jTh hs a0 7) (hk19 : ∀ (x1 : Int32) (x2 : Int32) (x3 : Int32), ∀ (h : jH) (H : Heap) (locs : List Loc) (cells slots : Nat) (ls : Array Slot), (k19 x1 x2 x3).1 h = some (r, h') → jS D dA H0 hs h H locs cells slots → lv_has ls 4 [(0, .ref a0), (1, .int x1), (2, .int x2), (3, .int x3)] → W p l e { frames := 1, cells := mc, slots := ms, locals := 21 } s m args below meth c H locs cells slots (jQ D dA H0 below s (.returned (some (.int r))) h' mc ms) (F0 m 19 ls [])) : ∀ (x1 : Int32) (x3 : Int32) (v0 : Int32) (v1 : Int32), ∀ (h : jH) (H : Heap) (locs : List Loc) (cells slots : Nat) (ls : Array Slot), (fX7_bare_54 N k19 a0 x1 x3 v0 v1).1 h = some (r, h') → jS D dA H0 hs h H locs cells slots → lv_has ls 4 [(0, .ref a0), (1, .int x1), (3, .int x3)] → W p l e { frames := 1, cells := mc, slots := ms, locals := 21 } s m args below meth c H locs cells slots (jQ D dA H0 below s (.returned (some (.int r))) h' mc ms) (F0 m 54 ls [.int v1, .int v0]) := by
  have hx := cx.1
  have hb := cx.2.1
  have hown := cx.2.2.2.1
  have hts := cx.2.2.2.2.1
  have hm : h'.2.2.1 ≤ hs.2.2.1 + mc ∧ h'.2.2.2.1 ≤ hs.2.2.2.1 + ms := ⟨Nat.le_of_eq e1, Nat.le_of_eq e2⟩
  intro x1 x3 v0 v1 h H locs cells slots ls hf hS hl
  unfold fX7_bare_54 at hf
  refine lv_ior (pc := 54) hx hb dX7_bare_54 ?_
  refine lv_istore_n (pc := 55) (i := 2) (lv' := [(2, .int (v0 ||| v1)), (0, .ref a0), (1, .int x1), (3, .int x3)]) hx hb dX7_bare_55 rfl hl (Nat.le_of_ble_eq_true rfl) rfl (fun ls hl => ?_)
  refine lv_iinc (pc := 56) (v := (x3 + 1)) (lv' := [(3, .int (x3 + 1)), (2, .int (v0 ||| v1)), (0, .ref a0), (1, .int x1)]) hx hb dX7_bare_56 hl (k := 3) rfl rfl (Nat.le_of_ble_eq_true rfl) rfl (fun ls hl => ?_)
  refine lv_goto (pc := 59) (tgt := 19) hx hb dX7_bare_59 (by decide) ?_
  exact hk19 _ _ _ _ _ _ _ _ _ hf hS (lv_sub hl [2, 3, 1, 0] rfl)
theorem wX7_bare_19 {N : Nat} {r : Int32} (cx : jCx p s m args meth c cX7_bare "WornSkinModel" 4 (Option.some Jvm.ClassFile.FieldType.int) D dA H0 hs.2.2.2.2) (e1 : h'.2.2.1 = hs.2.2.1 + mc) (e2 : h'.2.2.2.1 = hs.2.2.2.1 + ms) (a0 : Nat) (hth : jTh hs a0 7) : ∀ (n : Nat) (x1 : Int32) (x2 : Int32) (x3 : Int32), ∀ (h : jH) (H : Heap) (locs : List Loc) (cells slots : Nat) (ls : Array Slot), (fX7_bare_19 N a0 n x1 x2 x3).1 h = some (r, h') → jS D dA H0 hs h H locs cells slots → lv_has ls 4 [(0, .ref a0), (1, .int x1), (2, .int x2), (3, .int x3)] → W p l e { frames := 1, cells := mc, slots := ms, locals := 21 } s m args below meth c H locs cells slots (jQ D dA H0 below s (.returned (some (.int r))) h' mc ms) (F0 m 19 ls []) := by
  have hx := cx.1
  have hb := cx.2.1
  have hown := cx.2.2.2.1
  have hts := cx.2.2.2.2.1
  have hm : h'.2.2.1 ≤ hs.2.2.1 + mc ∧ h'.2.2.2.1 ≤ hs.2.2.2.1 + ms := ⟨Nat.le_of_eq e1, Nat.le_of_eq e2⟩
  intro n
  induction n with
  | zero =>
    intro x1 x2 x3 h H locs cells slots ls hf hS hl
    exact jE_f hf
  | succ n ih =>
    intro x1 x2 x3 h H locs cells slots ls hf hS hl
    unfold fX7_bare_19 at hf
    refine lv_iload_n (pc := 19) hx hb dX7_bare_19 rfl (lv_at hl 3 rfl) ?_
    refine lv_aload_n (pc := 20) hx hb dX7_bare_20 rfl (lv_at hl 0 rfl) ?_
    refine j_gR (pc := 21) cx hS hf fd_WornSkinModel_linesOf q1697 dX7_bare_21 (fun y1 hf => ?_)
    refine lv_iload_n (pc := 24) hx hb dX7_bare_24 rfl (lv_at hl 1 rfl) ?_
    refine j_aI (pc := 25) cx hS hf rfl dX7_bare_25 (fun y2 hf => ?_)
    refine lv_icmp_ge (pc := 26) (tgt := 62) hx hb dX7_bare_26 (by decide) (fun hc => ?_) (fun hc => ?_)
    · have hf := jI_t hf hc
      exact wX7_bare_62 cx e1 e2 a0 hth _ _ _ _ _ _ _ _ hf hS (lv_sub hl [0, 1, 2] rfl)
    · have hf := jI_f hf hc
      refine lv_iload_n (pc := 29) hx hb dX7_bare_29 rfl (lv_at hl 2 rfl) ?_
      refine lv_aload_n (pc := 30) hx hb dX7_bare_30 rfl (lv_at hl 0 rfl) ?_
      refine j_gR (pc := 31) cx hS hf fd_WornSkinModel_s q1732 dX7_bare_31 (fun y3 hf => ?_)
      refine lv_bipush (pc := 34) (v := 7) hx hb dX7_bare_34 rfl ?_
      refine lv_bipush (pc := 36) (v := 6) hx hb dX7_bare_36 rfl ?_
      refine lv_iload_n (pc := 38) hx hb dX7_bare_38 rfl (lv_at hl 1 rfl) ?_
      refine lv_imul (pc := 39) hx hb dX7_bare_39 ?_
      refine lv_iadd (pc := 40) hx hb dX7_bare_40 ?_
      refine lv_iload_n (pc := 41) hx hb dX7_bare_41 rfl (lv_at hl 3 rfl) ?_
      refine lv_iadd (pc := 42) hx hb dX7_bare_42 ?_
      refine j_aI (pc := 43) cx hS hf rfl dX7_bare_43 (fun y4 hf => ?_)
      refine lv_if_ne (pc := 44) (tgt := 53) hx hb dX7_bare_44 (by decide) (fun hc => ?_) (fun hc => ?_)
      · have hf := jI_f hf hc
        refine lv_iconst (pc := 53) (v := 0) hx hb dX7_bare_53 rfl ?_
        exact wX7_bare_54 cx e1 e2 a0 hth ih _ _ _ _ _ _ _ _ _ _ hf hS (lv_sub hl [0, 1, 3] rfl)
      · have hf := jI_t hf hc
        refine lv_iconst (pc := 47) (v := 1) hx hb dX7_bare_47 rfl ?_
        refine lv_iload_n (pc := 48) hx hb dX7_bare_48 rfl (lv_at hl 3 rfl) ?_
        refine lv_ishl (pc := 49) hx hb dX7_bare_49 ?_
        refine lv_goto (pc := 50) (tgt := 54) hx hb dX7_bare_50 (by decide) ?_
        exact wX7_bare_54 cx e1 e2 a0 hth ih _ _ _ _ _ _ _ _ _ _ hf hS (lv_sub hl [0, 1, 3] rfl)
theorem wX7_bare_0 {N : Nat} {r : Int32} (cx : jCx p s m args meth c cX7_bare "WornSkinModel" 4 (Option.some Jvm.ClassFile.FieldType.int) D dA H0 hs.2.2.2.2) (e1 : h'.2.2.1 = hs.2.2.1 + mc) (e2 : h'.2.2.2.1 = hs.2.2.2.1 + ms) (a0 : Nat) (hth : jTh hs a0 7) : ∀ (x1 : Int32), ∀ (h : jH) (H : Heap) (locs : List Loc) (cells slots : Nat) (ls : Array Slot), (fX7_bare N a0 x1).1 h = some (r, h') → jS D dA H0 hs h H locs cells slots → lv_has ls 4 [(0, .ref a0), (1, .int x1)] → W p l e { frames := 1, cells := mc, slots := ms, locals := 21 } s m args below meth c H locs cells slots (jQ D dA H0 below s (.returned (some (.int r))) h' mc ms) (F0 m 0 ls []) := by
  have hx := cx.1
  have hb := cx.2.1
  have hown := cx.2.2.2.1
  have hts := cx.2.2.2.2.1
  have hm : h'.2.2.1 ≤ hs.2.2.1 + mc ∧ h'.2.2.2.1 ≤ hs.2.2.2.1 + ms := ⟨Nat.le_of_eq e1, Nat.le_of_eq e2⟩
  intro x1 h H locs cells slots ls hf hS hl
  unfold fX7_bare at hf
  refine lv_aload_n (pc := 0) hx hb dX7_bare_0 rfl (lv_at hl 0 rfl) ?_
  refine lv_iconst (pc := 1) (v := 0) hx hb dX7_bare_1 rfl ?_
  refine j_pI (pc := 2) cx hS hf fp_WornSkinModel_thrown (Or.inl rfl) q1684 dX7_bare_2 (fun h H locs hf hS => ?_)
  refine lv_aload_n (pc := 5) hx hb dX7_bare_5 rfl (lv_at hl 0 rfl) ?_
  refine lv_iload_n (pc := 6) hx hb dX7_bare_6 rfl (lv_at hl 1 rfl) ?_
  obtain ⟨y1, h1, e9, hf⟩ := jB_some hf
  refine j_callV (pc := 7) (st1 := [.int y1]) (As := [.int x1]) (rest := []) cx hS rfl hl.1 hm (metX7_isSkin l _ _ _ _ _ (hth.at hS) e9) (jle hf) (hth.at hS) rfl (lw_V q2031 q2033 qs80 q123 q2034) pdX7_isSkin rfl rfl (Nat.le_of_ble_eq_true rfl) ⟨Nat.le_of_ble_eq_true rfl, Nat.le_of_ble_eq_true rfl⟩ dX7_bare_7 rfl (fun H locs cells slots hS => ?_)
  refine lv_if_ne (pc := 10) (tgt := 15) hx hb dX7_bare_10 (by decide) (fun hc => ?_) (fun hc => ?_)
  · have hf := jI_f hf hc
    refine lv_iconst (pc := 15) (v := 0) hx hb dX7_bare_15 rfl ?_
    refine lv_istore_n (pc := 16) (i := 2) (lv' := [(2, .int 0), (0, .ref a0), (1, .int x1)]) hx hb dX7_bare_16 rfl hl (Nat.le_of_ble_eq_true rfl) rfl (fun ls hl => ?_)
    refine lv_iconst (pc := 17) (v := 0) hx hb dX7_bare_17 rfl ?_
    refine lv_istore_n (pc := 18) (i := 3) (lv' := [(3, .int 0), (2, .int 0), (0, .ref a0), (1, .int x1)]) hx hb dX7_bare_18 rfl hl (Nat.le_of_ble_eq_true rfl) rfl (fun ls hl => ?_)
    exact wX7_bare_19 cx e1 e2 a0 hth N _ _ _ _ _ _ _ _ _ hf hS (lv_sub hl [2, 3, 1, 0] rfl)
  · have hf := jI_t hf hc
    refine lv_iconst (pc := 13) (v := (-1)) hx hb dX7_bare_13 rfl ?_
    exact j_iret (pc := 14) cx hS hf e1 e2 dX7_bare_14
theorem metX7_bare (l : Launch) (N : Nat) (a0 : Nat) (x1 : Int32) (h h' : jH) (r : Int32) (hth : jcd h a0 = some 7) (hf : (fX7_bare N a0 x1).1 h = some (r, h')) : jMet l yX7_bare (ws_ yX7_bare cX7_bare 4 (Option.some Jvm.ClassFile.FieldType.int)) (1) (21) [.ref a0, .int x1] h h' (.returned (some (.int r))) := by
  refine jStart rfl (jle hf) (Nat.le_of_ble_eq_true rfl) ?_
  intro p e s m below meth c D dA H0 mc ms ls cx hnm e1 e2 hS hl
  have hth := jTh.mk hS hth
  exact wX7_bare_0 cx e1 e2 a0 hth _ _ _ _ _ _ _ hf hS hl
def fX7_same_75 (N : Nat) (a0 : Nat) (x1 : Int32) : jM Int32 := jR x1
def fX7_same_69 (N : Nat) (k9 : Int32 → Int32 → jM Int32) (a0 : Nat) (x1 : Int32) (x2 : Int32) : jM Int32 := k9 x1 (x2 + 1)
def fX7_same_61 (N : Nat) (k17 : Int32 → Int32 → Int32 → jM Int32) (a0 : Nat) (x2 : Int32) (x3 : Int32) (v0 : Int32) (v1 : Int32) : jM Int32 := k17 (v0 + v1) x2 (x3 + 1)
def fX7_same_60 (N : Nat) (k17 : Int32 → Int32 → Int32 → jM Int32) (a0 : Nat) (x2 : Int32) (x3 : Int32) (v0 : Int32) : jM Int32 := fX7_same_61 N k17 a0 x2 x3 v0 0
def fX7_same_17 (N : Nat) (k9 : Int32 → Int32 → jM Int32) (a0 : Nat) : Nat → Int32 → Int32 → Int32 → jM Int32
  | 0, _, _, _ => jE
  | n + 1, x1, x2, x3 => if x2 ≤ x3 then (fX7_same_69 N k9 a0 x1 x2) else (jB (jgR [7] 48 (some a0)) fun y1 => jB (jaI 0 y1 (7 + x2)) fun y2 => if y2 ≤ 0 then (fX7_same_60 N (fX7_same_17 N k9 a0 n) a0 x2 x3 x1) else (jB (jgR [7] 48 (some a0)) fun y3 => jB (jaI 0 y3 (7 + x2)) fun y4 => jB (jgR [7] 48 (some a0)) fun y5 => jB (jaI 0 y5 (7 + x3)) fun y6 => if y4 = y6 then (fX7_same_61 N (fX7_same_17 N k9 a0 n) a0 x2 x3 x1 1) else (fX7_same_60 N (fX7_same_17 N k9 a0 n) a0 x2 x3 x1)))
def fX7_same_9 (N : Nat) (a0 : Nat) : Nat → Int32 → Int32 → jM Int32
  | 0, _, _ => jE
  | n + 1, x1, x2 => if 18 ≤ x2 then (fX7_same_75 N a0 x1) else (fX7_same_17 N (fX7_same_9 N a0 n) a0 N x1 x2 0)
def fX7_same (N : Nat) (a0 : Nat) : jM Int32 := jB (jpI [7] 0 (some a0) 0) fun _ => fX7_same_9 N a0 N 0 0
theorem wX7_same_75 {N : Nat} {r : Int32} (cx : jCx p s m args meth c cX7_same "WornSkinModel" 4 (Option.some Jvm.ClassFile.FieldType.int) D dA H0 hs.2.2.2.2) (e1 : h'.2.2.1 = hs.2.2.1 + mc) (e2 : h'.2.2.2.1 = hs.2.2.2.1 + ms) (a0 : Nat) (hth : jTh hs a0 7) : ∀ (x1 : Int32), ∀ (h : jH) (H : Heap) (locs : List Loc) (cells slots : Nat) (ls : Array Slot), (fX7_same_75 N a0 x1).1 h = some (r, h') → jS D dA H0 hs h H locs cells slots → lv_has ls 4 [(0, .ref a0), (1, .int x1)] → W p l e { frames := 0, cells := mc, slots := ms, locals := 0 } s m args below meth c H locs cells slots (jQ D dA H0 below s (.returned (some (.int r))) h' mc ms) (F0 m 75 ls []) := by
  have hx := cx.1
  have hb := cx.2.1
  have hown := cx.2.2.2.1
  have hts := cx.2.2.2.2.1
  have hm : h'.2.2.1 ≤ hs.2.2.1 + mc ∧ h'.2.2.2.1 ≤ hs.2.2.2.1 + ms := ⟨Nat.le_of_eq e1, Nat.le_of_eq e2⟩
  intro x1 h H locs cells slots ls hf hS hl
  unfold fX7_same_75 at hf
  refine lv_iload_n (pc := 75) hx hb dX7_same_75 rfl (lv_at hl 1 rfl) ?_
  exact j_iret (pc := 76) cx hS hf e1 e2 dX7_same_76
theorem wX7_same_69 {N : Nat} {k9 : Int32 → Int32 → jM Int32} {r : Int32} (cx : jCx p s m args meth c cX7_same "WornSkinModel" 4 (Option.some Jvm.ClassFile.FieldType.int) D dA H0 hs.2.2.2.2) (e1 : h'.2.2.1 = hs.2.2.1 + mc) (e2 : h'.2.2.2.1 = hs.2.2.2.1 + ms) (a0 : Nat) (hth : jTh hs a0 7) (hk9 : ∀ (x1 : Int32) (x2 : Int32), ∀ (h : jH) (H : Heap) (locs : List Loc) (cells slots : Nat) (ls : Array Slot), (k9 x1 x2).1 h = some (r, h') → jS D dA H0 hs h H locs cells slots → lv_has ls 4 [(0, .ref a0), (1, .int x1), (2, .int x2)] → W p l e { frames := 0, cells := mc, slots := ms, locals := 0 } s m args below meth c H locs cells slots (jQ D dA H0 below s (.returned (some (.int r))) h' mc ms) (F0 m 9 ls [])) : ∀ (x1 : Int32) (x2 : Int32), ∀ (h : jH) (H : Heap) (locs : List Loc) (cells slots : Nat) (ls : Array Slot), (fX7_same_69 N k9 a0 x1 x2).1 h = some (r, h') → jS D dA H0 hs h H locs cells slots → lv_has ls 4 [(0, .ref a0), (1, .int x1), (2, .int x2)] → W p l e { frames := 0, cells := mc, slots := ms, locals := 0 } s m args below meth c H locs cells slots (jQ D dA H0 below s (.returned (some (.int r))) h' mc ms) (F0 m 69 ls []) := by
  have hx := cx.1
  have hb := cx.2.1
  have hown := cx.2.2.2.1
  have hts := cx.2.2.2.2.1
  have hm : h'.2.2.1 ≤ hs.2.2.1 + mc ∧ h'.2.2.2.1 ≤ hs.2.2.2.1 + ms := ⟨Nat.le_of_eq e1, Nat.le_of_eq e2⟩
  intro x1 x2 h H locs cells slots ls hf hS hl
  unfold fX7_same_69 at hf
  refine lv_iinc (pc := 69) (v := (x2 + 1)) (lv' := [(2, .int (x2 + 1)), (0, .ref a0), (1, .int x1)]) hx hb dX7_same_69 hl (k := 2) rfl rfl (Nat.le_of_ble_eq_true rfl) rfl (fun ls hl => ?_)
  refine lv_goto (pc := 72) (tgt := 9) hx hb dX7_same_72 (by decide) ?_
  exact hk9 _ _ _ _ _ _ _ _ hf hS (lv_sub hl [1, 2, 0] rfl)
theorem wX7_same_61 {N : Nat} {k17 : Int32 → Int32 → Int32 → jM Int32} {r : Int32} (cx : jCx p s m args meth c cX7_same "WornSkinModel" 4 (Option.some Jvm.ClassFile.FieldType.int) D dA H0 hs.2.2.2.2) (e1 : h'.2.2.1 = hs.2.2.1 + mc) (e2 : h'.2.2.2.1 = hs.2.2.2.1 + ms) (a0 : Nat) (hth : jTh hs a0 7) (hk17 : ∀ (x1 : Int32) (x2 : Int32) (x3 : Int32), ∀ (h : jH) (H : Heap) (locs : List Loc) (cells slots : Nat) (ls : Array Slot), (k17 x1 x2 x3).1 h = some (r, h') → jS D dA H0 hs h H locs cells slots → lv_has ls 4 [(0, .ref a0), (1, .int x1), (2, .int x2), (3, .int x3)] → W p l e { frames := 0, cells := mc, slots := ms, locals := 0 } s m args below meth c H locs cells slots (jQ D dA H0 below s (.returned (some (.int r))) h' mc ms) (F0 m 17 ls [])) : ∀ (x2 : Int32) (x3 : Int32) (v0 : Int32) (v1 : Int32), ∀ (h : jH) (H : Heap) (locs : List Loc) (cells slots : Nat) (ls : Array Slot), (fX7_same_61 N k17 a0 x2 x3 v0 v1).1 h = some (r, h') → jS D dA H0 hs h H locs cells slots → lv_has ls 4 [(0, .ref a0), (2, .int x2), (3, .int x3)] → W p l e { frames := 0, cells := mc, slots := ms, locals := 0 } s m args below meth c H locs cells slots (jQ D dA H0 below s (.returned (some (.int r))) h' mc ms) (F0 m 61 ls [.int v1, .int v0]) := by
  have hx := cx.1
  have hb := cx.2.1
  have hown := cx.2.2.2.1
  have hts := cx.2.2.2.2.1
  have hm : h'.2.2.1 ≤ hs.2.2.1 + mc ∧ h'.2.2.2.1 ≤ hs.2.2.2.1 + ms := ⟨Nat.le_of_eq e1, Nat.le_of_eq e2⟩
  intro x2 x3 v0 v1 h H locs cells slots ls hf hS hl
  unfold fX7_same_61 at hf
  refine lv_iadd (pc := 61) hx hb dX7_same_61 ?_
  refine lv_istore_n (pc := 62) (i := 1) (lv' := [(1, .int (v0 + v1)), (0, .ref a0), (2, .int x2), (3, .int x3)]) hx hb dX7_same_62 rfl hl (Nat.le_of_ble_eq_true rfl) rfl (fun ls hl => ?_)
  refine lv_iinc (pc := 63) (v := (x3 + 1)) (lv' := [(3, .int (x3 + 1)), (1, .int (v0 + v1)), (0, .ref a0), (2, .int x2)]) hx hb dX7_same_63 hl (k := 3) rfl rfl (Nat.le_of_ble_eq_true rfl) rfl (fun ls hl => ?_)
  refine lv_goto (pc := 66) (tgt := 17) hx hb dX7_same_66 (by decide) ?_
  exact hk17 _ _ _ _ _ _ _ _ _ hf hS (lv_sub hl [2, 1, 3, 0] rfl)
theorem wX7_same_60 {N : Nat} {k17 : Int32 → Int32 → Int32 → jM Int32} {r : Int32} (cx : jCx p s m args meth c cX7_same "WornSkinModel" 4 (Option.some Jvm.ClassFile.FieldType.int) D dA H0 hs.2.2.2.2) (e1 : h'.2.2.1 = hs.2.2.1 + mc) (e2 : h'.2.2.2.1 = hs.2.2.2.1 + ms) (a0 : Nat) (hth : jTh hs a0 7) (hk17 : ∀ (x1 : Int32) (x2 : Int32) (x3 : Int32), ∀ (h : jH) (H : Heap) (locs : List Loc) (cells slots : Nat) (ls : Array Slot), (k17 x1 x2 x3).1 h = some (r, h') → jS D dA H0 hs h H locs cells slots → lv_has ls 4 [(0, .ref a0), (1, .int x1), (2, .int x2), (3, .int x3)] → W p l e { frames := 0, cells := mc, slots := ms, locals := 0 } s m args below meth c H locs cells slots (jQ D dA H0 below s (.returned (some (.int r))) h' mc ms) (F0 m 17 ls [])) : ∀ (x2 : Int32) (x3 : Int32) (v0 : Int32), ∀ (h : jH) (H : Heap) (locs : List Loc) (cells slots : Nat) (ls : Array Slot), (fX7_same_60 N k17 a0 x2 x3 v0).1 h = some (r, h') → jS D dA H0 hs h H locs cells slots → lv_has ls 4 [(0, .ref a0), (2, .int x2), (3, .int x3)] → W p l e { frames := 0, cells := mc, slots := ms, locals := 0 } s m args below meth c H locs cells slots (jQ D dA H0 below s (.returned (some (.int r))) h' mc ms) (F0 m 60 ls [.int v0]) := by
  have hx := cx.1
  have hb := cx.2.1
  have hown := cx.2.2.2.1
  have hts := cx.2.2.2.2.1
  have hm : h'.2.2.1 ≤ hs.2.2.1 + mc ∧ h'.2.2.2.1 ≤ hs.2.2.2.1 + ms := ⟨Nat.le_of_eq e1, Nat.le_of_eq e2⟩
  intro x2 x3 v0 h H locs cells slots ls hf hS hl
  unfold fX7_same_60 at hf
  refine lv_iconst (pc := 60) (v := 0) hx hb dX7_same_60 rfl ?_
  exact wX7_same_61 cx e1 e2 a0 hth hk17 _ _ _ _ _ _ _ _ _ _ hf hS hl
theorem wX7_same_17 {N : Nat} {k9 : Int32 → Int32 → jM Int32} {r : Int32} (cx : jCx p s m args meth c cX7_same "WornSkinModel" 4 (Option.some Jvm.ClassFile.FieldType.int) D dA H0 hs.2.2.2.2) (e1 : h'.2.2.1 = hs.2.2.1 + mc) (e2 : h'.2.2.2.1 = hs.2.2.2.1 + ms) (a0 : Nat) (hth : jTh hs a0 7) (hk9 : ∀ (x1 : Int32) (x2 : Int32), ∀ (h : jH) (H : Heap) (locs : List Loc) (cells slots : Nat) (ls : Array Slot), (k9 x1 x2).1 h = some (r, h') → jS D dA H0 hs h H locs cells slots → lv_has ls 4 [(0, .ref a0), (1, .int x1), (2, .int x2)] → W p l e { frames := 0, cells := mc, slots := ms, locals := 0 } s m args below meth c H locs cells slots (jQ D dA H0 below s (.returned (some (.int r))) h' mc ms) (F0 m 9 ls [])) : ∀ (n : Nat) (x1 : Int32) (x2 : Int32) (x3 : Int32), ∀ (h : jH) (H : Heap) (locs : List Loc) (cells slots : Nat) (ls : Array Slot), (fX7_same_17 N k9 a0 n x1 x2 x3).1 h = some (r, h') → jS D dA H0 hs h H locs cells slots → lv_has ls 4 [(0, .ref a0), (1, .int x1), (2, .int x2), (3, .int x3)] → W p l e { frames := 0, cells := mc, slots := ms, locals := 0 } s m args below meth c H locs cells slots (jQ D dA H0 below s (.returned (some (.int r))) h' mc ms) (F0 m 17 ls []) := by
  have hx := cx.1
  have hb := cx.2.1
  have hown := cx.2.2.2.1
  have hts := cx.2.2.2.2.1
  have hm : h'.2.2.1 ≤ hs.2.2.1 + mc ∧ h'.2.2.2.1 ≤ hs.2.2.2.1 + ms := ⟨Nat.le_of_eq e1, Nat.le_of_eq e2⟩
  intro n
  induction n with
  | zero =>
    intro x1 x2 x3 h H locs cells slots ls hf hS hl
    exact jE_f hf
  | succ n ih =>
    intro x1 x2 x3 h H locs cells slots ls hf hS hl
    unfold fX7_same_17 at hf
    refine lv_iload_n (pc := 17) hx hb dX7_same_17 rfl (lv_at hl 3 rfl) ?_
    refine lv_iload_n (pc := 18) hx hb dX7_same_18 rfl (lv_at hl 2 rfl) ?_
    refine lv_icmp_ge (pc := 19) (tgt := 69) hx hb dX7_same_19 (by decide) (fun hc => ?_) (fun hc => ?_)
    · have hf := jI_t hf hc
      exact wX7_same_69 cx e1 e2 a0 hth hk9 _ _ _ _ _ _ _ _ hf hS (lv_sub hl [0, 1, 2] rfl)
    · have hf := jI_f hf hc
      refine lv_iload_n (pc := 22) hx hb dX7_same_22 rfl (lv_at hl 1 rfl) ?_
      refine lv_aload_n (pc := 23) hx hb dX7_same_23 rfl (lv_at hl 0 rfl) ?_
      refine j_gR (pc := 24) cx hS hf fd_WornSkinModel_s q1732 dX7_same_24 (fun y1 hf => ?_)
      refine lv_bipush (pc := 27) (v := 7) hx hb dX7_same_27 rfl ?_
      refine lv_iload_n (pc := 29) hx hb dX7_same_29 rfl (lv_at hl 2 rfl) ?_
      refine lv_iadd (pc := 30) hx hb dX7_same_30 ?_
      refine j_aI (pc := 31) cx hS hf rfl dX7_same_31 (fun y2 hf => ?_)
      refine lv_if_le (pc := 32) (tgt := 60) hx hb dX7_same_32 (by decide) (fun hc => ?_) (fun hc => ?_)
      · have hf := jI_t hf hc
        exact wX7_same_60 cx e1 e2 a0 hth ih _ _ _ _ _ _ _ _ _ hf hS (lv_sub hl [0, 2, 3] rfl)
      · have hf := jI_f hf hc
        refine lv_aload_n (pc := 35) hx hb dX7_same_35 rfl (lv_at hl 0 rfl) ?_
        refine j_gR (pc := 36) cx hS hf fd_WornSkinModel_s q1732 dX7_same_36 (fun y3 hf => ?_)
        refine lv_bipush (pc := 39) (v := 7) hx hb dX7_same_39 rfl ?_
        refine lv_iload_n (pc := 41) hx hb dX7_same_41 rfl (lv_at hl 2 rfl) ?_
        refine lv_iadd (pc := 42) hx hb dX7_same_42 ?_
        refine j_aI (pc := 43) cx hS hf rfl dX7_same_43 (fun y4 hf => ?_)
        refine lv_aload_n (pc := 44) hx hb dX7_same_44 rfl (lv_at hl 0 rfl) ?_
        refine j_gR (pc := 45) cx hS hf fd_WornSkinModel_s q1732 dX7_same_45 (fun y5 hf => ?_)
        refine lv_bipush (pc := 48) (v := 7) hx hb dX7_same_48 rfl ?_
        refine lv_iload_n (pc := 50) hx hb dX7_same_50 rfl (lv_at hl 3 rfl) ?_
        refine lv_iadd (pc := 51) hx hb dX7_same_51 ?_
        refine j_aI (pc := 52) cx hS hf rfl dX7_same_52 (fun y6 hf => ?_)
        refine lv_icmp_ne (pc := 53) (tgt := 60) hx hb dX7_same_53 (by decide) (fun hc => ?_) (fun hc => ?_)
        · have hf := jI_f hf hc
          exact wX7_same_60 cx e1 e2 a0 hth ih _ _ _ _ _ _ _ _ _ hf hS (lv_sub hl [0, 2, 3] rfl)
        · have hf := jI_t hf hc
          refine lv_iconst (pc := 56) (v := 1) hx hb dX7_same_56 rfl ?_
          refine lv_goto (pc := 57) (tgt := 61) hx hb dX7_same_57 (by decide) ?_
          exact wX7_same_61 cx e1 e2 a0 hth ih _ _ _ _ _ _ _ _ _ _ hf hS (lv_sub hl [0, 2, 3] rfl)
theorem wX7_same_9 {N : Nat} {r : Int32} (cx : jCx p s m args meth c cX7_same "WornSkinModel" 4 (Option.some Jvm.ClassFile.FieldType.int) D dA H0 hs.2.2.2.2) (e1 : h'.2.2.1 = hs.2.2.1 + mc) (e2 : h'.2.2.2.1 = hs.2.2.2.1 + ms) (a0 : Nat) (hth : jTh hs a0 7) : ∀ (n : Nat) (x1 : Int32) (x2 : Int32), ∀ (h : jH) (H : Heap) (locs : List Loc) (cells slots : Nat) (ls : Array Slot), (fX7_same_9 N a0 n x1 x2).1 h = some (r, h') → jS D dA H0 hs h H locs cells slots → lv_has ls 4 [(0, .ref a0), (1, .int x1), (2, .int x2)] → W p l e { frames := 0, cells := mc, slots := ms, locals := 0 } s m args below meth c H locs cells slots (jQ D dA H0 below s (.returned (some (.int r))) h' mc ms) (F0 m 9 ls []) := by
  have hx := cx.1
  have hb := cx.2.1
  have hown := cx.2.2.2.1
  have hts := cx.2.2.2.2.1
  have hm : h'.2.2.1 ≤ hs.2.2.1 + mc ∧ h'.2.2.2.1 ≤ hs.2.2.2.1 + ms := ⟨Nat.le_of_eq e1, Nat.le_of_eq e2⟩
  intro n
  induction n with
  | zero =>
    intro x1 x2 h H locs cells slots ls hf hS hl
    exact jE_f hf
  | succ n ih =>
    intro x1 x2 h H locs cells slots ls hf hS hl
    unfold fX7_same_9 at hf
    refine lv_iload_n (pc := 9) hx hb dX7_same_9 rfl (lv_at hl 2 rfl) ?_
    refine lv_bipush (pc := 10) (v := 18) hx hb dX7_same_10 rfl ?_
    refine lv_icmp_ge (pc := 12) (tgt := 75) hx hb dX7_same_12 (by decide) (fun hc => ?_) (fun hc => ?_)
    · have hf := jI_t hf hc
      exact wX7_same_75 cx e1 e2 a0 hth _ _ _ _ _ _ _ hf hS (lv_sub hl [0, 1] rfl)
    · have hf := jI_f hf hc
      refine lv_iconst (pc := 15) (v := 0) hx hb dX7_same_15 rfl ?_
      refine lv_istore_n (pc := 16) (i := 3) (lv' := [(3, .int 0), (0, .ref a0), (1, .int x1), (2, .int x2)]) hx hb dX7_same_16 rfl hl (Nat.le_of_ble_eq_true rfl) rfl (fun ls hl => ?_)
      exact wX7_same_17 cx e1 e2 a0 hth ih N _ _ _ _ _ _ _ _ _ hf hS (lv_sub hl [1, 2, 3, 0] rfl)
theorem wX7_same_0 {N : Nat} {r : Int32} (cx : jCx p s m args meth c cX7_same "WornSkinModel" 4 (Option.some Jvm.ClassFile.FieldType.int) D dA H0 hs.2.2.2.2) (e1 : h'.2.2.1 = hs.2.2.1 + mc) (e2 : h'.2.2.2.1 = hs.2.2.2.1 + ms) (a0 : Nat) (hth : jTh hs a0 7) : ∀ (h : jH) (H : Heap) (locs : List Loc) (cells slots : Nat) (ls : Array Slot), (fX7_same N a0).1 h = some (r, h') → jS D dA H0 hs h H locs cells slots → lv_has ls 4 [(0, .ref a0)] → W p l e { frames := 0, cells := mc, slots := ms, locals := 0 } s m args below meth c H locs cells slots (jQ D dA H0 below s (.returned (some (.int r))) h' mc ms) (F0 m 0 ls []) := by
  have hx := cx.1
  have hb := cx.2.1
  have hown := cx.2.2.2.1
  have hts := cx.2.2.2.2.1
  have hm : h'.2.2.1 ≤ hs.2.2.1 + mc ∧ h'.2.2.2.1 ≤ hs.2.2.2.1 + ms := ⟨Nat.le_of_eq e1, Nat.le_of_eq e2⟩
  intro h H locs cells slots ls hf hS hl
  unfold fX7_same at hf
  refine lv_aload_n (pc := 0) hx hb dX7_same_0 rfl (lv_at hl 0 rfl) ?_
  refine lv_iconst (pc := 1) (v := 0) hx hb dX7_same_1 rfl ?_
  refine j_pI (pc := 2) cx hS hf fp_WornSkinModel_thrown (Or.inl rfl) q1684 dX7_same_2 (fun h H locs hf hS => ?_)
  refine lv_iconst (pc := 5) (v := 0) hx hb dX7_same_5 rfl ?_
  refine lv_istore_n (pc := 6) (i := 1) (lv' := [(1, .int 0), (0, .ref a0)]) hx hb dX7_same_6 rfl hl (Nat.le_of_ble_eq_true rfl) rfl (fun ls hl => ?_)
  refine lv_iconst (pc := 7) (v := 0) hx hb dX7_same_7 rfl ?_
  refine lv_istore_n (pc := 8) (i := 2) (lv' := [(2, .int 0), (1, .int 0), (0, .ref a0)]) hx hb dX7_same_8 rfl hl (Nat.le_of_ble_eq_true rfl) rfl (fun ls hl => ?_)
  exact wX7_same_9 cx e1 e2 a0 hth N _ _ _ _ _ _ _ _ hf hS (lv_sub hl [2, 1, 0] rfl)
theorem metX7_same (l : Launch) (N : Nat) (a0 : Nat) (h h' : jH) (r : Int32) (hth : jcd h a0 = some 7) (hf : (fX7_same N a0).1 h = some (r, h')) : jMet l yX7_same (ws_ yX7_same cX7_same 4 (Option.some Jvm.ClassFile.FieldType.int)) (0) (0) [.ref a0] h h' (.returned (some (.int r))) := by
  refine jStart rfl (jle hf) (Nat.le_of_ble_eq_true rfl) ?_
  intro p e s m below meth c D dA H0 mc ms ls cx hnm e1 e2 hS hl
  have hth := jTh.mk hS hth
  exact wX7_same_0 cx e1 e2 a0 hth  _ _ _ _ _ _ hf hS hl
def fX7_giveup_111 (N : Nat) (a0 : Nat) (x1 : Int32) : jM Int32 := jR x1
def fX7_giveup_105 (N : Nat) (k18 : Int32 → Int32 → Int32 → Int32 → jM Int32) (a0 : Nat) (x1 : Int32) (x2 : Int32) (x3 : Int32) (x4 : Int32) : jM Int32 := k18 x1 x2 x3 (x4 + 1)
def fX7_giveup_18 (N : Nat) (a0 : Nat) : Nat → Int32 → Int32 → Int32 → Int32 → jM Int32
  | 0, _, _, _, _ => jE
  | n + 1, x1, x2, x3, x4 => jB (jgR [7] 10 (some a0)) fun y1 => jB (jaI 0 y1 0) fun y2 => if y2 ≤ x4 then (fX7_giveup_111 N a0 x1) else (jB (fX7_scrapedBy N a0 x4 63) fun y3 => if y3 = 0 then (fX7_giveup_105 N (fX7_giveup_18 N a0 n) a0 x1 x2 x3 x4) else (jB (jgR [7] 48 (some a0)) fun y4 => jB (jgR [7] 50 (some a0)) fun y5 => jB (fX7_copies N y4 0 y5 0) fun _ => jB (fX7_scrapes N a0 x4 63) fun _ => jB (fX7_wholeNow N a0) fun y8 => jB (fX7_bits N (x3 &&& (y8 ^^^ (-1)))) fun y9 => jB (jgR [7] 50 (some a0)) fun y10 => jB (jgR [7] 48 (some a0)) fun y11 => jB (fX7_copies N y10 0 y11 0) fun _ => if y9 < x2 then (fX7_giveup_105 N (fX7_giveup_18 N a0 n) a0 x4 y9 x3 x4) else (fX7_giveup_105 N (fX7_giveup_18 N a0 n) a0 x1 x2 x3 x4)))
def fX7_giveup (N : Nat) (a0 : Nat) : jM Int32 := jB (jpI [7] 0 (some a0) 0) fun _ => jB (fX7_wholeNow N a0) fun y1 => fX7_giveup_18 N a0 N (-1) 7 y1 0
theorem wX7_giveup_111 {N : Nat} {r : Int32} (cx : jCx p s m args meth c cX7_giveup "WornSkinModel" 6 (Option.some Jvm.ClassFile.FieldType.int) D dA H0 hs.2.2.2.2) (e1 : h'.2.2.1 = hs.2.2.1 + mc) (e2 : h'.2.2.2.1 = hs.2.2.2.1 + ms) (a0 : Nat) (hth : jTh hs a0 7) : ∀ (x1 : Int32), ∀ (h : jH) (H : Heap) (locs : List Loc) (cells slots : Nat) (ls : Array Slot), (fX7_giveup_111 N a0 x1).1 h = some (r, h') → jS D dA H0 hs h H locs cells slots → lv_has ls 6 [(0, .ref a0), (1, .int x1)] → W p l e { frames := 7, cells := mc, slots := ms, locals := 167 } s m args below meth c H locs cells slots (jQ D dA H0 below s (.returned (some (.int r))) h' mc ms) (F0 m 111 ls []) := by
  have hx := cx.1
  have hb := cx.2.1
  have hown := cx.2.2.2.1
  have hts := cx.2.2.2.2.1
  have hm : h'.2.2.1 ≤ hs.2.2.1 + mc ∧ h'.2.2.2.1 ≤ hs.2.2.2.1 + ms := ⟨Nat.le_of_eq e1, Nat.le_of_eq e2⟩
  intro x1 h H locs cells slots ls hf hS hl
  unfold fX7_giveup_111 at hf
  refine lv_iload_n (pc := 111) hx hb dX7_giveup_111 rfl (lv_at hl 1 rfl) ?_
  exact j_iret (pc := 112) cx hS hf e1 e2 dX7_giveup_112
theorem wX7_giveup_105 {N : Nat} {k18 : Int32 → Int32 → Int32 → Int32 → jM Int32} {r : Int32} (cx : jCx p s m args meth c cX7_giveup "WornSkinModel" 6 (Option.some Jvm.ClassFile.FieldType.int) D dA H0 hs.2.2.2.2) (e1 : h'.2.2.1 = hs.2.2.1 + mc) (e2 : h'.2.2.2.1 = hs.2.2.2.1 + ms) (a0 : Nat) (hth : jTh hs a0 7) (hk18 : ∀ (x1 : Int32) (x2 : Int32) (x3 : Int32) (x4 : Int32), ∀ (h : jH) (H : Heap) (locs : List Loc) (cells slots : Nat) (ls : Array Slot), (k18 x1 x2 x3 x4).1 h = some (r, h') → jS D dA H0 hs h H locs cells slots → lv_has ls 6 [(0, .ref a0), (1, .int x1), (2, .int x2), (3, .int x3), (4, .int x4)] → W p l e { frames := 7, cells := mc, slots := ms, locals := 167 } s m args below meth c H locs cells slots (jQ D dA H0 below s (.returned (some (.int r))) h' mc ms) (F0 m 18 ls [])) : ∀ (x1 : Int32) (x2 : Int32) (x3 : Int32) (x4 : Int32), ∀ (h : jH) (H : Heap) (locs : List Loc) (cells slots : Nat) (ls : Array Slot), (fX7_giveup_105 N k18 a0 x1 x2 x3 x4).1 h = some (r, h') → jS D dA H0 hs h H locs cells slots → lv_has ls 6 [(0, .ref a0), (1, .int x1), (2, .int x2), (3, .int x3), (4, .int x4)] → W p l e { frames := 7, cells := mc, slots := ms, locals := 167 } s m args below meth c H locs cells slots (jQ D dA H0 below s (.returned (some (.int r))) h' mc ms) (F0 m 105 ls []) := by
  have hx := cx.1
  have hb := cx.2.1
  have hown := cx.2.2.2.1
  have hts := cx.2.2.2.2.1
  have hm : h'.2.2.1 ≤ hs.2.2.1 + mc ∧ h'.2.2.2.1 ≤ hs.2.2.2.1 + ms := ⟨Nat.le_of_eq e1, Nat.le_of_eq e2⟩
  intro x1 x2 x3 x4 h H locs cells slots ls hf hS hl
  unfold fX7_giveup_105 at hf
  refine lv_iinc (pc := 105) (v := (x4 + 1)) (lv' := [(4, .int (x4 + 1)), (0, .ref a0), (1, .int x1), (2, .int x2), (3, .int x3)]) hx hb dX7_giveup_105 hl (k := 4) rfl rfl (Nat.le_of_ble_eq_true rfl) rfl (fun ls hl => ?_)
  refine lv_goto (pc := 108) (tgt := 18) hx hb dX7_giveup_108 (by decide) ?_
  exact hk18 _ _ _ _ _ _ _ _ _ _ hf hS (lv_sub hl [1, 2, 3, 4, 0] rfl)
theorem wX7_giveup_18 {N : Nat} {r : Int32} (cx : jCx p s m args meth c cX7_giveup "WornSkinModel" 6 (Option.some Jvm.ClassFile.FieldType.int) D dA H0 hs.2.2.2.2) (e1 : h'.2.2.1 = hs.2.2.1 + mc) (e2 : h'.2.2.2.1 = hs.2.2.2.1 + ms) (a0 : Nat) (hth : jTh hs a0 7) : ∀ (n : Nat) (x1 : Int32) (x2 : Int32) (x3 : Int32) (x4 : Int32), ∀ (h : jH) (H : Heap) (locs : List Loc) (cells slots : Nat) (ls : Array Slot), (fX7_giveup_18 N a0 n x1 x2 x3 x4).1 h = some (r, h') → jS D dA H0 hs h H locs cells slots → lv_has ls 6 [(0, .ref a0), (1, .int x1), (2, .int x2), (3, .int x3), (4, .int x4)] → W p l e { frames := 7, cells := mc, slots := ms, locals := 167 } s m args below meth c H locs cells slots (jQ D dA H0 below s (.returned (some (.int r))) h' mc ms) (F0 m 18 ls []) := by
  have hx := cx.1
  have hb := cx.2.1
  have hown := cx.2.2.2.1
  have hts := cx.2.2.2.2.1
  have hm : h'.2.2.1 ≤ hs.2.2.1 + mc ∧ h'.2.2.2.1 ≤ hs.2.2.2.1 + ms := ⟨Nat.le_of_eq e1, Nat.le_of_eq e2⟩
  intro n
  induction n with
  | zero =>
    intro x1 x2 x3 x4 h H locs cells slots ls hf hS hl
    exact jE_f hf
  | succ n ih =>
    intro x1 x2 x3 x4 h H locs cells slots ls hf hS hl
    unfold fX7_giveup_18 at hf
    refine lv_iload (pc := 18) hx hb dX7_giveup_18 (lv_at hl 4 rfl) ?_
    refine lv_aload_n (pc := 20) hx hb dX7_giveup_20 rfl (lv_at hl 0 rfl) ?_
    refine j_gR (pc := 21) cx hS hf fd_WornSkinModel_library q1694 dX7_giveup_21 (fun y1 hf => ?_)
    refine lv_iconst (pc := 24) (v := 0) hx hb dX7_giveup_24 rfl ?_
    refine j_aI (pc := 25) cx hS hf rfl dX7_giveup_25 (fun y2 hf => ?_)
    refine lv_icmp_ge (pc := 26) (tgt := 111) hx hb dX7_giveup_26 (by decide) (fun hc => ?_) (fun hc => ?_)
    · have hf := jI_t hf hc
      exact wX7_giveup_111 cx e1 e2 a0 hth _ _ _ _ _ _ _ hf hS (lv_sub hl [0, 1] rfl)
    · have hf := jI_f hf hc
      refine lv_aload_n (pc := 29) hx hb dX7_giveup_29 rfl (lv_at hl 0 rfl) ?_
      refine lv_iload (pc := 30) hx hb dX7_giveup_30 (lv_at hl 4 rfl) ?_
      refine lv_bipush (pc := 32) (v := 63) hx hb dX7_giveup_32 rfl ?_
      obtain ⟨y3, h1, e9, hf⟩ := jB_some hf
      refine j_callV (pc := 34) (st1 := [.int y3]) (As := [.int x4, .int 63]) (rest := []) cx hS rfl hl.1 hm (metX7_scrapedBy l _ _ _ _ _ _ _ (hth.at hS) e9) (jle hf) (hth.at hS) rfl (lw_V q2140 q2142 qs98 q123 q2143) pdX7_scrapedBy rfl rfl (Nat.le_of_ble_eq_true rfl) ⟨Nat.le_of_ble_eq_true rfl, Nat.le_of_ble_eq_true rfl⟩ dX7_giveup_34 rfl (fun H locs cells slots hS => ?_)
      refine lv_if_ne (pc := 37) (tgt := 43) hx hb dX7_giveup_37 (by decide) (fun hc => ?_) (fun hc => ?_)
      · have hf := jI_f hf hc
        refine lv_aload_n (pc := 43) hx hb dX7_giveup_43 rfl (lv_at hl 0 rfl) ?_
        refine j_gR (pc := 44) cx hS hf fd_WornSkinModel_s q1732 dX7_giveup_44 (fun y4 hf => ?_)
        refine lv_iconst (pc := 47) (v := 0) hx hb dX7_giveup_47 rfl ?_
        refine lv_aload_n (pc := 48) hx hb dX7_giveup_48 rfl (lv_at hl 0 rfl) ?_
        refine j_gR (pc := 49) cx hS hf fd_WornSkinModel_before q1734 dX7_giveup_49 (fun y5 hf => ?_)
        refine lv_iconst (pc := 52) (v := 0) hx hb dX7_giveup_52 rfl ?_
        obtain ⟨_, h1, e9, hf⟩ := jB_some hf
        refine j_callS (pc := 53) (st1 := []) (As := [va_rf y4, .int 0, va_rf y5, .int 0]) (rest := []) cx hS rfl hl.1 hm (metX7_copies l _ _ _ _ _ _ _ _ e9) (jle hf) (lw_S q2125 q2126 q123 q2127) pdX7_copies rfl rfl (Nat.le_of_ble_eq_true rfl) ⟨Nat.le_of_ble_eq_true rfl, Nat.le_of_ble_eq_true rfl⟩ dX7_giveup_53 rfl (fun H locs cells slots hS => ?_)
        refine lv_aload_n (pc := 56) hx hb dX7_giveup_56 rfl (lv_at hl 0 rfl) ?_
        refine lv_iload (pc := 57) hx hb dX7_giveup_57 (lv_at hl 4 rfl) ?_
        refine lv_bipush (pc := 59) (v := 63) hx hb dX7_giveup_59 rfl ?_
        obtain ⟨_, h1, e9, hf⟩ := jB_some hf
        refine j_callV (pc := 61) (st1 := []) (As := [.int x4, .int 63]) (rest := []) cx hS rfl hl.1 hm (metX7_scrapes l _ _ _ _ _ _ _ (hth.at hS) e9) (jle hf) (hth.at hS) rfl (lw_V q2144 q2146 qs99 q123 q2147) pdX7_scrapes rfl rfl (Nat.le_of_ble_eq_true rfl) ⟨Nat.le_of_ble_eq_true rfl, Nat.le_of_ble_eq_true rfl⟩ dX7_giveup_61 rfl (fun H locs cells slots hS => ?_)
        refine lv_iload_n (pc := 64) hx hb dX7_giveup_64 rfl (lv_at hl 3 rfl) ?_
        refine lv_aload_n (pc := 65) hx hb dX7_giveup_65 rfl (lv_at hl 0 rfl) ?_
        obtain ⟨y8, h1, e9, hf⟩ := jB_some hf
        refine j_callV (pc := 66) (st1 := [.int y8, .int x3]) (As := []) (rest := [.int x3]) cx hS rfl hl.1 hm (metX7_wholeNow l _ _ _ _ _ (hth.at hS) e9) (jle hf) (hth.at hS) rfl (lw_V q2075 q2077 qs90 q123 q2078) pdX7_wholeNow rfl rfl (Nat.le_of_ble_eq_true rfl) ⟨Nat.le_of_ble_eq_true rfl, Nat.le_of_ble_eq_true rfl⟩ dX7_giveup_66 rfl (fun H locs cells slots hS => ?_)
        refine lv_iconst (pc := 69) (v := (-1)) hx hb dX7_giveup_69 rfl ?_
        refine lv_ixor (pc := 70) hx hb dX7_giveup_70 ?_
        refine lv_iand (pc := 71) hx hb dX7_giveup_71 ?_
        obtain ⟨y9, h1, e9, hf⟩ := jB_some hf
        refine j_callS (pc := 72) (st1 := [.int y9]) (As := [.int (x3 &&& (y8 ^^^ (-1)))]) (rest := []) cx hS rfl hl.1 hm (metX7_bits l _ _ _ _ _ e9) (jle hf) (lw_S q2087 q2088 q123 q2089) pdX7_bits rfl rfl (Nat.le_of_ble_eq_true rfl) ⟨Nat.le_of_ble_eq_true rfl, Nat.le_of_ble_eq_true rfl⟩ dX7_giveup_72 rfl (fun H locs cells slots hS => ?_)
        refine lv_istore (pc := 75) (i := 5) (lv' := [(5, .int y9), (0, .ref a0), (1, .int x1), (2, .int x2), (3, .int x3), (4, .int x4)]) hx hb dX7_giveup_75 hl (Nat.le_of_ble_eq_true rfl) rfl (fun ls hl => ?_)
        refine lv_aload_n (pc := 77) hx hb dX7_giveup_77 rfl (lv_at hl 1 rfl) ?_
        refine j_gR (pc := 78) cx hS hf fd_WornSkinModel_before q1734 dX7_giveup_78 (fun y10 hf => ?_)
        refine lv_iconst (pc := 81) (v := 0) hx hb dX7_giveup_81 rfl ?_
        refine lv_aload_n (pc := 82) hx hb dX7_giveup_82 rfl (lv_at hl 1 rfl) ?_
        refine j_gR (pc := 83) cx hS hf fd_WornSkinModel_s q1732 dX7_giveup_83 (fun y11 hf => ?_)
        refine lv_iconst (pc := 86) (v := 0) hx hb dX7_giveup_86 rfl ?_
        obtain ⟨_, h1, e9, hf⟩ := jB_some hf
        refine j_callS (pc := 87) (st1 := []) (As := [va_rf y10, .int 0, va_rf y11, .int 0]) (rest := []) cx hS rfl hl.1 hm (metX7_copies l _ _ _ _ _ _ _ _ e9) (jle hf) (lw_S q2125 q2126 q123 q2127) pdX7_copies rfl rfl (Nat.le_of_ble_eq_true rfl) ⟨Nat.le_of_ble_eq_true rfl, Nat.le_of_ble_eq_true rfl⟩ dX7_giveup_87 rfl (fun H locs cells slots hS => ?_)
        refine lv_iload (pc := 90) hx hb dX7_giveup_90 (lv_at hl 0 rfl) ?_
        refine lv_iload_n (pc := 92) hx hb dX7_giveup_92 rfl (lv_at hl 3 rfl) ?_
        refine lv_icmp_lt (pc := 93) (tgt := 99) hx hb dX7_giveup_93 (by decide) (fun hc => ?_) (fun hc => ?_)
        · have hf := jI_t hf hc
          refine lv_iload (pc := 99) hx hb dX7_giveup_99 (lv_at hl 5 rfl) ?_
          refine lv_istore_n (pc := 101) (i := 1) (lv' := [(1, .int x4), (5, .int y9), (0, .ref a0), (2, .int x2), (3, .int x3), (4, .int x4)]) hx hb dX7_giveup_101 rfl hl (Nat.le_of_ble_eq_true rfl) rfl (fun ls hl => ?_)
          refine lv_iload (pc := 102) hx hb dX7_giveup_102 (lv_at hl 1 rfl) ?_
          refine lv_istore_n (pc := 104) (i := 2) (lv' := [(2, .int y9), (1, .int x4), (5, .int y9), (0, .ref a0), (3, .int x3), (4, .int x4)]) hx hb dX7_giveup_104 rfl hl (Nat.le_of_ble_eq_true rfl) rfl (fun ls hl => ?_)
          exact wX7_giveup_105 cx e1 e2 a0 hth ih _ _ _ _ _ _ _ _ _ _ hf hS (lv_sub hl [3, 1, 0, 4, 5] rfl)
        · have hf := jI_f hf hc
          refine lv_goto (pc := 96) (tgt := 105) hx hb dX7_giveup_96 (by decide) ?_
          exact wX7_giveup_105 cx e1 e2 a0 hth ih _ _ _ _ _ _ _ _ _ _ hf hS (lv_sub hl [1, 2, 3, 4, 5] rfl)
      · have hf := jI_t hf hc
        refine lv_goto (pc := 40) (tgt := 105) hx hb dX7_giveup_40 (by decide) ?_
        exact wX7_giveup_105 cx e1 e2 a0 hth ih _ _ _ _ _ _ _ _ _ _ hf hS hl
theorem wX7_giveup_0 {N : Nat} {r : Int32} (cx : jCx p s m args meth c cX7_giveup "WornSkinModel" 6 (Option.some Jvm.ClassFile.FieldType.int) D dA H0 hs.2.2.2.2) (e1 : h'.2.2.1 = hs.2.2.1 + mc) (e2 : h'.2.2.2.1 = hs.2.2.2.1 + ms) (a0 : Nat) (hth : jTh hs a0 7) : ∀ (h : jH) (H : Heap) (locs : List Loc) (cells slots : Nat) (ls : Array Slot), (fX7_giveup N a0).1 h = some (r, h') → jS D dA H0 hs h H locs cells slots → lv_has ls 6 [(0, .ref a0)] → W p l e { frames := 7, cells := mc, slots := ms, locals := 167 } s m args below meth c H locs cells slots (jQ D dA H0 below s (.returned (some (.int r))) h' mc ms) (F0 m 0 ls []) := by
  have hx := cx.1
  have hb := cx.2.1
  have hown := cx.2.2.2.1
  have hts := cx.2.2.2.2.1
  have hm : h'.2.2.1 ≤ hs.2.2.1 + mc ∧ h'.2.2.2.1 ≤ hs.2.2.2.1 + ms := ⟨Nat.le_of_eq e1, Nat.le_of_eq e2⟩
  intro h H locs cells slots ls hf hS hl
  unfold fX7_giveup at hf
  refine lv_aload_n (pc := 0) hx hb dX7_giveup_0 rfl (lv_at hl 0 rfl) ?_
  refine lv_iconst (pc := 1) (v := 0) hx hb dX7_giveup_1 rfl ?_
  refine j_pI (pc := 2) cx hS hf fp_WornSkinModel_thrown (Or.inl rfl) q1684 dX7_giveup_2 (fun h H locs hf hS => ?_)
  refine lv_iconst (pc := 5) (v := (-1)) hx hb dX7_giveup_5 rfl ?_
  refine lv_istore_n (pc := 6) (i := 1) (lv' := [(1, .int (-1)), (0, .ref a0)]) hx hb dX7_giveup_6 rfl hl (Nat.le_of_ble_eq_true rfl) rfl (fun ls hl => ?_)
  refine lv_bipush (pc := 7) (v := 7) hx hb dX7_giveup_7 rfl ?_
  refine lv_istore_n (pc := 9) (i := 2) (lv' := [(2, .int 7), (1, .int (-1)), (0, .ref a0)]) hx hb dX7_giveup_9 rfl hl (Nat.le_of_ble_eq_true rfl) rfl (fun ls hl => ?_)
  refine lv_aload_n (pc := 10) hx hb dX7_giveup_10 rfl (lv_at hl 2 rfl) ?_
  obtain ⟨y1, h1, e9, hf⟩ := jB_some hf
  refine j_callV (pc := 11) (st1 := [.int y1]) (As := []) (rest := []) cx hS rfl hl.1 hm (metX7_wholeNow l _ _ _ _ _ (hth.at hS) e9) (jle hf) (hth.at hS) rfl (lw_V q2075 q2077 qs90 q123 q2078) pdX7_wholeNow rfl rfl (Nat.le_of_ble_eq_true rfl) ⟨Nat.le_of_ble_eq_true rfl, Nat.le_of_ble_eq_true rfl⟩ dX7_giveup_11 rfl (fun H locs cells slots hS => ?_)
  refine lv_istore_n (pc := 14) (i := 3) (lv' := [(3, .int y1), (2, .int 7), (1, .int (-1)), (0, .ref a0)]) hx hb dX7_giveup_14 rfl hl (Nat.le_of_ble_eq_true rfl) rfl (fun ls hl => ?_)
  refine lv_iconst (pc := 15) (v := 0) hx hb dX7_giveup_15 rfl ?_
  refine lv_istore (pc := 16) (i := 4) (lv' := [(4, .int 0), (3, .int y1), (2, .int 7), (1, .int (-1)), (0, .ref a0)]) hx hb dX7_giveup_16 hl (Nat.le_of_ble_eq_true rfl) rfl (fun ls hl => ?_)
  exact wX7_giveup_18 cx e1 e2 a0 hth N _ _ _ _ _ _ _ _ _ _ hf hS (lv_sub hl [4, 3, 2, 1, 0] rfl)
theorem metX7_giveup (l : Launch) (N : Nat) (a0 : Nat) (h h' : jH) (r : Int32) (hth : jcd h a0 = some 7) (hf : (fX7_giveup N a0).1 h = some (r, h')) : jMet l yX7_giveup (ws_ yX7_giveup cX7_giveup 6 (Option.some Jvm.ClassFile.FieldType.int)) (7) (167) [.ref a0] h h' (.returned (some (.int r))) := by
  refine jStart rfl (jle hf) (Nat.le_of_ble_eq_true rfl) ?_
  intro p e s m below meth c D dA H0 mc ms ls cx hnm e1 e2 hS hl
  have hth := jTh.mk hS hth
  exact wX7_giveup_0 cx e1 e2 a0 hth  _ _ _ _ _ _ hf hS hl
def fX7_see_44 (a0 : Nat) : jM Int32 := jRn .boolean 0
def fX7_see (a0 : Nat) (x1 : Int32) (x2 : Int32) (x3 : Int32) (x4 : Int32) : jM Int32 := jB (jpI [7] 0 (some a0) 0) fun _ => jB (fX7_isSkin a0 x1) fun y1 => if y1 = 0 then (fX7_see_44 a0) else (jB (fX7_within x2 1 9) fun y2 => if y2 = 0 then (fX7_see_44 a0) else (jB (fX7_within x3 0 9) fun y3 => if y3 = 0 then (fX7_see_44 a0) else (jB (jgR [7] 43 (some a0)) fun y4 => jB (jaI 0 y4 0) fun y5 => if y5 = 8 then (fX7_see_44 a0) else (jB (jgR [7] 44 (some a0)) fun y6 => jB (jgR [7] 43 (some a0)) fun y7 => jB (jaI 0 y7 0) fun y8 => jB (jsI 0 y6 y8 x1) fun _ => jB (jgR [7] 45 (some a0)) fun y9 => jB (jgR [7] 43 (some a0)) fun y10 => jB (jaI 0 y10 0) fun y11 => jB (jsI 0 y9 y11 x2) fun _ => jB (jgR [7] 46 (some a0)) fun y12 => jB (jgR [7] 43 (some a0)) fun y13 => jB (jaI 0 y13 0) fun y14 => jB (jsI 0 y12 y14 x3) fun _ => jB (jgR [7] 47 (some a0)) fun y15 => jB (jgR [7] 43 (some a0)) fun y16 => jB (jaI 0 y16 0) fun y17 => jB (jsZ 2 y15 y17 x4) fun _ => jB (jgR [7] 43 (some a0)) fun y18 => jB (jaI 0 y18 0) fun y19 => jB (jsI 0 y18 0 (y19 + 1)) fun _ => jRn .boolean 1))))
theorem wX7_see_44 {r : Int32} (cx : jCx p s m args meth c cX7_see "WornSkinModel" 5 (Option.some Jvm.ClassFile.FieldType.boolean) D dA H0 hs.2.2.2.2) (e1 : h'.2.2.1 = hs.2.2.1 + mc) (e2 : h'.2.2.2.1 = hs.2.2.2.1 + ms) (a0 : Nat) (hth : jTh hs a0 7) : ∀ (h : jH) (H : Heap) (locs : List Loc) (cells slots : Nat) (ls : Array Slot), (fX7_see_44 a0).1 h = some (r, h') → jS D dA H0 hs h H locs cells slots → lv_has ls 5 [(0, .ref a0)] → W p l e { frames := 1, cells := mc, slots := ms, locals := 22 } s m args below meth c H locs cells slots (jQ D dA H0 below s (.returned (some (.int r))) h' mc ms) (F0 m 44 ls []) := by
  have hx := cx.1
  have hb := cx.2.1
  have hown := cx.2.2.2.1
  have hts := cx.2.2.2.2.1
  have hm : h'.2.2.1 ≤ hs.2.2.1 + mc ∧ h'.2.2.2.1 ≤ hs.2.2.2.1 + ms := ⟨Nat.le_of_eq e1, Nat.le_of_eq e2⟩
  intro h H locs cells slots ls hf hS hl
  unfold fX7_see_44 at hf
  refine lv_iconst (pc := 44) (v := 0) hx hb dX7_see_44 rfl ?_
  exact j_zret (pc := 45) cx (Or.inl rfl) hS hf e1 e2 dX7_see_45
theorem wX7_see_0 {r : Int32} (cx : jCx p s m args meth c cX7_see "WornSkinModel" 5 (Option.some Jvm.ClassFile.FieldType.boolean) D dA H0 hs.2.2.2.2) (e1 : h'.2.2.1 = hs.2.2.1 + mc) (e2 : h'.2.2.2.1 = hs.2.2.2.1 + ms) (a0 : Nat) (hth : jTh hs a0 7) : ∀ (x1 : Int32) (x2 : Int32) (x3 : Int32) (x4 : Int32), ∀ (h : jH) (H : Heap) (locs : List Loc) (cells slots : Nat) (ls : Array Slot), (fX7_see a0 x1 x2 x3 x4).1 h = some (r, h') → jS D dA H0 hs h H locs cells slots → lv_has ls 5 [(0, .ref a0), (1, .int x1), (2, .int x2), (3, .int x3), (4, .int x4)] → W p l e { frames := 1, cells := mc, slots := ms, locals := 22 } s m args below meth c H locs cells slots (jQ D dA H0 below s (.returned (some (.int r))) h' mc ms) (F0 m 0 ls []) := by
  have hx := cx.1
  have hb := cx.2.1
  have hown := cx.2.2.2.1
  have hts := cx.2.2.2.2.1
  have hm : h'.2.2.1 ≤ hs.2.2.1 + mc ∧ h'.2.2.2.1 ≤ hs.2.2.2.1 + ms := ⟨Nat.le_of_eq e1, Nat.le_of_eq e2⟩
  intro x1 x2 x3 x4 h H locs cells slots ls hf hS hl
  unfold fX7_see at hf
  refine lv_aload_n (pc := 0) hx hb dX7_see_0 rfl (lv_at hl 0 rfl) ?_
  refine lv_iconst (pc := 1) (v := 0) hx hb dX7_see_1 rfl ?_
  refine j_pI (pc := 2) cx hS hf fp_WornSkinModel_thrown (Or.inl rfl) q1684 dX7_see_2 (fun h H locs hf hS => ?_)
  refine lv_aload_n (pc := 5) hx hb dX7_see_5 rfl (lv_at hl 0 rfl) ?_
  refine lv_iload_n (pc := 6) hx hb dX7_see_6 rfl (lv_at hl 1 rfl) ?_
  obtain ⟨y1, h1, e9, hf⟩ := jB_some hf
  refine j_callV (pc := 7) (st1 := [.int y1]) (As := [.int x1]) (rest := []) cx hS rfl hl.1 hm (metX7_isSkin l _ _ _ _ _ (hth.at hS) e9) (jle hf) (hth.at hS) rfl (lw_V q2031 q2033 qs80 q123 q2034) pdX7_isSkin rfl rfl (Nat.le_of_ble_eq_true rfl) ⟨Nat.le_of_ble_eq_true rfl, Nat.le_of_ble_eq_true rfl⟩ dX7_see_7 rfl (fun H locs cells slots hS => ?_)
  refine lv_if_eq (pc := 10) (tgt := 44) hx hb dX7_see_10 (by decide) (fun hc => ?_) (fun hc => ?_)
  · have hf := jI_t hf hc
    exact wX7_see_44 cx e1 e2 a0 hth _ _ _ _ _ _ hf hS (lv_sub hl [0] rfl)
  · have hf := jI_f hf hc
    refine lv_iload_n (pc := 13) hx hb dX7_see_13 rfl (lv_at hl 2 rfl) ?_
    refine lv_iconst (pc := 14) (v := 1) hx hb dX7_see_14 rfl ?_
    refine lv_bipush (pc := 15) (v := 9) hx hb dX7_see_15 rfl ?_
    obtain ⟨y2, h1, e9, hf⟩ := jB_some hf
    refine j_callS (pc := 17) (st1 := [.int y2]) (As := [.int x2, .int 1, .int 9]) (rest := []) cx hS rfl hl.1 hm (metX7_within l _ _ _ _ _ _ e9) (jle hf) (lw_S q1950 q1951 q123 q1952) pdX7_within rfl rfl (Nat.le_of_ble_eq_true rfl) ⟨Nat.le_of_ble_eq_true rfl, Nat.le_of_ble_eq_true rfl⟩ dX7_see_17 rfl (fun H locs cells slots hS => ?_)
    refine lv_if_eq (pc := 20) (tgt := 44) hx hb dX7_see_20 (by decide) (fun hc => ?_) (fun hc => ?_)
    · have hf := jI_t hf hc
      exact wX7_see_44 cx e1 e2 a0 hth _ _ _ _ _ _ hf hS (lv_sub hl [0] rfl)
    · have hf := jI_f hf hc
      refine lv_iload_n (pc := 23) hx hb dX7_see_23 rfl (lv_at hl 3 rfl) ?_
      refine lv_iconst (pc := 24) (v := 0) hx hb dX7_see_24 rfl ?_
      refine lv_bipush (pc := 25) (v := 9) hx hb dX7_see_25 rfl ?_
      obtain ⟨y3, h1, e9, hf⟩ := jB_some hf
      refine j_callS (pc := 27) (st1 := [.int y3]) (As := [.int x3, .int 0, .int 9]) (rest := []) cx hS rfl hl.1 hm (metX7_within l _ _ _ _ _ _ e9) (jle hf) (lw_S q1950 q1951 q123 q1952) pdX7_within rfl rfl (Nat.le_of_ble_eq_true rfl) ⟨Nat.le_of_ble_eq_true rfl, Nat.le_of_ble_eq_true rfl⟩ dX7_see_27 rfl (fun H locs cells slots hS => ?_)
      refine lv_if_eq (pc := 30) (tgt := 44) hx hb dX7_see_30 (by decide) (fun hc => ?_) (fun hc => ?_)
      · have hf := jI_t hf hc
        exact wX7_see_44 cx e1 e2 a0 hth _ _ _ _ _ _ hf hS (lv_sub hl [0] rfl)
      · have hf := jI_f hf hc
        refine lv_aload_n (pc := 33) hx hb dX7_see_33 rfl (lv_at hl 0 rfl) ?_
        refine j_gR (pc := 34) cx hS hf fd_WornSkinModel_seens q1727 dX7_see_34 (fun y4 hf => ?_)
        refine lv_iconst (pc := 37) (v := 0) hx hb dX7_see_37 rfl ?_
        refine j_aI (pc := 38) cx hS hf rfl dX7_see_38 (fun y5 hf => ?_)
        refine lv_bipush (pc := 39) (v := 8) hx hb dX7_see_39 rfl ?_
        refine lv_icmp_ne (pc := 41) (tgt := 46) hx hb dX7_see_41 (by decide) (fun hc => ?_) (fun hc => ?_)
        · have hf := jI_f hf hc
          refine lv_aload_n (pc := 46) hx hb dX7_see_46 rfl (lv_at hl 0 rfl) ?_
          refine j_gR (pc := 47) cx hS hf fd_WornSkinModel_seenSkin q1728 dX7_see_47 (fun y6 hf => ?_)
          refine lv_aload_n (pc := 50) hx hb dX7_see_50 rfl (lv_at hl 0 rfl) ?_
          refine j_gR (pc := 51) cx hS hf fd_WornSkinModel_seens q1727 dX7_see_51 (fun y7 hf => ?_)
          refine lv_iconst (pc := 54) (v := 0) hx hb dX7_see_54 rfl ?_
          refine j_aI (pc := 55) cx hS hf rfl dX7_see_55 (fun y8 hf => ?_)
          refine lv_iload_n (pc := 56) hx hb dX7_see_56 rfl (lv_at hl 1 rfl) ?_
          refine j_sI (pc := 57) cx hS hf rfl dX7_see_57 (fun h H locs hf hS => ?_)
          refine lv_aload_n (pc := 58) hx hb dX7_see_58 rfl (lv_at hl 0 rfl) ?_
          refine j_gR (pc := 59) cx hS hf fd_WornSkinModel_seenDeep q1729 dX7_see_59 (fun y9 hf => ?_)
          refine lv_aload_n (pc := 62) hx hb dX7_see_62 rfl (lv_at hl 0 rfl) ?_
          refine j_gR (pc := 63) cx hS hf fd_WornSkinModel_seens q1727 dX7_see_63 (fun y10 hf => ?_)
          refine lv_iconst (pc := 66) (v := 0) hx hb dX7_see_66 rfl ?_
          refine j_aI (pc := 67) cx hS hf rfl dX7_see_67 (fun y11 hf => ?_)
          refine lv_iload_n (pc := 68) hx hb dX7_see_68 rfl (lv_at hl 2 rfl) ?_
          refine j_sI (pc := 69) cx hS hf rfl dX7_see_69 (fun h H locs hf hS => ?_)
          refine lv_aload_n (pc := 70) hx hb dX7_see_70 rfl (lv_at hl 0 rfl) ?_
          refine j_gR (pc := 71) cx hS hf fd_WornSkinModel_seenDamp q1730 dX7_see_71 (fun y12 hf => ?_)
          refine lv_aload_n (pc := 74) hx hb dX7_see_74 rfl (lv_at hl 0 rfl) ?_
          refine j_gR (pc := 75) cx hS hf fd_WornSkinModel_seens q1727 dX7_see_75 (fun y13 hf => ?_)
          refine lv_iconst (pc := 78) (v := 0) hx hb dX7_see_78 rfl ?_
          refine j_aI (pc := 79) cx hS hf rfl dX7_see_79 (fun y14 hf => ?_)
          refine lv_iload_n (pc := 80) hx hb dX7_see_80 rfl (lv_at hl 3 rfl) ?_
          refine j_sI (pc := 81) cx hS hf rfl dX7_see_81 (fun h H locs hf hS => ?_)
          refine lv_aload_n (pc := 82) hx hb dX7_see_82 rfl (lv_at hl 0 rfl) ?_
          refine j_gR (pc := 83) cx hS hf fd_WornSkinModel_seenShows q1731 dX7_see_83 (fun y15 hf => ?_)
          refine lv_aload_n (pc := 86) hx hb dX7_see_86 rfl (lv_at hl 0 rfl) ?_
          refine j_gR (pc := 87) cx hS hf fd_WornSkinModel_seens q1727 dX7_see_87 (fun y16 hf => ?_)
          refine lv_iconst (pc := 90) (v := 0) hx hb dX7_see_90 rfl ?_
          refine j_aI (pc := 91) cx hS hf rfl dX7_see_91 (fun y17 hf => ?_)
          refine lv_iload (pc := 92) hx hb dX7_see_92 (lv_at hl 4 rfl) ?_
          refine j_sZ (pc := 94) cx hS hf rfl dX7_see_94 (fun h H locs hf hS => ?_)
          refine lv_aload_n (pc := 95) hx hb dX7_see_95 rfl (lv_at hl 0 rfl) ?_
          refine j_gR (pc := 96) cx hS hf fd_WornSkinModel_seens q1727 dX7_see_96 (fun y18 hf => ?_)
          refine lv_iconst (pc := 99) (v := 0) hx hb dX7_see_99 rfl ?_
          refine lv_dup2_11 (pc := 100) hx hb dX7_see_100 rfl (jrfc _) ?_
          refine j_aI (pc := 101) cx hS hf rfl dX7_see_101 (fun y19 hf => ?_)
          refine lv_iconst (pc := 102) (v := 1) hx hb dX7_see_102 rfl ?_
          refine lv_iadd (pc := 103) hx hb dX7_see_103 ?_
          refine j_sI (pc := 104) cx hS hf rfl dX7_see_104 (fun h H locs hf hS => ?_)
          refine lv_iconst (pc := 105) (v := 1) hx hb dX7_see_105 rfl ?_
          exact j_zret (pc := 106) cx (Or.inl rfl) hS hf e1 e2 dX7_see_106
        · have hf := jI_t hf hc
          exact wX7_see_44 cx e1 e2 a0 hth _ _ _ _ _ _ hf hS (lv_sub hl [0] rfl)
theorem metX7_see (l : Launch) (a0 : Nat) (x1 : Int32) (x2 : Int32) (x3 : Int32) (x4 : Int32) (h h' : jH) (r : Int32) (hth : jcd h a0 = some 7) (hf : (fX7_see a0 x1 x2 x3 x4).1 h = some (r, h')) : jMet l yX7_see (ws_ yX7_see cX7_see 5 (Option.some Jvm.ClassFile.FieldType.boolean)) (1) (22) [.ref a0, .int x1, .int x2, .int x3, .int x4] h h' (.returned (some (.int r))) := by
  refine jStart rfl (jle hf) (Nat.le_of_ble_eq_true rfl) ?_
  intro p e s m below meth c D dA H0 mc ms ls cx hnm e1 e2 hS hl
  have hth := jTh.mk hS hth
  exact wX7_see_0 cx e1 e2 a0 hth _ _ _ _ _ _ _ _ _ _ hf hS hl
def fX7_who_114 (N : Nat) (a0 : Nat) (x1 : Int32) : jM Int32 := jR x1
def fX7_who_106 (N : Nat) (k9 : Int32 → Int32 → jM Int32) (a0 : Nat) (x2 : Int32) (v0 : Int32) (v1 : Int32) : jM Int32 := k9 (v0 ||| v1) (x2 + 1)
def fX7_who_94 (N : Nat) (k9 : Int32 → Int32 → jM Int32) (a0 : Nat) (x1 : Int32) (x2 : Int32) (x3 : Int32) : jM Int32 := if x3 = 0 then (fX7_who_106 N k9 a0 x2 x1 0) else (fX7_who_106 N k9 a0 x2 x1 (1 <<< (x2 &&& 31)))
def fX7_who_87 (N : Nat) (k24 : Int32 → Int32 → Int32 → Int32 → jM Int32) (a0 : Nat) (x1 : Int32) (x2 : Int32) (x4 : Int32) (v0 : Int32) : jM Int32 := k24 x1 x2 v0 (x4 + 1)
def fX7_who_86 (N : Nat) (k24 : Int32 → Int32 → Int32 → Int32 → jM Int32) (a0 : Nat) (x1 : Int32) (x2 : Int32) (x4 : Int32) : jM Int32 := fX7_who_87 N k24 a0 x1 x2 x4 0
def fX7_who_24 (N : Nat) (k9 : Int32 → Int32 → jM Int32) (a0 : Nat) : Nat → Int32 → Int32 → Int32 → Int32 → jM Int32
  | 0, _, _, _, _ => jE
  | n + 1, x1, x2, x3, x4 => jB (jgR [7] 43 (some a0)) fun y1 => jB (jaI 0 y1 0) fun y2 => if y2 ≤ x4 then (fX7_who_94 N k9 a0 x1 x2 x3) else (if x3 = 0 then (fX7_who_86 N (fX7_who_24 N k9 a0 n) a0 x1 x2 x4) else (jB (jgR [7] 45 (some a0)) fun y3 => jB (jaI 0 y3 x4) fun y4 => jB (jgR [7] 48 (some a0)) fun y5 => jB (jgR [7] 44 (some a0)) fun y6 => jB (jaI 0 y6 x4) fun y7 => jB (jaI 0 y5 (1 + y7)) fun y8 => jB (jgR [7] 46 (some a0)) fun y9 => jB (jaI 0 y9 x4) fun y10 => jB (fX7_showsBy N a0 x2 y4 y8 y10) fun y11 => jB (jgR [7] 47 (some a0)) fun y12 => jB (jaI 2 y12 x4) fun y13 => if y11 = y13 then (fX7_who_87 N (fX7_who_24 N k9 a0 n) a0 x1 x2 x4 1) else (fX7_who_86 N (fX7_who_24 N k9 a0 n) a0 x1 x2 x4)))
def fX7_who_9 (N : Nat) (a0 : Nat) : Nat → Int32 → Int32 → jM Int32
  | 0, _, _ => jE
  | n + 1, x1, x2 => jB (jgR [7] 10 (some a0)) fun y1 => jB (jaI 0 y1 1) fun y2 => if y2 ≤ x2 then (fX7_who_114 N a0 x1) else (fX7_who_24 N (fX7_who_9 N a0 n) a0 N x1 x2 1 0)
def fX7_who (N : Nat) (a0 : Nat) : jM Int32 := jB (jpI [7] 0 (some a0) 0) fun _ => fX7_who_9 N a0 N 0 0
theorem wX7_who_114 {N : Nat} {r : Int32} (cx : jCx p s m args meth c cX7_who "WornSkinModel" 5 (Option.some Jvm.ClassFile.FieldType.int) D dA H0 hs.2.2.2.2) (e1 : h'.2.2.1 = hs.2.2.1 + mc) (e2 : h'.2.2.2.1 = hs.2.2.2.1 + ms) (a0 : Nat) (hth : jTh hs a0 7) : ∀ (x1 : Int32), ∀ (h : jH) (H : Heap) (locs : List Loc) (cells slots : Nat) (ls : Array Slot), (fX7_who_114 N a0 x1).1 h = some (r, h') → jS D dA H0 hs h H locs cells slots → lv_has ls 5 [(0, .ref a0), (1, .int x1)] → W p l e { frames := 4, cells := mc, slots := ms, locals := 94 } s m args below meth c H locs cells slots (jQ D dA H0 below s (.returned (some (.int r))) h' mc ms) (F0 m 114 ls []) := by
  have hx := cx.1
  have hb := cx.2.1
  have hown := cx.2.2.2.1
  have hts := cx.2.2.2.2.1
  have hm : h'.2.2.1 ≤ hs.2.2.1 + mc ∧ h'.2.2.2.1 ≤ hs.2.2.2.1 + ms := ⟨Nat.le_of_eq e1, Nat.le_of_eq e2⟩
  intro x1 h H locs cells slots ls hf hS hl
  unfold fX7_who_114 at hf
  refine lv_iload_n (pc := 114) hx hb dX7_who_114 rfl (lv_at hl 1 rfl) ?_
  exact j_iret (pc := 115) cx hS hf e1 e2 dX7_who_115
theorem wX7_who_106 {N : Nat} {k9 : Int32 → Int32 → jM Int32} {r : Int32} (cx : jCx p s m args meth c cX7_who "WornSkinModel" 5 (Option.some Jvm.ClassFile.FieldType.int) D dA H0 hs.2.2.2.2) (e1 : h'.2.2.1 = hs.2.2.1 + mc) (e2 : h'.2.2.2.1 = hs.2.2.2.1 + ms) (a0 : Nat) (hth : jTh hs a0 7) (hk9 : ∀ (x1 : Int32) (x2 : Int32), ∀ (h : jH) (H : Heap) (locs : List Loc) (cells slots : Nat) (ls : Array Slot), (k9 x1 x2).1 h = some (r, h') → jS D dA H0 hs h H locs cells slots → lv_has ls 5 [(0, .ref a0), (1, .int x1), (2, .int x2)] → W p l e { frames := 4, cells := mc, slots := ms, locals := 94 } s m args below meth c H locs cells slots (jQ D dA H0 below s (.returned (some (.int r))) h' mc ms) (F0 m 9 ls [])) : ∀ (x2 : Int32) (v0 : Int32) (v1 : Int32), ∀ (h : jH) (H : Heap) (locs : List Loc) (cells slots : Nat) (ls : Array Slot), (fX7_who_106 N k9 a0 x2 v0 v1).1 h = some (r, h') → jS D dA H0 hs h H locs cells slots → lv_has ls 5 [(0, .ref a0), (2, .int x2)] → W p l e { frames := 4, cells := mc, slots := ms, locals := 94 } s m args below meth c H locs cells slots (jQ D dA H0 below s (.returned (some (.int r))) h' mc ms) (F0 m 106 ls [.int v1, .int v0]) := by
  have hx := cx.1
  have hb := cx.2.1
  have hown := cx.2.2.2.1
  have hts := cx.2.2.2.2.1
  have hm : h'.2.2.1 ≤ hs.2.2.1 + mc ∧ h'.2.2.2.1 ≤ hs.2.2.2.1 + ms := ⟨Nat.le_of_eq e1, Nat.le_of_eq e2⟩
  intro x2 v0 v1 h H locs cells slots ls hf hS hl
  unfold fX7_who_106 at hf
  refine lv_ior (pc := 106) hx hb dX7_who_106 ?_
  refine lv_istore_n (pc := 107) (i := 1) (lv' := [(1, .int (v0 ||| v1)), (0, .ref a0), (2, .int x2)]) hx hb dX7_who_107 rfl hl (Nat.le_of_ble_eq_true rfl) rfl (fun ls hl => ?_)
  refine lv_iinc (pc := 108) (v := (x2 + 1)) (lv' := [(2, .int (x2 + 1)), (1, .int (v0 ||| v1)), (0, .ref a0)]) hx hb dX7_who_108 hl (k := 2) rfl rfl (Nat.le_of_ble_eq_true rfl) rfl (fun ls hl => ?_)
  refine lv_goto (pc := 111) (tgt := 9) hx hb dX7_who_111 (by decide) ?_
  exact hk9 _ _ _ _ _ _ _ _ hf hS (lv_sub hl [2, 1, 0] rfl)
theorem wX7_who_94 {N : Nat} {k9 : Int32 → Int32 → jM Int32} {r : Int32} (cx : jCx p s m args meth c cX7_who "WornSkinModel" 5 (Option.some Jvm.ClassFile.FieldType.int) D dA H0 hs.2.2.2.2) (e1 : h'.2.2.1 = hs.2.2.1 + mc) (e2 : h'.2.2.2.1 = hs.2.2.2.1 + ms) (a0 : Nat) (hth : jTh hs a0 7) (hk9 : ∀ (x1 : Int32) (x2 : Int32), ∀ (h : jH) (H : Heap) (locs : List Loc) (cells slots : Nat) (ls : Array Slot), (k9 x1 x2).1 h = some (r, h') → jS D dA H0 hs h H locs cells slots → lv_has ls 5 [(0, .ref a0), (1, .int x1), (2, .int x2)] → W p l e { frames := 4, cells := mc, slots := ms, locals := 94 } s m args below meth c H locs cells slots (jQ D dA H0 below s (.returned (some (.int r))) h' mc ms) (F0 m 9 ls [])) : ∀ (x1 : Int32) (x2 : Int32) (x3 : Int32), ∀ (h : jH) (H : Heap) (locs : List Loc) (cells slots : Nat) (ls : Array Slot), (fX7_who_94 N k9 a0 x1 x2 x3).1 h = some (r, h') → jS D dA H0 hs h H locs cells slots → lv_has ls 5 [(0, .ref a0), (1, .int x1), (2, .int x2), (3, .int x3)] → W p l e { frames := 4, cells := mc, slots := ms, locals := 94 } s m args below meth c H locs cells slots (jQ D dA H0 below s (.returned (some (.int r))) h' mc ms) (F0 m 94 ls []) := by
  have hx := cx.1
  have hb := cx.2.1
  have hown := cx.2.2.2.1
  have hts := cx.2.2.2.2.1
  have hm : h'.2.2.1 ≤ hs.2.2.1 + mc ∧ h'.2.2.2.1 ≤ hs.2.2.2.1 + ms := ⟨Nat.le_of_eq e1, Nat.le_of_eq e2⟩
  intro x1 x2 x3 h H locs cells slots ls hf hS hl
  unfold fX7_who_94 at hf
  refine lv_iload_n (pc := 94) hx hb dX7_who_94 rfl (lv_at hl 1 rfl) ?_
  refine lv_iload_n (pc := 95) hx hb dX7_who_95 rfl (lv_at hl 3 rfl) ?_
  refine lv_if_eq (pc := 96) (tgt := 105) hx hb dX7_who_96 (by decide) (fun hc => ?_) (fun hc => ?_)
  · have hf := jI_t hf hc
    refine lv_iconst (pc := 105) (v := 0) hx hb dX7_who_105 rfl ?_
    exact wX7_who_106 cx e1 e2 a0 hth hk9 _ _ _ _ _ _ _ _ _ hf hS (lv_sub hl [0, 2] rfl)
  · have hf := jI_f hf hc
    refine lv_iconst (pc := 99) (v := 1) hx hb dX7_who_99 rfl ?_
    refine lv_iload_n (pc := 100) hx hb dX7_who_100 rfl (lv_at hl 2 rfl) ?_
    refine lv_ishl (pc := 101) hx hb dX7_who_101 ?_
    refine lv_goto (pc := 102) (tgt := 106) hx hb dX7_who_102 (by decide) ?_
    exact wX7_who_106 cx e1 e2 a0 hth hk9 _ _ _ _ _ _ _ _ _ hf hS (lv_sub hl [0, 2] rfl)
theorem wX7_who_87 {N : Nat} {k24 : Int32 → Int32 → Int32 → Int32 → jM Int32} {r : Int32} (cx : jCx p s m args meth c cX7_who "WornSkinModel" 5 (Option.some Jvm.ClassFile.FieldType.int) D dA H0 hs.2.2.2.2) (e1 : h'.2.2.1 = hs.2.2.1 + mc) (e2 : h'.2.2.2.1 = hs.2.2.2.1 + ms) (a0 : Nat) (hth : jTh hs a0 7) (hk24 : ∀ (x1 : Int32) (x2 : Int32) (x3 : Int32) (x4 : Int32), ∀ (h : jH) (H : Heap) (locs : List Loc) (cells slots : Nat) (ls : Array Slot), (k24 x1 x2 x3 x4).1 h = some (r, h') → jS D dA H0 hs h H locs cells slots → lv_has ls 5 [(0, .ref a0), (1, .int x1), (2, .int x2), (3, .int x3), (4, .int x4)] → W p l e { frames := 4, cells := mc, slots := ms, locals := 94 } s m args below meth c H locs cells slots (jQ D dA H0 below s (.returned (some (.int r))) h' mc ms) (F0 m 24 ls [])) : ∀ (x1 : Int32) (x2 : Int32) (x4 : Int32) (v0 : Int32), ∀ (h : jH) (H : Heap) (locs : List Loc) (cells slots : Nat) (ls : Array Slot), (fX7_who_87 N k24 a0 x1 x2 x4 v0).1 h = some (r, h') → jS D dA H0 hs h H locs cells slots → lv_has ls 5 [(0, .ref a0), (1, .int x1), (2, .int x2), (4, .int x4)] → W p l e { frames := 4, cells := mc, slots := ms, locals := 94 } s m args below meth c H locs cells slots (jQ D dA H0 below s (.returned (some (.int r))) h' mc ms) (F0 m 87 ls [.int v0]) := by
  have hx := cx.1
  have hb := cx.2.1
  have hown := cx.2.2.2.1
  have hts := cx.2.2.2.2.1
  have hm : h'.2.2.1 ≤ hs.2.2.1 + mc ∧ h'.2.2.2.1 ≤ hs.2.2.2.1 + ms := ⟨Nat.le_of_eq e1, Nat.le_of_eq e2⟩
  intro x1 x2 x4 v0 h H locs cells slots ls hf hS hl
  unfold fX7_who_87 at hf
  refine lv_istore_n (pc := 87) (i := 3) (lv' := [(3, .int v0), (0, .ref a0), (1, .int x1), (2, .int x2), (4, .int x4)]) hx hb dX7_who_87 rfl hl (Nat.le_of_ble_eq_true rfl) rfl (fun ls hl => ?_)
  refine lv_iinc (pc := 88) (v := (x4 + 1)) (lv' := [(4, .int (x4 + 1)), (3, .int v0), (0, .ref a0), (1, .int x1), (2, .int x2)]) hx hb dX7_who_88 hl (k := 4) rfl rfl (Nat.le_of_ble_eq_true rfl) rfl (fun ls hl => ?_)
  refine lv_goto (pc := 91) (tgt := 24) hx hb dX7_who_91 (by decide) ?_
  exact hk24 _ _ _ _ _ _ _ _ _ _ hf hS (lv_sub hl [2, 3, 4, 1, 0] rfl)
theorem wX7_who_86 {N : Nat} {k24 : Int32 → Int32 → Int32 → Int32 → jM Int32} {r : Int32} (cx : jCx p s m args meth c cX7_who "WornSkinModel" 5 (Option.some Jvm.ClassFile.FieldType.int) D dA H0 hs.2.2.2.2) (e1 : h'.2.2.1 = hs.2.2.1 + mc) (e2 : h'.2.2.2.1 = hs.2.2.2.1 + ms) (a0 : Nat) (hth : jTh hs a0 7) (hk24 : ∀ (x1 : Int32) (x2 : Int32) (x3 : Int32) (x4 : Int32), ∀ (h : jH) (H : Heap) (locs : List Loc) (cells slots : Nat) (ls : Array Slot), (k24 x1 x2 x3 x4).1 h = some (r, h') → jS D dA H0 hs h H locs cells slots → lv_has ls 5 [(0, .ref a0), (1, .int x1), (2, .int x2), (3, .int x3), (4, .int x4)] → W p l e { frames := 4, cells := mc, slots := ms, locals := 94 } s m args below meth c H locs cells slots (jQ D dA H0 below s (.returned (some (.int r))) h' mc ms) (F0 m 24 ls [])) : ∀ (x1 : Int32) (x2 : Int32) (x4 : Int32), ∀ (h : jH) (H : Heap) (locs : List Loc) (cells slots : Nat) (ls : Array Slot), (fX7_who_86 N k24 a0 x1 x2 x4).1 h = some (r, h') → jS D dA H0 hs h H locs cells slots → lv_has ls 5 [(0, .ref a0), (1, .int x1), (2, .int x2), (4, .int x4)] → W p l e { frames := 4, cells := mc, slots := ms, locals := 94 } s m args below meth c H locs cells slots (jQ D dA H0 below s (.returned (some (.int r))) h' mc ms) (F0 m 86 ls []) := by
  have hx := cx.1
  have hb := cx.2.1
  have hown := cx.2.2.2.1
  have hts := cx.2.2.2.2.1
  have hm : h'.2.2.1 ≤ hs.2.2.1 + mc ∧ h'.2.2.2.1 ≤ hs.2.2.2.1 + ms := ⟨Nat.le_of_eq e1, Nat.le_of_eq e2⟩
  intro x1 x2 x4 h H locs cells slots ls hf hS hl
  unfold fX7_who_86 at hf
  refine lv_iconst (pc := 86) (v := 0) hx hb dX7_who_86 rfl ?_
  exact wX7_who_87 cx e1 e2 a0 hth hk24 _ _ _ _ _ _ _ _ _ _ hf hS hl
theorem wX7_who_24 {N : Nat} {k9 : Int32 → Int32 → jM Int32} {r : Int32} (cx : jCx p s m args meth c cX7_who "WornSkinModel" 5 (Option.some Jvm.ClassFile.FieldType.int) D dA H0 hs.2.2.2.2) (e1 : h'.2.2.1 = hs.2.2.1 + mc) (e2 : h'.2.2.2.1 = hs.2.2.2.1 + ms) (a0 : Nat) (hth : jTh hs a0 7) (hk9 : ∀ (x1 : Int32) (x2 : Int32), ∀ (h : jH) (H : Heap) (locs : List Loc) (cells slots : Nat) (ls : Array Slot), (k9 x1 x2).1 h = some (r, h') → jS D dA H0 hs h H locs cells slots → lv_has ls 5 [(0, .ref a0), (1, .int x1), (2, .int x2)] → W p l e { frames := 4, cells := mc, slots := ms, locals := 94 } s m args below meth c H locs cells slots (jQ D dA H0 below s (.returned (some (.int r))) h' mc ms) (F0 m 9 ls [])) : ∀ (n : Nat) (x1 : Int32) (x2 : Int32) (x3 : Int32) (x4 : Int32), ∀ (h : jH) (H : Heap) (locs : List Loc) (cells slots : Nat) (ls : Array Slot), (fX7_who_24 N k9 a0 n x1 x2 x3 x4).1 h = some (r, h') → jS D dA H0 hs h H locs cells slots → lv_has ls 5 [(0, .ref a0), (1, .int x1), (2, .int x2), (3, .int x3), (4, .int x4)] → W p l e { frames := 4, cells := mc, slots := ms, locals := 94 } s m args below meth c H locs cells slots (jQ D dA H0 below s (.returned (some (.int r))) h' mc ms) (F0 m 24 ls []) := by
  have hx := cx.1
  have hb := cx.2.1
  have hown := cx.2.2.2.1
  have hts := cx.2.2.2.2.1
  have hm : h'.2.2.1 ≤ hs.2.2.1 + mc ∧ h'.2.2.2.1 ≤ hs.2.2.2.1 + ms := ⟨Nat.le_of_eq e1, Nat.le_of_eq e2⟩
  intro n
  induction n with
  | zero =>
    intro x1 x2 x3 x4 h H locs cells slots ls hf hS hl
    exact jE_f hf
  | succ n ih =>
    intro x1 x2 x3 x4 h H locs cells slots ls hf hS hl
    unfold fX7_who_24 at hf
    refine lv_iload (pc := 24) hx hb dX7_who_24 (lv_at hl 4 rfl) ?_
    refine lv_aload_n (pc := 26) hx hb dX7_who_26 rfl (lv_at hl 0 rfl) ?_
    refine j_gR (pc := 27) cx hS hf fd_WornSkinModel_seens q1727 dX7_who_27 (fun y1 hf => ?_)
    refine lv_iconst (pc := 30) (v := 0) hx hb dX7_who_30 rfl ?_
    refine j_aI (pc := 31) cx hS hf rfl dX7_who_31 (fun y2 hf => ?_)
    refine lv_icmp_ge (pc := 32) (tgt := 94) hx hb dX7_who_32 (by decide) (fun hc => ?_) (fun hc => ?_)
    · have hf := jI_t hf hc
      exact wX7_who_94 cx e1 e2 a0 hth hk9 _ _ _ _ _ _ _ _ _ hf hS (lv_sub hl [0, 1, 2, 3] rfl)
    · have hf := jI_f hf hc
      refine lv_iload_n (pc := 35) hx hb dX7_who_35 rfl (lv_at hl 3 rfl) ?_
      refine lv_if_eq (pc := 36) (tgt := 86) hx hb dX7_who_36 (by decide) (fun hc => ?_) (fun hc => ?_)
      · have hf := jI_t hf hc
        exact wX7_who_86 cx e1 e2 a0 hth ih _ _ _ _ _ _ _ _ _ hf hS (lv_sub hl [0, 1, 2, 4] rfl)
      · have hf := jI_f hf hc
        refine lv_aload_n (pc := 39) hx hb dX7_who_39 rfl (lv_at hl 0 rfl) ?_
        refine lv_iload_n (pc := 40) hx hb dX7_who_40 rfl (lv_at hl 2 rfl) ?_
        refine lv_aload_n (pc := 41) hx hb dX7_who_41 rfl (lv_at hl 0 rfl) ?_
        refine j_gR (pc := 42) cx hS hf fd_WornSkinModel_seenDeep q1729 dX7_who_42 (fun y3 hf => ?_)
        refine lv_iload (pc := 45) hx hb dX7_who_45 (lv_at hl 4 rfl) ?_
        refine j_aI (pc := 47) cx hS hf rfl dX7_who_47 (fun y4 hf => ?_)
        refine lv_aload_n (pc := 48) hx hb dX7_who_48 rfl (lv_at hl 0 rfl) ?_
        refine j_gR (pc := 49) cx hS hf fd_WornSkinModel_s q1732 dX7_who_49 (fun y5 hf => ?_)
        refine lv_iconst (pc := 52) (v := 1) hx hb dX7_who_52 rfl ?_
        refine lv_aload_n (pc := 53) hx hb dX7_who_53 rfl (lv_at hl 0 rfl) ?_
        refine j_gR (pc := 54) cx hS hf fd_WornSkinModel_seenSkin q1728 dX7_who_54 (fun y6 hf => ?_)
        refine lv_iload (pc := 57) hx hb dX7_who_57 (lv_at hl 4 rfl) ?_
        refine j_aI (pc := 59) cx hS hf rfl dX7_who_59 (fun y7 hf => ?_)
        refine lv_iadd (pc := 60) hx hb dX7_who_60 ?_
        refine j_aI (pc := 61) cx hS hf rfl dX7_who_61 (fun y8 hf => ?_)
        refine lv_aload_n (pc := 62) hx hb dX7_who_62 rfl (lv_at hl 0 rfl) ?_
        refine j_gR (pc := 63) cx hS hf fd_WornSkinModel_seenDamp q1730 dX7_who_63 (fun y9 hf => ?_)
        refine lv_iload (pc := 66) hx hb dX7_who_66 (lv_at hl 4 rfl) ?_
        refine j_aI (pc := 68) cx hS hf rfl dX7_who_68 (fun y10 hf => ?_)
        obtain ⟨y11, h1, e9, hf⟩ := jB_some hf
        refine j_callV (pc := 69) (st1 := [.int y11]) (As := [.int x2, .int y4, .int y8, .int y10]) (rest := []) cx hS rfl hl.1 hm (metX7_showsBy l _ _ _ _ _ _ _ _ _ (hth.at hS) e9) (jle hf) (hth.at hS) rfl (lw_V q2047 q2049 qs84 q123 q2050) pdX7_showsBy rfl rfl (Nat.le_of_ble_eq_true rfl) ⟨Nat.le_of_ble_eq_true rfl, Nat.le_of_ble_eq_true rfl⟩ dX7_who_69 rfl (fun H locs cells slots hS => ?_)
        refine lv_aload_n (pc := 72) hx hb dX7_who_72 rfl (lv_at hl 0 rfl) ?_
        refine j_gR (pc := 73) cx hS hf fd_WornSkinModel_seenShows q1731 dX7_who_73 (fun y12 hf => ?_)
        refine lv_iload (pc := 76) hx hb dX7_who_76 (lv_at hl 4 rfl) ?_
        refine j_aZ (pc := 78) cx hS hf (Or.inl rfl) dX7_who_78 (fun y13 hf => ?_)
        refine lv_icmp_ne (pc := 79) (tgt := 86) hx hb dX7_who_79 (by decide) (fun hc => ?_) (fun hc => ?_)
        · have hf := jI_f hf hc
          exact wX7_who_86 cx e1 e2 a0 hth ih _ _ _ _ _ _ _ _ _ hf hS (lv_sub hl [0, 1, 2, 4] rfl)
        · have hf := jI_t hf hc
          refine lv_iconst (pc := 82) (v := 1) hx hb dX7_who_82 rfl ?_
          refine lv_goto (pc := 83) (tgt := 87) hx hb dX7_who_83 (by decide) ?_
          exact wX7_who_87 cx e1 e2 a0 hth ih _ _ _ _ _ _ _ _ _ _ hf hS (lv_sub hl [0, 1, 2, 4] rfl)
theorem wX7_who_9 {N : Nat} {r : Int32} (cx : jCx p s m args meth c cX7_who "WornSkinModel" 5 (Option.some Jvm.ClassFile.FieldType.int) D dA H0 hs.2.2.2.2) (e1 : h'.2.2.1 = hs.2.2.1 + mc) (e2 : h'.2.2.2.1 = hs.2.2.2.1 + ms) (a0 : Nat) (hth : jTh hs a0 7) : ∀ (n : Nat) (x1 : Int32) (x2 : Int32), ∀ (h : jH) (H : Heap) (locs : List Loc) (cells slots : Nat) (ls : Array Slot), (fX7_who_9 N a0 n x1 x2).1 h = some (r, h') → jS D dA H0 hs h H locs cells slots → lv_has ls 5 [(0, .ref a0), (1, .int x1), (2, .int x2)] → W p l e { frames := 4, cells := mc, slots := ms, locals := 94 } s m args below meth c H locs cells slots (jQ D dA H0 below s (.returned (some (.int r))) h' mc ms) (F0 m 9 ls []) := by
  have hx := cx.1
  have hb := cx.2.1
  have hown := cx.2.2.2.1
  have hts := cx.2.2.2.2.1
  have hm : h'.2.2.1 ≤ hs.2.2.1 + mc ∧ h'.2.2.2.1 ≤ hs.2.2.2.1 + ms := ⟨Nat.le_of_eq e1, Nat.le_of_eq e2⟩
  intro n
  induction n with
  | zero =>
    intro x1 x2 h H locs cells slots ls hf hS hl
    exact jE_f hf
  | succ n ih =>
    intro x1 x2 h H locs cells slots ls hf hS hl
    unfold fX7_who_9 at hf
    refine lv_iload_n (pc := 9) hx hb dX7_who_9 rfl (lv_at hl 2 rfl) ?_
    refine lv_aload_n (pc := 10) hx hb dX7_who_10 rfl (lv_at hl 0 rfl) ?_
    refine j_gR (pc := 11) cx hS hf fd_WornSkinModel_library q1694 dX7_who_11 (fun y1 hf => ?_)
    refine lv_iconst (pc := 14) (v := 1) hx hb dX7_who_14 rfl ?_
    refine j_aI (pc := 15) cx hS hf rfl dX7_who_15 (fun y2 hf => ?_)
    refine lv_icmp_ge (pc := 16) (tgt := 114) hx hb dX7_who_16 (by decide) (fun hc => ?_) (fun hc => ?_)
    · have hf := jI_t hf hc
      exact wX7_who_114 cx e1 e2 a0 hth _ _ _ _ _ _ _ hf hS (lv_sub hl [0, 1] rfl)
    · have hf := jI_f hf hc
      refine lv_iconst (pc := 19) (v := 1) hx hb dX7_who_19 rfl ?_
      refine lv_istore_n (pc := 20) (i := 3) (lv' := [(3, .int 1), (0, .ref a0), (1, .int x1), (2, .int x2)]) hx hb dX7_who_20 rfl hl (Nat.le_of_ble_eq_true rfl) rfl (fun ls hl => ?_)
      refine lv_iconst (pc := 21) (v := 0) hx hb dX7_who_21 rfl ?_
      refine lv_istore (pc := 22) (i := 4) (lv' := [(4, .int 0), (3, .int 1), (0, .ref a0), (1, .int x1), (2, .int x2)]) hx hb dX7_who_22 hl (Nat.le_of_ble_eq_true rfl) rfl (fun ls hl => ?_)
      exact wX7_who_24 cx e1 e2 a0 hth ih N _ _ _ _ _ _ _ _ _ _ hf hS (lv_sub hl [2, 3, 4, 1, 0] rfl)
theorem wX7_who_0 {N : Nat} {r : Int32} (cx : jCx p s m args meth c cX7_who "WornSkinModel" 5 (Option.some Jvm.ClassFile.FieldType.int) D dA H0 hs.2.2.2.2) (e1 : h'.2.2.1 = hs.2.2.1 + mc) (e2 : h'.2.2.2.1 = hs.2.2.2.1 + ms) (a0 : Nat) (hth : jTh hs a0 7) : ∀ (h : jH) (H : Heap) (locs : List Loc) (cells slots : Nat) (ls : Array Slot), (fX7_who N a0).1 h = some (r, h') → jS D dA H0 hs h H locs cells slots → lv_has ls 5 [(0, .ref a0)] → W p l e { frames := 4, cells := mc, slots := ms, locals := 94 } s m args below meth c H locs cells slots (jQ D dA H0 below s (.returned (some (.int r))) h' mc ms) (F0 m 0 ls []) := by
  have hx := cx.1
  have hb := cx.2.1
  have hown := cx.2.2.2.1
  have hts := cx.2.2.2.2.1
  have hm : h'.2.2.1 ≤ hs.2.2.1 + mc ∧ h'.2.2.2.1 ≤ hs.2.2.2.1 + ms := ⟨Nat.le_of_eq e1, Nat.le_of_eq e2⟩
  intro h H locs cells slots ls hf hS hl
  unfold fX7_who at hf
  refine lv_aload_n (pc := 0) hx hb dX7_who_0 rfl (lv_at hl 0 rfl) ?_
  refine lv_iconst (pc := 1) (v := 0) hx hb dX7_who_1 rfl ?_
  refine j_pI (pc := 2) cx hS hf fp_WornSkinModel_thrown (Or.inl rfl) q1684 dX7_who_2 (fun h H locs hf hS => ?_)
  refine lv_iconst (pc := 5) (v := 0) hx hb dX7_who_5 rfl ?_
  refine lv_istore_n (pc := 6) (i := 1) (lv' := [(1, .int 0), (0, .ref a0)]) hx hb dX7_who_6 rfl hl (Nat.le_of_ble_eq_true rfl) rfl (fun ls hl => ?_)
  refine lv_iconst (pc := 7) (v := 0) hx hb dX7_who_7 rfl ?_
  refine lv_istore_n (pc := 8) (i := 2) (lv' := [(2, .int 0), (1, .int 0), (0, .ref a0)]) hx hb dX7_who_8 rfl hl (Nat.le_of_ble_eq_true rfl) rfl (fun ls hl => ?_)
  exact wX7_who_9 cx e1 e2 a0 hth N _ _ _ _ _ _ _ _ hf hS (lv_sub hl [2, 1, 0] rfl)
theorem metX7_who (l : Launch) (N : Nat) (a0 : Nat) (h h' : jH) (r : Int32) (hth : jcd h a0 = some 7) (hf : (fX7_who N a0).1 h = some (r, h')) : jMet l yX7_who (ws_ yX7_who cX7_who 5 (Option.some Jvm.ClassFile.FieldType.int)) (4) (94) [.ref a0] h h' (.returned (some (.int r))) := by
  refine jStart rfl (jle hf) (Nat.le_of_ble_eq_true rfl) ?_
  intro p e s m below meth c D dA H0 mc ms ls cx hnm e1 e2 hS hl
  have hth := jTh.mk hS hth
  exact wX7_who_0 cx e1 e2 a0 hth  _ _ _ _ _ _ hf hS hl
def fX7_ask_145 (N : Nat) (a0 : Nat) (x4 : Int32) : jM Int32 := jR x4
def fX7_ask_139 (N : Nat) (k32 : Int32 → Int32 → Int32 → Int32 → Int32 → jM Int32) (a0 : Nat) (x1 : Int32) (x2 : Int32) (x3 : Int32) (x4 : Int32) (x5 : Int32) : jM Int32 := k32 x1 x2 x3 x4 (x5 + 1)
def fX7_ask_109 (N : Nat) (k32 : Int32 → Int32 → Int32 → Int32 → Int32 → jM Int32) (a0 : Nat) (x1 : Int32) (x2 : Int32) (x3 : Int32) (x4 : Int32) (x5 : Int32) (x6 : Int32) : jM Int32 := jB (fX7_bits N x2) fun y1 => if (jmax x6 (y1 - x6)) < x3 then (fX7_ask_139 N k32 a0 x1 x2 (jmax x6 (y1 - x6)) x5 x5) else (fX7_ask_139 N k32 a0 x1 x2 x3 x4 x5)
def fX7_ask_100 (N : Nat) (k45 : Int32 → Int32 → Int32 → Int32 → Int32 → Int32 → Int32 → jM Int32) (a0 : Nat) (x1 : Int32) (x2 : Int32) (x3 : Int32) (x4 : Int32) (x5 : Int32) (x7 : Int32) (v0 : Int32) (v1 : Int32) : jM Int32 := k45 x1 x2 x3 x4 x5 (v0 + v1) (x7 + 1)
def fX7_ask_99 (N : Nat) (k45 : Int32 → Int32 → Int32 → Int32 → Int32 → Int32 → Int32 → jM Int32) (a0 : Nat) (x1 : Int32) (x2 : Int32) (x3 : Int32) (x4 : Int32) (x5 : Int32) (x7 : Int32) (v0 : Int32) : jM Int32 := fX7_ask_100 N k45 a0 x1 x2 x3 x4 x5 x7 v0 0
def fX7_ask_45 (N : Nat) (k32 : Int32 → Int32 → Int32 → Int32 → Int32 → jM Int32) (a0 : Nat) : Nat → Int32 → Int32 → Int32 → Int32 → Int32 → Int32 → Int32 → jM Int32
  | 0, _, _, _, _, _, _, _ => jE
  | n + 1, x1, x2, x3, x4, x5, x6, x7 => jB (jgR [7] 10 (some a0)) fun y1 => jB (jaI 0 y1 1) fun y2 => if y2 ≤ x7 then (fX7_ask_109 N k32 a0 x1 x2 x3 x4 x5 x6) else (if ((x2 >>> (x7 &&& 31)) &&& 1) = 1 then (jB (jnz 10) fun _ => jB (jgR [7] 48 (some a0)) fun y3 => jB (jaI 0 y3 (1 + x1)) fun y4 => jB (jnz 10) fun _ => jB (fX7_showsBy N a0 x7 (x5 / 10) y4 (x5 - x5 / 10 * 10)) fun y5 => if y5 = 0 then (fX7_ask_99 N (fX7_ask_45 N k32 a0 n) a0 x1 x2 x3 x4 x5 x7 x6) else (fX7_ask_100 N (fX7_ask_45 N k32 a0 n) a0 x1 x2 x3 x4 x5 x7 x6 1)) else (fX7_ask_99 N (fX7_ask_45 N k32 a0 n) a0 x1 x2 x3 x4 x5 x7 x6))
def fX7_ask_32 (N : Nat) (a0 : Nat) : Nat → Int32 → Int32 → Int32 → Int32 → Int32 → jM Int32
  | 0, _, _, _, _, _ => jE
  | n + 1, x1, x2, x3, x4, x5 => if 100 ≤ x5 then (fX7_ask_145 N a0 x4) else (fX7_ask_45 N (fX7_ask_32 N a0 n) a0 N x1 x2 x3 x4 x5 0 0)
def fX7_ask (N : Nat) (a0 : Nat) (x1 : Int32) : jM Int32 := jB (jpI [7] 0 (some a0) 0) fun _ => jB (fX7_isSkin a0 x1) fun y1 => if y1 = 0 then (jR (-1)) else (jB (fX7_who N a0) fun y2 => jB (fX7_bits N y2) fun y3 => fX7_ask_32 N a0 N x1 y2 y3 (-1) 10)
theorem wX7_ask_145 {N : Nat} {r : Int32} (cx : jCx p s m args meth c cX7_ask "WornSkinModel" 8 (Option.some Jvm.ClassFile.FieldType.int) D dA H0 hs.2.2.2.2) (e1 : h'.2.2.1 = hs.2.2.1 + mc) (e2 : h'.2.2.2.1 = hs.2.2.2.1 + ms) (a0 : Nat) (hth : jTh hs a0 7) : ∀ (x4 : Int32), ∀ (h : jH) (H : Heap) (locs : List Loc) (cells slots : Nat) (ls : Array Slot), (fX7_ask_145 N a0 x4).1 h = some (r, h') → jS D dA H0 hs h H locs cells slots → lv_has ls 8 [(0, .ref a0), (4, .int x4)] → W p l e { frames := 5, cells := mc, slots := ms, locals := 118 } s m args below meth c H locs cells slots (jQ D dA H0 below s (.returned (some (.int r))) h' mc ms) (F0 m 145 ls []) := by
  have hx := cx.1
  have hb := cx.2.1
  have hown := cx.2.2.2.1
  have hts := cx.2.2.2.2.1
  have hm : h'.2.2.1 ≤ hs.2.2.1 + mc ∧ h'.2.2.2.1 ≤ hs.2.2.2.1 + ms := ⟨Nat.le_of_eq e1, Nat.le_of_eq e2⟩
  intro x4 h H locs cells slots ls hf hS hl
  unfold fX7_ask_145 at hf
  refine lv_iload (pc := 145) hx hb dX7_ask_145 (lv_at hl 1 rfl) ?_
  exact j_iret (pc := 147) cx hS hf e1 e2 dX7_ask_147
theorem wX7_ask_139 {N : Nat} {k32 : Int32 → Int32 → Int32 → Int32 → Int32 → jM Int32} {r : Int32} (cx : jCx p s m args meth c cX7_ask "WornSkinModel" 8 (Option.some Jvm.ClassFile.FieldType.int) D dA H0 hs.2.2.2.2) (e1 : h'.2.2.1 = hs.2.2.1 + mc) (e2 : h'.2.2.2.1 = hs.2.2.2.1 + ms) (a0 : Nat) (hth : jTh hs a0 7) (hk32 : ∀ (x1 : Int32) (x2 : Int32) (x3 : Int32) (x4 : Int32) (x5 : Int32), ∀ (h : jH) (H : Heap) (locs : List Loc) (cells slots : Nat) (ls : Array Slot), (k32 x1 x2 x3 x4 x5).1 h = some (r, h') → jS D dA H0 hs h H locs cells slots → lv_has ls 8 [(0, .ref a0), (1, .int x1), (2, .int x2), (3, .int x3), (4, .int x4), (5, .int x5)] → W p l e { frames := 5, cells := mc, slots := ms, locals := 118 } s m args below meth c H locs cells slots (jQ D dA H0 below s (.returned (some (.int r))) h' mc ms) (F0 m 32 ls [])) : ∀ (x1 : Int32) (x2 : Int32) (x3 : Int32) (x4 : Int32) (x5 : Int32), ∀ (h : jH) (H : Heap) (locs : List Loc) (cells slots : Nat) (ls : Array Slot), (fX7_ask_139 N k32 a0 x1 x2 x3 x4 x5).1 h = some (r, h') → jS D dA H0 hs h H locs cells slots → lv_has ls 8 [(0, .ref a0), (1, .int x1), (2, .int x2), (3, .int x3), (4, .int x4), (5, .int x5)] → W p l e { frames := 5, cells := mc, slots := ms, locals := 118 } s m args below meth c H locs cells slots (jQ D dA H0 below s (.returned (some (.int r))) h' mc ms) (F0 m 139 ls []) := by
  have hx := cx.1
  have hb := cx.2.1
  have hown := cx.2.2.2.1
  have hts := cx.2.2.2.2.1
  have hm : h'.2.2.1 ≤ hs.2.2.1 + mc ∧ h'.2.2.2.1 ≤ hs.2.2.2.1 + ms := ⟨Nat.le_of_eq e1, Nat.le_of_eq e2⟩
  intro x1 x2 x3 x4 x5 h H locs cells slots ls hf hS hl
  unfold fX7_ask_139 at hf
  refine lv_iinc (pc := 139) (v := (x5 + 1)) (lv' := [(5, .int (x5 + 1)), (0, .ref a0), (1, .int x1), (2, .int x2), (3, .int x3), (4, .int x4)]) hx hb dX7_ask_139 hl (k := 5) rfl rfl (Nat.le_of_ble_eq_true rfl) rfl (fun ls hl => ?_)
  refine lv_goto (pc := 142) (tgt := 32) hx hb dX7_ask_142 (by decide) ?_
  exact hk32 _ _ _ _ _ _ _ _ _ _ _ hf hS (lv_sub hl [1, 2, 3, 4, 5, 0] rfl)
theorem wX7_ask_109 {N : Nat} {k32 : Int32 → Int32 → Int32 → Int32 → Int32 → jM Int32} {r : Int32} (cx : jCx p s m args meth c cX7_ask "WornSkinModel" 8 (Option.some Jvm.ClassFile.FieldType.int) D dA H0 hs.2.2.2.2) (e1 : h'.2.2.1 = hs.2.2.1 + mc) (e2 : h'.2.2.2.1 = hs.2.2.2.1 + ms) (a0 : Nat) (hth : jTh hs a0 7) (hk32 : ∀ (x1 : Int32) (x2 : Int32) (x3 : Int32) (x4 : Int32) (x5 : Int32), ∀ (h : jH) (H : Heap) (locs : List Loc) (cells slots : Nat) (ls : Array Slot), (k32 x1 x2 x3 x4 x5).1 h = some (r, h') → jS D dA H0 hs h H locs cells slots → lv_has ls 8 [(0, .ref a0), (1, .int x1), (2, .int x2), (3, .int x3), (4, .int x4), (5, .int x5)] → W p l e { frames := 5, cells := mc, slots := ms, locals := 118 } s m args below meth c H locs cells slots (jQ D dA H0 below s (.returned (some (.int r))) h' mc ms) (F0 m 32 ls [])) : ∀ (x1 : Int32) (x2 : Int32) (x3 : Int32) (x4 : Int32) (x5 : Int32) (x6 : Int32), ∀ (h : jH) (H : Heap) (locs : List Loc) (cells slots : Nat) (ls : Array Slot), (fX7_ask_109 N k32 a0 x1 x2 x3 x4 x5 x6).1 h = some (r, h') → jS D dA H0 hs h H locs cells slots → lv_has ls 8 [(0, .ref a0), (1, .int x1), (2, .int x2), (3, .int x3), (4, .int x4), (5, .int x5), (6, .int x6)] → W p l e { frames := 5, cells := mc, slots := ms, locals := 118 } s m args below meth c H locs cells slots (jQ D dA H0 below s (.returned (some (.int r))) h' mc ms) (F0 m 109 ls []) := by
  have hx := cx.1
  have hb := cx.2.1
  have hown := cx.2.2.2.1
  have hts := cx.2.2.2.2.1
  have hm : h'.2.2.1 ≤ hs.2.2.1 + mc ∧ h'.2.2.2.1 ≤ hs.2.2.2.1 + ms := ⟨Nat.le_of_eq e1, Nat.le_of_eq e2⟩
  intro x1 x2 x3 x4 x5 x6 h H locs cells slots ls hf hS hl
  unfold fX7_ask_109 at hf
  refine lv_iload (pc := 109) hx hb dX7_ask_109 (lv_at hl 6 rfl) ?_
  refine lv_iload_n (pc := 111) hx hb dX7_ask_111 rfl (lv_at hl 2 rfl) ?_
  obtain ⟨y1, h1, e9, hf⟩ := jB_some hf
  refine j_callS (pc := 112) (st1 := [.int y1, .int x6]) (As := [.int x2]) (rest := [.int x6]) cx hS rfl hl.1 hm (metX7_bits l _ _ _ _ _ e9) (jle hf) (lw_S q2087 q2088 q123 q2089) pdX7_bits rfl rfl (Nat.le_of_ble_eq_true rfl) ⟨Nat.le_of_ble_eq_true rfl, Nat.le_of_ble_eq_true rfl⟩ dX7_ask_112 rfl (fun H locs cells slots hS => ?_)
  refine lv_iload (pc := 115) hx hb dX7_ask_115 (lv_at hl 6 rfl) ?_
  refine lv_isub (pc := 117) hx hb dX7_ask_117 ?_
  refine j_max (pc := 118) cx hS hl.1 (jle hf) hm q2258 q523 q126 q524 (Nat.le_of_ble_eq_true rfl) (Nat.le_of_ble_eq_true rfl) dX7_ask_118 ?_
  refine lv_istore (pc := 121) (i := 6) (lv' := [(6, .int (jmax x6 (y1 - x6))), (0, .ref a0), (1, .int x1), (2, .int x2), (3, .int x3), (4, .int x4), (5, .int x5)]) hx hb dX7_ask_121 hl (Nat.le_of_ble_eq_true rfl) rfl (fun ls hl => ?_)
  refine lv_iload (pc := 123) hx hb dX7_ask_123 (lv_at hl 0 rfl) ?_
  refine lv_iload_n (pc := 125) hx hb dX7_ask_125 rfl (lv_at hl 4 rfl) ?_
  refine lv_icmp_lt (pc := 126) (tgt := 132) hx hb dX7_ask_126 (by decide) (fun hc => ?_) (fun hc => ?_)
  · have hf := jI_t hf hc
    refine lv_iload (pc := 132) hx hb dX7_ask_132 (lv_at hl 0 rfl) ?_
    refine lv_istore_n (pc := 134) (i := 3) (lv' := [(3, .int (jmax x6 (y1 - x6))), (6, .int (jmax x6 (y1 - x6))), (0, .ref a0), (1, .int x1), (2, .int x2), (4, .int x4), (5, .int x5)]) hx hb dX7_ask_134 rfl hl (Nat.le_of_ble_eq_true rfl) rfl (fun ls hl => ?_)
    refine lv_iload (pc := 135) hx hb dX7_ask_135 (lv_at hl 6 rfl) ?_
    refine lv_istore (pc := 137) (i := 4) (lv' := [(4, .int x5), (3, .int (jmax x6 (y1 - x6))), (6, .int (jmax x6 (y1 - x6))), (0, .ref a0), (1, .int x1), (2, .int x2), (5, .int x5)]) hx hb dX7_ask_137 hl (Nat.le_of_ble_eq_true rfl) rfl (fun ls hl => ?_)
    exact wX7_ask_139 cx e1 e2 a0 hth hk32 _ _ _ _ _ _ _ _ _ _ _ hf hS (lv_sub hl [3, 4, 5, 1, 0, 6] rfl)
  · have hf := jI_f hf hc
    refine lv_goto (pc := 129) (tgt := 139) hx hb dX7_ask_129 (by decide) ?_
    exact wX7_ask_139 cx e1 e2 a0 hth hk32 _ _ _ _ _ _ _ _ _ _ _ hf hS (lv_sub hl [1, 2, 3, 4, 5, 6] rfl)
theorem wX7_ask_100 {N : Nat} {k45 : Int32 → Int32 → Int32 → Int32 → Int32 → Int32 → Int32 → jM Int32} {r : Int32} (cx : jCx p s m args meth c cX7_ask "WornSkinModel" 8 (Option.some Jvm.ClassFile.FieldType.int) D dA H0 hs.2.2.2.2) (e1 : h'.2.2.1 = hs.2.2.1 + mc) (e2 : h'.2.2.2.1 = hs.2.2.2.1 + ms) (a0 : Nat) (hth : jTh hs a0 7) (hk45 : ∀ (x1 : Int32) (x2 : Int32) (x3 : Int32) (x4 : Int32) (x5 : Int32) (x6 : Int32) (x7 : Int32), ∀ (h : jH) (H : Heap) (locs : List Loc) (cells slots : Nat) (ls : Array Slot), (k45 x1 x2 x3 x4 x5 x6 x7).1 h = some (r, h') → jS D dA H0 hs h H locs cells slots → lv_has ls 8 [(0, .ref a0), (1, .int x1), (2, .int x2), (3, .int x3), (4, .int x4), (5, .int x5), (6, .int x6), (7, .int x7)] → W p l e { frames := 5, cells := mc, slots := ms, locals := 118 } s m args below meth c H locs cells slots (jQ D dA H0 below s (.returned (some (.int r))) h' mc ms) (F0 m 45 ls [])) : ∀ (x1 : Int32) (x2 : Int32) (x3 : Int32) (x4 : Int32) (x5 : Int32) (x7 : Int32) (v0 : Int32) (v1 : Int32), ∀ (h : jH) (H : Heap) (locs : List Loc) (cells slots : Nat) (ls : Array Slot), (fX7_ask_100 N k45 a0 x1 x2 x3 x4 x5 x7 v0 v1).1 h = some (r, h') → jS D dA H0 hs h H locs cells slots → lv_has ls 8 [(0, .ref a0), (1, .int x1), (2, .int x2), (3, .int x3), (4, .int x4), (5, .int x5), (7, .int x7)] → W p l e { frames := 5, cells := mc, slots := ms, locals := 118 } s m args below meth c H locs cells slots (jQ D dA H0 below s (.returned (some (.int r))) h' mc ms) (F0 m 100 ls [.int v1, .int v0]) := by
  have hx := cx.1
  have hb := cx.2.1
  have hown := cx.2.2.2.1
  have hts := cx.2.2.2.2.1
  have hm : h'.2.2.1 ≤ hs.2.2.1 + mc ∧ h'.2.2.2.1 ≤ hs.2.2.2.1 + ms := ⟨Nat.le_of_eq e1, Nat.le_of_eq e2⟩
  intro x1 x2 x3 x4 x5 x7 v0 v1 h H locs cells slots ls hf hS hl
  unfold fX7_ask_100 at hf
  refine lv_iadd (pc := 100) hx hb dX7_ask_100 ?_
  refine lv_istore (pc := 101) (i := 6) (lv' := [(6, .int (v0 + v1)), (0, .ref a0), (1, .int x1), (2, .int x2), (3, .int x3), (4, .int x4), (5, .int x5), (7, .int x7)]) hx hb dX7_ask_101 hl (Nat.le_of_ble_eq_true rfl) rfl (fun ls hl => ?_)
  refine lv_iinc (pc := 103) (v := (x7 + 1)) (lv' := [(7, .int (x7 + 1)), (6, .int (v0 + v1)), (0, .ref a0), (1, .int x1), (2, .int x2), (3, .int x3), (4, .int x4), (5, .int x5)]) hx hb dX7_ask_103 hl (k := 7) rfl rfl (Nat.le_of_ble_eq_true rfl) rfl (fun ls hl => ?_)
  refine lv_goto (pc := 106) (tgt := 45) hx hb dX7_ask_106 (by decide) ?_
  exact hk45 _ _ _ _ _ _ _ _ _ _ _ _ _ hf hS (lv_sub hl [2, 3, 4, 5, 6, 7, 1, 0] rfl)
theorem wX7_ask_99 {N : Nat} {k45 : Int32 → Int32 → Int32 → Int32 → Int32 → Int32 → Int32 → jM Int32} {r : Int32} (cx : jCx p s m args meth c cX7_ask "WornSkinModel" 8 (Option.some Jvm.ClassFile.FieldType.int) D dA H0 hs.2.2.2.2) (e1 : h'.2.2.1 = hs.2.2.1 + mc) (e2 : h'.2.2.2.1 = hs.2.2.2.1 + ms) (a0 : Nat) (hth : jTh hs a0 7) (hk45 : ∀ (x1 : Int32) (x2 : Int32) (x3 : Int32) (x4 : Int32) (x5 : Int32) (x6 : Int32) (x7 : Int32), ∀ (h : jH) (H : Heap) (locs : List Loc) (cells slots : Nat) (ls : Array Slot), (k45 x1 x2 x3 x4 x5 x6 x7).1 h = some (r, h') → jS D dA H0 hs h H locs cells slots → lv_has ls 8 [(0, .ref a0), (1, .int x1), (2, .int x2), (3, .int x3), (4, .int x4), (5, .int x5), (6, .int x6), (7, .int x7)] → W p l e { frames := 5, cells := mc, slots := ms, locals := 118 } s m args below meth c H locs cells slots (jQ D dA H0 below s (.returned (some (.int r))) h' mc ms) (F0 m 45 ls [])) : ∀ (x1 : Int32) (x2 : Int32) (x3 : Int32) (x4 : Int32) (x5 : Int32) (x7 : Int32) (v0 : Int32), ∀ (h : jH) (H : Heap) (locs : List Loc) (cells slots : Nat) (ls : Array Slot), (fX7_ask_99 N k45 a0 x1 x2 x3 x4 x5 x7 v0).1 h = some (r, h') → jS D dA H0 hs h H locs cells slots → lv_has ls 8 [(0, .ref a0), (1, .int x1), (2, .int x2), (3, .int x3), (4, .int x4), (5, .int x5), (7, .int x7)] → W p l e { frames := 5, cells := mc, slots := ms, locals := 118 } s m args below meth c H locs cells slots (jQ D dA H0 below s (.returned (some (.int r))) h' mc ms) (F0 m 99 ls [.int v0]) := by
  have hx := cx.1
  have hb := cx.2.1
  have hown := cx.2.2.2.1
  have hts := cx.2.2.2.2.1
  have hm : h'.2.2.1 ≤ hs.2.2.1 + mc ∧ h'.2.2.2.1 ≤ hs.2.2.2.1 + ms := ⟨Nat.le_of_eq e1, Nat.le_of_eq e2⟩
  intro x1 x2 x3 x4 x5 x7 v0 h H locs cells slots ls hf hS hl
  unfold fX7_ask_99 at hf
  refine lv_iconst (pc := 99) (v := 0) hx hb dX7_ask_99 rfl ?_
  exact wX7_ask_100 cx e1 e2 a0 hth hk45 _ _ _ _ _ _ _ _ _ _ _ _ _ _ hf hS hl
theorem wX7_ask_45 {N : Nat} {k32 : Int32 → Int32 → Int32 → Int32 → Int32 → jM Int32} {r : Int32} (cx : jCx p s m args meth c cX7_ask "WornSkinModel" 8 (Option.some Jvm.ClassFile.FieldType.int) D dA H0 hs.2.2.2.2) (e1 : h'.2.2.1 = hs.2.2.1 + mc) (e2 : h'.2.2.2.1 = hs.2.2.2.1 + ms) (a0 : Nat) (hth : jTh hs a0 7) (hk32 : ∀ (x1 : Int32) (x2 : Int32) (x3 : Int32) (x4 : Int32) (x5 : Int32), ∀ (h : jH) (H : Heap) (locs : List Loc) (cells slots : Nat) (ls : Array Slot), (k32 x1 x2 x3 x4 x5).1 h = some (r, h') → jS D dA H0 hs h H locs cells slots → lv_has ls 8 [(0, .ref a0), (1, .int x1), (2, .int x2), (3, .int x3), (4, .int x4), (5, .int x5)] → W p l e { frames := 5, cells := mc, slots := ms, locals := 118 } s m args below meth c H locs cells slots (jQ D dA H0 below s (.returned (some (.int r))) h' mc ms) (F0 m 32 ls [])) : ∀ (n : Nat) (x1 : Int32) (x2 : Int32) (x3 : Int32) (x4 : Int32) (x5 : Int32) (x6 : Int32) (x7 : Int32), ∀ (h : jH) (H : Heap) (locs : List Loc) (cells slots : Nat) (ls : Array Slot), (fX7_ask_45 N k32 a0 n x1 x2 x3 x4 x5 x6 x7).1 h = some (r, h') → jS D dA H0 hs h H locs cells slots → lv_has ls 8 [(0, .ref a0), (1, .int x1), (2, .int x2), (3, .int x3), (4, .int x4), (5, .int x5), (6, .int x6), (7, .int x7)] → W p l e { frames := 5, cells := mc, slots := ms, locals := 118 } s m args below meth c H locs cells slots (jQ D dA H0 below s (.returned (some (.int r))) h' mc ms) (F0 m 45 ls []) := by
  have hx := cx.1
  have hb := cx.2.1
  have hown := cx.2.2.2.1
  have hts := cx.2.2.2.2.1
  have hm : h'.2.2.1 ≤ hs.2.2.1 + mc ∧ h'.2.2.2.1 ≤ hs.2.2.2.1 + ms := ⟨Nat.le_of_eq e1, Nat.le_of_eq e2⟩
  intro n
  induction n with
  | zero =>
    intro x1 x2 x3 x4 x5 x6 x7 h H locs cells slots ls hf hS hl
    exact jE_f hf
  | succ n ih =>
    intro x1 x2 x3 x4 x5 x6 x7 h H locs cells slots ls hf hS hl
    unfold fX7_ask_45 at hf
    refine lv_iload (pc := 45) hx hb dX7_ask_45 (lv_at hl 7 rfl) ?_
    refine lv_aload_n (pc := 47) hx hb dX7_ask_47 rfl (lv_at hl 0 rfl) ?_
    refine j_gR (pc := 48) cx hS hf fd_WornSkinModel_library q1694 dX7_ask_48 (fun y1 hf => ?_)
    refine lv_iconst (pc := 51) (v := 1) hx hb dX7_ask_51 rfl ?_
    refine j_aI (pc := 52) cx hS hf rfl dX7_ask_52 (fun y2 hf => ?_)
    refine lv_icmp_ge (pc := 53) (tgt := 109) hx hb dX7_ask_53 (by decide) (fun hc => ?_) (fun hc => ?_)
    · have hf := jI_t hf hc
      exact wX7_ask_109 cx e1 e2 a0 hth hk32 _ _ _ _ _ _ _ _ _ _ _ _ hf hS (lv_sub hl [0, 1, 2, 3, 4, 5, 6] rfl)
    · have hf := jI_f hf hc
      refine lv_iload (pc := 56) hx hb dX7_ask_56 (lv_at hl 6 rfl) ?_
      refine lv_iload_n (pc := 58) hx hb dX7_ask_58 rfl (lv_at hl 2 rfl) ?_
      refine lv_iload (pc := 59) hx hb dX7_ask_59 (lv_at hl 7 rfl) ?_
      refine lv_ishr (pc := 61) hx hb dX7_ask_61 ?_
      refine lv_iconst (pc := 62) (v := 1) hx hb dX7_ask_62 rfl ?_
      refine lv_iand (pc := 63) hx hb dX7_ask_63 ?_
      refine lv_iconst (pc := 64) (v := 1) hx hb dX7_ask_64 rfl ?_
      refine lv_icmp_ne (pc := 65) (tgt := 99) hx hb dX7_ask_65 (by decide) (fun hc => ?_) (fun hc => ?_)
      · have hf := jI_f hf hc
        exact wX7_ask_99 cx e1 e2 a0 hth ih _ _ _ _ _ _ _ _ _ _ _ _ _ hf hS (lv_sub hl [0, 1, 2, 3, 4, 5, 7] rfl)
      · have hf := jI_t hf hc
        refine lv_aload_n (pc := 68) hx hb dX7_ask_68 rfl (lv_at hl 0 rfl) ?_
        refine lv_iload (pc := 69) hx hb dX7_ask_69 (lv_at hl 7 rfl) ?_
        refine lv_iload (pc := 71) hx hb dX7_ask_71 (lv_at hl 5 rfl) ?_
        refine lv_bipush (pc := 73) (v := 10) hx hb dX7_ask_73 rfl ?_
        obtain ⟨hne, hf⟩ := jnz_s hf
        refine lv_idiv (pc := 75) hx hb dX7_ask_75 hne ?_
        refine lv_aload_n (pc := 76) hx hb dX7_ask_76 rfl (lv_at hl 0 rfl) ?_
        refine j_gR (pc := 77) cx hS hf fd_WornSkinModel_s q1732 dX7_ask_77 (fun y3 hf => ?_)
        refine lv_iconst (pc := 80) (v := 1) hx hb dX7_ask_80 rfl ?_
        refine lv_iload_n (pc := 81) hx hb dX7_ask_81 rfl (lv_at hl 1 rfl) ?_
        refine lv_iadd (pc := 82) hx hb dX7_ask_82 ?_
        refine j_aI (pc := 83) cx hS hf rfl dX7_ask_83 (fun y4 hf => ?_)
        refine lv_iload (pc := 84) hx hb dX7_ask_84 (lv_at hl 5 rfl) ?_
        refine lv_bipush (pc := 86) (v := 10) hx hb dX7_ask_86 rfl ?_
        obtain ⟨hne, hf⟩ := jnz_s hf
        refine lv_irem (pc := 88) hx hb dX7_ask_88 hne ?_
        obtain ⟨y5, h1, e9, hf⟩ := jB_some hf
        refine j_callV (pc := 89) (st1 := [.int y5, .int x6]) (As := [.int x7, .int (x5 / 10), .int y4, .int (x5 - x5 / 10 * 10)]) (rest := [.int x6]) cx hS rfl hl.1 hm (metX7_showsBy l _ _ _ _ _ _ _ _ _ (hth.at hS) e9) (jle hf) (hth.at hS) rfl (lw_V q2047 q2049 qs84 q123 q2050) pdX7_showsBy rfl rfl (Nat.le_of_ble_eq_true rfl) ⟨Nat.le_of_ble_eq_true rfl, Nat.le_of_ble_eq_true rfl⟩ dX7_ask_89 rfl (fun H locs cells slots hS => ?_)
        refine lv_if_eq (pc := 92) (tgt := 99) hx hb dX7_ask_92 (by decide) (fun hc => ?_) (fun hc => ?_)
        · have hf := jI_t hf hc
          exact wX7_ask_99 cx e1 e2 a0 hth ih _ _ _ _ _ _ _ _ _ _ _ _ _ hf hS (lv_sub hl [0, 1, 2, 3, 4, 5, 7] rfl)
        · have hf := jI_f hf hc
          refine lv_iconst (pc := 95) (v := 1) hx hb dX7_ask_95 rfl ?_
          refine lv_goto (pc := 96) (tgt := 100) hx hb dX7_ask_96 (by decide) ?_
          exact wX7_ask_100 cx e1 e2 a0 hth ih _ _ _ _ _ _ _ _ _ _ _ _ _ _ hf hS (lv_sub hl [0, 1, 2, 3, 4, 5, 7] rfl)
theorem wX7_ask_32 {N : Nat} {r : Int32} (cx : jCx p s m args meth c cX7_ask "WornSkinModel" 8 (Option.some Jvm.ClassFile.FieldType.int) D dA H0 hs.2.2.2.2) (e1 : h'.2.2.1 = hs.2.2.1 + mc) (e2 : h'.2.2.2.1 = hs.2.2.2.1 + ms) (a0 : Nat) (hth : jTh hs a0 7) : ∀ (n : Nat) (x1 : Int32) (x2 : Int32) (x3 : Int32) (x4 : Int32) (x5 : Int32), ∀ (h : jH) (H : Heap) (locs : List Loc) (cells slots : Nat) (ls : Array Slot), (fX7_ask_32 N a0 n x1 x2 x3 x4 x5).1 h = some (r, h') → jS D dA H0 hs h H locs cells slots → lv_has ls 8 [(0, .ref a0), (1, .int x1), (2, .int x2), (3, .int x3), (4, .int x4), (5, .int x5)] → W p l e { frames := 5, cells := mc, slots := ms, locals := 118 } s m args below meth c H locs cells slots (jQ D dA H0 below s (.returned (some (.int r))) h' mc ms) (F0 m 32 ls []) := by
  have hx := cx.1
  have hb := cx.2.1
  have hown := cx.2.2.2.1
  have hts := cx.2.2.2.2.1
  have hm : h'.2.2.1 ≤ hs.2.2.1 + mc ∧ h'.2.2.2.1 ≤ hs.2.2.2.1 + ms := ⟨Nat.le_of_eq e1, Nat.le_of_eq e2⟩
  intro n
  induction n with
  | zero =>
    intro x1 x2 x3 x4 x5 h H locs cells slots ls hf hS hl
    exact jE_f hf
  | succ n ih =>
    intro x1 x2 x3 x4 x5 h H locs cells slots ls hf hS hl
    unfold fX7_ask_32 at hf
    refine lv_iload (pc := 32) hx hb dX7_ask_32 (lv_at hl 5 rfl) ?_
    refine lv_bipush (pc := 34) (v := 100) hx hb dX7_ask_34 rfl ?_
    refine lv_icmp_ge (pc := 36) (tgt := 145) hx hb dX7_ask_36 (by decide) (fun hc => ?_) (fun hc => ?_)
    · have hf := jI_t hf hc
      exact wX7_ask_145 cx e1 e2 a0 hth _ _ _ _ _ _ _ hf hS (lv_sub hl [0, 4] rfl)
    · have hf := jI_f hf hc
      refine lv_iconst (pc := 39) (v := 0) hx hb dX7_ask_39 rfl ?_
      refine lv_istore (pc := 40) (i := 6) (lv' := [(6, .int 0), (0, .ref a0), (1, .int x1), (2, .int x2), (3, .int x3), (4, .int x4), (5, .int x5)]) hx hb dX7_ask_40 hl (Nat.le_of_ble_eq_true rfl) rfl (fun ls hl => ?_)
      refine lv_iconst (pc := 42) (v := 0) hx hb dX7_ask_42 rfl ?_
      refine lv_istore (pc := 43) (i := 7) (lv' := [(7, .int 0), (6, .int 0), (0, .ref a0), (1, .int x1), (2, .int x2), (3, .int x3), (4, .int x4), (5, .int x5)]) hx hb dX7_ask_43 hl (Nat.le_of_ble_eq_true rfl) rfl (fun ls hl => ?_)
      exact wX7_ask_45 cx e1 e2 a0 hth ih N _ _ _ _ _ _ _ _ _ _ _ _ _ hf hS (lv_sub hl [2, 3, 4, 5, 6, 7, 1, 0] rfl)
theorem wX7_ask_0 {N : Nat} {r : Int32} (cx : jCx p s m args meth c cX7_ask "WornSkinModel" 8 (Option.some Jvm.ClassFile.FieldType.int) D dA H0 hs.2.2.2.2) (e1 : h'.2.2.1 = hs.2.2.1 + mc) (e2 : h'.2.2.2.1 = hs.2.2.2.1 + ms) (a0 : Nat) (hth : jTh hs a0 7) : ∀ (x1 : Int32), ∀ (h : jH) (H : Heap) (locs : List Loc) (cells slots : Nat) (ls : Array Slot), (fX7_ask N a0 x1).1 h = some (r, h') → jS D dA H0 hs h H locs cells slots → lv_has ls 8 [(0, .ref a0), (1, .int x1)] → W p l e { frames := 5, cells := mc, slots := ms, locals := 118 } s m args below meth c H locs cells slots (jQ D dA H0 below s (.returned (some (.int r))) h' mc ms) (F0 m 0 ls []) := by
  have hx := cx.1
  have hb := cx.2.1
  have hown := cx.2.2.2.1
  have hts := cx.2.2.2.2.1
  have hm : h'.2.2.1 ≤ hs.2.2.1 + mc ∧ h'.2.2.2.1 ≤ hs.2.2.2.1 + ms := ⟨Nat.le_of_eq e1, Nat.le_of_eq e2⟩
  intro x1 h H locs cells slots ls hf hS hl
  unfold fX7_ask at hf
  refine lv_aload_n (pc := 0) hx hb dX7_ask_0 rfl (lv_at hl 0 rfl) ?_
  refine lv_iconst (pc := 1) (v := 0) hx hb dX7_ask_1 rfl ?_
  refine j_pI (pc := 2) cx hS hf fp_WornSkinModel_thrown (Or.inl rfl) q1684 dX7_ask_2 (fun h H locs hf hS => ?_)
  refine lv_aload_n (pc := 5) hx hb dX7_ask_5 rfl (lv_at hl 0 rfl) ?_
  refine lv_iload_n (pc := 6) hx hb dX7_ask_6 rfl (lv_at hl 1 rfl) ?_
  obtain ⟨y1, h1, e9, hf⟩ := jB_some hf
  refine j_callV (pc := 7) (st1 := [.int y1]) (As := [.int x1]) (rest := []) cx hS rfl hl.1 hm (metX7_isSkin l _ _ _ _ _ (hth.at hS) e9) (jle hf) (hth.at hS) rfl (lw_V q2031 q2033 qs80 q123 q2034) pdX7_isSkin rfl rfl (Nat.le_of_ble_eq_true rfl) ⟨Nat.le_of_ble_eq_true rfl, Nat.le_of_ble_eq_true rfl⟩ dX7_ask_7 rfl (fun H locs cells slots hS => ?_)
  refine lv_if_ne (pc := 10) (tgt := 15) hx hb dX7_ask_10 (by decide) (fun hc => ?_) (fun hc => ?_)
  · have hf := jI_f hf hc
    refine lv_aload_n (pc := 15) hx hb dX7_ask_15 rfl (lv_at hl 0 rfl) ?_
    obtain ⟨y2, h1, e9, hf⟩ := jB_some hf
    refine j_callV (pc := 16) (st1 := [.int y2]) (As := []) (rest := []) cx hS rfl hl.1 hm (metX7_who l _ _ _ _ _ (hth.at hS) e9) (jle hf) (hth.at hS) rfl (lw_V q2257 q2250 q2251 q123 q2252) pdX7_who rfl rfl (Nat.le_of_ble_eq_true rfl) ⟨Nat.le_of_ble_eq_true rfl, Nat.le_of_ble_eq_true rfl⟩ dX7_ask_16 rfl (fun H locs cells slots hS => ?_)
    refine lv_istore_n (pc := 19) (i := 2) (lv' := [(2, .int y2), (0, .ref a0), (1, .int x1)]) hx hb dX7_ask_19 rfl hl (Nat.le_of_ble_eq_true rfl) rfl (fun ls hl => ?_)
    refine lv_iload_n (pc := 20) hx hb dX7_ask_20 rfl (lv_at hl 0 rfl) ?_
    obtain ⟨y3, h1, e9, hf⟩ := jB_some hf
    refine j_callS (pc := 21) (st1 := [.int y3]) (As := [.int y2]) (rest := []) cx hS rfl hl.1 hm (metX7_bits l _ _ _ _ _ e9) (jle hf) (lw_S q2087 q2088 q123 q2089) pdX7_bits rfl rfl (Nat.le_of_ble_eq_true rfl) ⟨Nat.le_of_ble_eq_true rfl, Nat.le_of_ble_eq_true rfl⟩ dX7_ask_21 rfl (fun H locs cells slots hS => ?_)
    refine lv_istore_n (pc := 24) (i := 3) (lv' := [(3, .int y3), (2, .int y2), (0, .ref a0), (1, .int x1)]) hx hb dX7_ask_24 rfl hl (Nat.le_of_ble_eq_true rfl) rfl (fun ls hl => ?_)
    refine lv_iconst (pc := 25) (v := (-1)) hx hb dX7_ask_25 rfl ?_
    refine lv_istore (pc := 26) (i := 4) (lv' := [(4, .int (-1)), (3, .int y3), (2, .int y2), (0, .ref a0), (1, .int x1)]) hx hb dX7_ask_26 hl (Nat.le_of_ble_eq_true rfl) rfl (fun ls hl => ?_)
    refine lv_bipush (pc := 28) (v := 10) hx hb dX7_ask_28 rfl ?_
    refine lv_istore (pc := 30) (i := 5) (lv' := [(5, .int 10), (4, .int (-1)), (3, .int y3), (2, .int y2), (0, .ref a0), (1, .int x1)]) hx hb dX7_ask_30 hl (Nat.le_of_ble_eq_true rfl) rfl (fun ls hl => ?_)
    exact wX7_ask_32 cx e1 e2 a0 hth N _ _ _ _ _ _ _ _ _ _ _ hf hS (lv_sub hl [4, 5, 3, 2, 1, 0] rfl)
  · have hf := jI_t hf hc
    refine lv_iconst (pc := 13) (v := (-1)) hx hb dX7_ask_13 rfl ?_
    exact j_iret (pc := 14) cx hS hf e1 e2 dX7_ask_14
theorem metX7_ask (l : Launch) (N : Nat) (a0 : Nat) (x1 : Int32) (h h' : jH) (r : Int32) (hth : jcd h a0 = some 7) (hf : (fX7_ask N a0 x1).1 h = some (r, h')) : jMet l yX7_ask (ws_ yX7_ask cX7_ask 8 (Option.some Jvm.ClassFile.FieldType.int)) (5) (118) [.ref a0, .int x1] h h' (.returned (some (.int r))) := by
  refine jStart rfl (jle hf) (Nat.le_of_ble_eq_true rfl) ?_
  intro p e s m below meth c D dA H0 mc ms ls cx hnm e1 e2 hS hl
  have hth := jTh.mk hS hth
  exact wX7_ask_0 cx e1 e2 a0 hth _ _ _ _ _ _ _ hf hS hl
def fX7_chance_115 (N : Nat) (a0 : Nat) (x6 : Int64) (x8 : Int64) : jM Int32 := jB (jnzL x8) fun _ => jR ((((x8 - x6) * 1000000) / x8).toInt32)
def fX7_chance_88 (N : Nat) (a0 : Nat) : Nat → Int32 → Int64 → Int64 → Int64 → Int32 → jM Int32
  | 0, _, _, _, _, _ => jE
  | n + 1, x2, x4, x6, x8, x10 => if x2 ≤ x10 then (fX7_chance_115 N a0 x6 x8) else (fX7_chance_88 N a0 n x2 x4 (x6 * x4) (x8 * 10) (x10 + 1))
def fX7_chance_75 (N : Nat) (a0 : Nat) (x2 : Int32) (v0 : Int32) (v1 : Int32) : jM Int32 := fX7_chance_88 N a0 N x2 ((v0 + v1).toInt64) 1 1 0
def fX7_chance_54 (N : Nat) (a0 : Nat) (x1 : Int32) (x2 : Int32) (x3 : Int32) (v0 : Int32) : jM Int32 := jB (fX7_wholeBy N a0 0) fun y1 => if ((y1 >>> (x1 &&& 31)) &&& 1) = 1 then (fX7_chance_75 N a0 x2 v0 0) else (fX7_chance_75 N a0 x2 v0 (10 - x3))
def fX7_chance_33 (N : Nat) (a0 : Nat) : jM Int32 := jR (-1)
def fX7_chance (N : Nat) (a0 : Nat) (x1 : Int32) (x2 : Int32) (x3 : Int32) : jM Int32 := jB (jpI [7] 0 (some a0) 0) fun _ => jB (fX7_isText a0 x1) fun y1 => if y1 = 0 then (fX7_chance_33 N a0) else (jB (fX7_within x2 1 6) fun y2 => if y2 = 0 then (fX7_chance_33 N a0) else (jB (fX7_within x3 0 10) fun y3 => if y3 = 0 then (fX7_chance_33 N a0) else (jB (fX7_wholeBy N a0 9) fun y4 => if ((y4 >>> (x1 &&& 31)) &&& 1) = 1 then (fX7_chance_54 N a0 x1 x2 x3 0) else (fX7_chance_54 N a0 x1 x2 x3 x3))))
theorem wX7_chance_115 {N : Nat} {r : Int32} (cx : jCx p s m args meth c cX7_chance "WornSkinModel" 11 (Option.some Jvm.ClassFile.FieldType.int) D dA H0 hs.2.2.2.2) (e1 : h'.2.2.1 = hs.2.2.1 + mc) (e2 : h'.2.2.2.1 = hs.2.2.2.1 + ms) (a0 : Nat) (hth : jTh hs a0 7) : ∀ (x6 : Int64) (x8 : Int64), ∀ (h : jH) (H : Heap) (locs : List Loc) (cells slots : Nat) (ls : Array Slot), (fX7_chance_115 N a0 x6 x8).1 h = some (r, h') → jS D dA H0 hs h H locs cells slots → lv_has ls 11 [(0, .ref a0), (6, .long x6), (8, .long x8)] → W p l e { frames := 6, cells := mc, slots := ms, locals := 147 } s m args below meth c H locs cells slots (jQ D dA H0 below s (.returned (some (.int r))) h' mc ms) (F0 m 115 ls []) := by
  have hx := cx.1
  have hb := cx.2.1
  have hown := cx.2.2.2.1
  have hts := cx.2.2.2.2.1
  have hm : h'.2.2.1 ≤ hs.2.2.1 + mc ∧ h'.2.2.2.1 ≤ hs.2.2.2.1 + ms := ⟨Nat.le_of_eq e1, Nat.le_of_eq e2⟩
  intro x6 x8 h H locs cells slots ls hf hS hl
  unfold fX7_chance_115 at hf
  refine lv_lload (pc := 115) hx hb dX7_chance_115 (lv_at hl 2 rfl) ?_
  refine lv_lload (pc := 117) hx hb dX7_chance_117 (lv_at hl 1 rfl) ?_
  refine lv_lsub (pc := 119) hx hb dX7_chance_119 ?_
  refine lv_ldc2 (pc := 120) (v := 1000000) hx hb hown (hts _ q2264) dX7_chance_120 ?_
  refine lv_lmul (pc := 123) hx hb dX7_chance_123 ?_
  refine lv_lload (pc := 124) hx hb dX7_chance_124 (lv_at hl 2 rfl) ?_
  obtain ⟨hne, hf⟩ := jnzL_s hf
  refine lv_ldiv (pc := 126) hx hb dX7_chance_126 hne ?_
  refine lv_l2i (pc := 127) (v := (((x8 - x6) * 1000000) / x8).toInt32) hx hb dX7_chance_127 rfl ?_
  exact j_iret (pc := 128) cx hS hf e1 e2 dX7_chance_128
theorem wX7_chance_88 {N : Nat} {r : Int32} (cx : jCx p s m args meth c cX7_chance "WornSkinModel" 11 (Option.some Jvm.ClassFile.FieldType.int) D dA H0 hs.2.2.2.2) (e1 : h'.2.2.1 = hs.2.2.1 + mc) (e2 : h'.2.2.2.1 = hs.2.2.2.1 + ms) (a0 : Nat) (hth : jTh hs a0 7) : ∀ (n : Nat) (x2 : Int32) (x4 : Int64) (x6 : Int64) (x8 : Int64) (x10 : Int32), ∀ (h : jH) (H : Heap) (locs : List Loc) (cells slots : Nat) (ls : Array Slot), (fX7_chance_88 N a0 n x2 x4 x6 x8 x10).1 h = some (r, h') → jS D dA H0 hs h H locs cells slots → lv_has ls 11 [(0, .ref a0), (2, .int x2), (4, .long x4), (6, .long x6), (8, .long x8), (10, .int x10)] → W p l e { frames := 6, cells := mc, slots := ms, locals := 147 } s m args below meth c H locs cells slots (jQ D dA H0 below s (.returned (some (.int r))) h' mc ms) (F0 m 88 ls []) := by
  have hx := cx.1
  have hb := cx.2.1
  have hown := cx.2.2.2.1
  have hts := cx.2.2.2.2.1
  have hm : h'.2.2.1 ≤ hs.2.2.1 + mc ∧ h'.2.2.2.1 ≤ hs.2.2.2.1 + ms := ⟨Nat.le_of_eq e1, Nat.le_of_eq e2⟩
  intro n
  induction n with
  | zero =>
    intro x2 x4 x6 x8 x10 h H locs cells slots ls hf hS hl
    exact jE_f hf
  | succ n ih =>
    intro x2 x4 x6 x8 x10 h H locs cells slots ls hf hS hl
    unfold fX7_chance_88 at hf
    refine lv_iload (pc := 88) hx hb dX7_chance_88 (lv_at hl 5 rfl) ?_
    refine lv_iload_n (pc := 90) hx hb dX7_chance_90 rfl (lv_at hl 1 rfl) ?_
    refine lv_icmp_ge (pc := 91) (tgt := 115) hx hb dX7_chance_91 (by decide) (fun hc => ?_) (fun hc => ?_)
    · have hf := jI_t hf hc
      exact wX7_chance_115 cx e1 e2 a0 hth _ _ _ _ _ _ _ _ hf hS (lv_sub hl [0, 3, 4] rfl)
    · have hf := jI_f hf hc
      refine lv_lload (pc := 94) hx hb dX7_chance_94 (lv_at hl 3 rfl) ?_
      refine lv_lload (pc := 96) hx hb dX7_chance_96 (lv_at hl 2 rfl) ?_
      refine lv_lmul (pc := 98) hx hb dX7_chance_98 ?_
      refine lv_lstore (pc := 99) (i := 6) (lv' := [(6, .long (x6 * x4)), (0, .ref a0), (2, .int x2), (4, .long x4), (8, .long x8), (10, .int x10)]) hx hb dX7_chance_99 hl (Nat.le_of_ble_eq_true rfl) rfl (fun ls hl => ?_)
      refine lv_lload (pc := 101) hx hb dX7_chance_101 (lv_at hl 4 rfl) ?_
      refine lv_ldc2 (pc := 103) (v := 10) hx hb hown (hts _ q2263) dX7_chance_103 ?_
      refine lv_lmul (pc := 106) hx hb dX7_chance_106 ?_
      refine lv_lstore (pc := 107) (i := 8) (lv' := [(8, .long (x8 * 10)), (6, .long (x6 * x4)), (0, .ref a0), (2, .int x2), (4, .long x4), (10, .int x10)]) hx hb dX7_chance_107 hl (Nat.le_of_ble_eq_true rfl) rfl (fun ls hl => ?_)
      refine lv_iinc (pc := 109) (v := (x10 + 1)) (lv' := [(10, .int (x10 + 1)), (8, .long (x8 * 10)), (6, .long (x6 * x4)), (0, .ref a0), (2, .int x2), (4, .long x4)]) hx hb dX7_chance_109 hl (k := 5) rfl rfl (Nat.le_of_ble_eq_true rfl) rfl (fun ls hl => ?_)
      refine lv_goto (pc := 112) (tgt := 88) hx hb dX7_chance_112 (by decide) ?_
      exact ih _ _ _ _ _ _ _ _ _ _ _ hf hS (lv_sub hl [3, 4, 5, 2, 1, 0] rfl)
theorem wX7_chance_75 {N : Nat} {r : Int32} (cx : jCx p s m args meth c cX7_chance "WornSkinModel" 11 (Option.some Jvm.ClassFile.FieldType.int) D dA H0 hs.2.2.2.2) (e1 : h'.2.2.1 = hs.2.2.1 + mc) (e2 : h'.2.2.2.1 = hs.2.2.2.1 + ms) (a0 : Nat) (hth : jTh hs a0 7) : ∀ (x2 : Int32) (v0 : Int32) (v1 : Int32), ∀ (h : jH) (H : Heap) (locs : List Loc) (cells slots : Nat) (ls : Array Slot), (fX7_chance_75 N a0 x2 v0 v1).1 h = some (r, h') → jS D dA H0 hs h H locs cells slots → lv_has ls 11 [(0, .ref a0), (2, .int x2)] → W p l e { frames := 6, cells := mc, slots := ms, locals := 147 } s m args below meth c H locs cells slots (jQ D dA H0 below s (.returned (some (.int r))) h' mc ms) (F0 m 75 ls [.int v1, .int v0]) := by
  have hx := cx.1
  have hb := cx.2.1
  have hown := cx.2.2.2.1
  have hts := cx.2.2.2.2.1
  have hm : h'.2.2.1 ≤ hs.2.2.1 + mc ∧ h'.2.2.2.1 ≤ hs.2.2.2.1 + ms := ⟨Nat.le_of_eq e1, Nat.le_of_eq e2⟩
  intro x2 v0 v1 h H locs cells slots ls hf hS hl
  unfold fX7_chance_75 at hf
  refine lv_iadd (pc := 75) hx hb dX7_chance_75 ?_
  refine lv_i2l (pc := 76) (v := (v0 + v1).toInt64) hx hb dX7_chance_76 rfl ?_
  refine lv_lstore (pc := 77) (i := 4) (lv' := [(4, .long ((v0 + v1).toInt64)), (0, .ref a0), (2, .int x2)]) hx hb dX7_chance_77 hl (Nat.le_of_ble_eq_true rfl) rfl (fun ls hl => ?_)
  refine lv_lconst (pc := 79) (v := 1) hx hb dX7_chance_79 rfl ?_
  refine lv_lstore (pc := 80) (i := 6) (lv' := [(6, .long 1), (4, .long ((v0 + v1).toInt64)), (0, .ref a0), (2, .int x2)]) hx hb dX7_chance_80 hl (Nat.le_of_ble_eq_true rfl) rfl (fun ls hl => ?_)
  refine lv_lconst (pc := 82) (v := 1) hx hb dX7_chance_82 rfl ?_
  refine lv_lstore (pc := 83) (i := 8) (lv' := [(8, .long 1), (6, .long 1), (4, .long ((v0 + v1).toInt64)), (0, .ref a0), (2, .int x2)]) hx hb dX7_chance_83 hl (Nat.le_of_ble_eq_true rfl) rfl (fun ls hl => ?_)
  refine lv_iconst (pc := 85) (v := 0) hx hb dX7_chance_85 rfl ?_
  refine lv_istore (pc := 86) (i := 10) (lv' := [(10, .int 0), (8, .long 1), (6, .long 1), (4, .long ((v0 + v1).toInt64)), (0, .ref a0), (2, .int x2)]) hx hb dX7_chance_86 hl (Nat.le_of_ble_eq_true rfl) rfl (fun ls hl => ?_)
  exact wX7_chance_88 cx e1 e2 a0 hth N _ _ _ _ _ _ _ _ _ _ _ hf hS (lv_sub hl [4, 5, 3, 2, 1, 0] rfl)
theorem wX7_chance_54 {N : Nat} {r : Int32} (cx : jCx p s m args meth c cX7_chance "WornSkinModel" 11 (Option.some Jvm.ClassFile.FieldType.int) D dA H0 hs.2.2.2.2) (e1 : h'.2.2.1 = hs.2.2.1 + mc) (e2 : h'.2.2.2.1 = hs.2.2.2.1 + ms) (a0 : Nat) (hth : jTh hs a0 7) : ∀ (x1 : Int32) (x2 : Int32) (x3 : Int32) (v0 : Int32), ∀ (h : jH) (H : Heap) (locs : List Loc) (cells slots : Nat) (ls : Array Slot), (fX7_chance_54 N a0 x1 x2 x3 v0).1 h = some (r, h') → jS D dA H0 hs h H locs cells slots → lv_has ls 11 [(0, .ref a0), (1, .int x1), (2, .int x2), (3, .int x3)] → W p l e { frames := 6, cells := mc, slots := ms, locals := 147 } s m args below meth c H locs cells slots (jQ D dA H0 below s (.returned (some (.int r))) h' mc ms) (F0 m 54 ls [.int v0]) := by
  have hx := cx.1
  have hb := cx.2.1
  have hown := cx.2.2.2.1
  have hts := cx.2.2.2.2.1
  have hm : h'.2.2.1 ≤ hs.2.2.1 + mc ∧ h'.2.2.2.1 ≤ hs.2.2.2.1 + ms := ⟨Nat.le_of_eq e1, Nat.le_of_eq e2⟩
  intro x1 x2 x3 v0 h H locs cells slots ls hf hS hl
  unfold fX7_chance_54 at hf
  refine lv_aload_n (pc := 54) hx hb dX7_chance_54 rfl (lv_at hl 0 rfl) ?_
  refine lv_iconst (pc := 55) (v := 0) hx hb dX7_chance_55 rfl ?_
  obtain ⟨y1, h1, e9, hf⟩ := jB_some hf
  refine j_callV (pc := 56) (st1 := [.int y1, .int v0]) (As := [.int 0]) (rest := [.int v0]) cx hS rfl hl.1 hm (metX7_wholeBy l _ _ _ _ _ _ (hth.at hS) e9) (jle hf) (hth.at hS) rfl (lw_V q2079 q2081 qs91 q123 q2082) pdX7_wholeBy rfl rfl (Nat.le_of_ble_eq_true rfl) ⟨Nat.le_of_ble_eq_true rfl, Nat.le_of_ble_eq_true rfl⟩ dX7_chance_56 rfl (fun H locs cells slots hS => ?_)
  refine lv_iload_n (pc := 59) hx hb dX7_chance_59 rfl (lv_at hl 1 rfl) ?_
  refine lv_ishr (pc := 60) hx hb dX7_chance_60 ?_
  refine lv_iconst (pc := 61) (v := 1) hx hb dX7_chance_61 rfl ?_
  refine lv_iand (pc := 62) hx hb dX7_chance_62 ?_
  refine lv_iconst (pc := 63) (v := 1) hx hb dX7_chance_63 rfl ?_
  refine lv_icmp_ne (pc := 64) (tgt := 71) hx hb dX7_chance_64 (by decide) (fun hc => ?_) (fun hc => ?_)
  · have hf := jI_f hf hc
    refine lv_bipush (pc := 71) (v := 10) hx hb dX7_chance_71 rfl ?_
    refine lv_iload_n (pc := 73) hx hb dX7_chance_73 rfl (lv_at hl 3 rfl) ?_
    refine lv_isub (pc := 74) hx hb dX7_chance_74 ?_
    exact wX7_chance_75 cx e1 e2 a0 hth _ _ _ _ _ _ _ _ _ hf hS (lv_sub hl [0, 2] rfl)
  · have hf := jI_t hf hc
    refine lv_iconst (pc := 67) (v := 0) hx hb dX7_chance_67 rfl ?_
    refine lv_goto (pc := 68) (tgt := 75) hx hb dX7_chance_68 (by decide) ?_
    exact wX7_chance_75 cx e1 e2 a0 hth _ _ _ _ _ _ _ _ _ hf hS (lv_sub hl [0, 2] rfl)
theorem wX7_chance_33 {N : Nat} {r : Int32} (cx : jCx p s m args meth c cX7_chance "WornSkinModel" 11 (Option.some Jvm.ClassFile.FieldType.int) D dA H0 hs.2.2.2.2) (e1 : h'.2.2.1 = hs.2.2.1 + mc) (e2 : h'.2.2.2.1 = hs.2.2.2.1 + ms) (a0 : Nat) (hth : jTh hs a0 7) : ∀ (h : jH) (H : Heap) (locs : List Loc) (cells slots : Nat) (ls : Array Slot), (fX7_chance_33 N a0).1 h = some (r, h') → jS D dA H0 hs h H locs cells slots → lv_has ls 11 [(0, .ref a0)] → W p l e { frames := 6, cells := mc, slots := ms, locals := 147 } s m args below meth c H locs cells slots (jQ D dA H0 below s (.returned (some (.int r))) h' mc ms) (F0 m 33 ls []) := by
  have hx := cx.1
  have hb := cx.2.1
  have hown := cx.2.2.2.1
  have hts := cx.2.2.2.2.1
  have hm : h'.2.2.1 ≤ hs.2.2.1 + mc ∧ h'.2.2.2.1 ≤ hs.2.2.2.1 + ms := ⟨Nat.le_of_eq e1, Nat.le_of_eq e2⟩
  intro h H locs cells slots ls hf hS hl
  unfold fX7_chance_33 at hf
  refine lv_iconst (pc := 33) (v := (-1)) hx hb dX7_chance_33 rfl ?_
  exact j_iret (pc := 34) cx hS hf e1 e2 dX7_chance_34
theorem wX7_chance_0 {N : Nat} {r : Int32} (cx : jCx p s m args meth c cX7_chance "WornSkinModel" 11 (Option.some Jvm.ClassFile.FieldType.int) D dA H0 hs.2.2.2.2) (e1 : h'.2.2.1 = hs.2.2.1 + mc) (e2 : h'.2.2.2.1 = hs.2.2.2.1 + ms) (a0 : Nat) (hth : jTh hs a0 7) : ∀ (x1 : Int32) (x2 : Int32) (x3 : Int32), ∀ (h : jH) (H : Heap) (locs : List Loc) (cells slots : Nat) (ls : Array Slot), (fX7_chance N a0 x1 x2 x3).1 h = some (r, h') → jS D dA H0 hs h H locs cells slots → lv_has ls 11 [(0, .ref a0), (1, .int x1), (2, .int x2), (3, .int x3)] → W p l e { frames := 6, cells := mc, slots := ms, locals := 147 } s m args below meth c H locs cells slots (jQ D dA H0 below s (.returned (some (.int r))) h' mc ms) (F0 m 0 ls []) := by
  have hx := cx.1
  have hb := cx.2.1
  have hown := cx.2.2.2.1
  have hts := cx.2.2.2.2.1
  have hm : h'.2.2.1 ≤ hs.2.2.1 + mc ∧ h'.2.2.2.1 ≤ hs.2.2.2.1 + ms := ⟨Nat.le_of_eq e1, Nat.le_of_eq e2⟩
  intro x1 x2 x3 h H locs cells slots ls hf hS hl
  unfold fX7_chance at hf
  refine lv_aload_n (pc := 0) hx hb dX7_chance_0 rfl (lv_at hl 0 rfl) ?_
  refine lv_iconst (pc := 1) (v := 0) hx hb dX7_chance_1 rfl ?_
  refine j_pI (pc := 2) cx hS hf fp_WornSkinModel_thrown (Or.inl rfl) q1684 dX7_chance_2 (fun h H locs hf hS => ?_)
  refine lv_aload_n (pc := 5) hx hb dX7_chance_5 rfl (lv_at hl 0 rfl) ?_
  refine lv_iload_n (pc := 6) hx hb dX7_chance_6 rfl (lv_at hl 1 rfl) ?_
  obtain ⟨y1, h1, e9, hf⟩ := jB_some hf
  refine j_callV (pc := 7) (st1 := [.int y1]) (As := [.int x1]) (rest := []) cx hS rfl hl.1 hm (metX7_isText l _ _ _ _ _ (hth.at hS) e9) (jle hf) (hth.at hS) rfl (lw_V q2071 q2073 qs89 q123 q2074) pdX7_isText rfl rfl (Nat.le_of_ble_eq_true rfl) ⟨Nat.le_of_ble_eq_true rfl, Nat.le_of_ble_eq_true rfl⟩ dX7_chance_7 rfl (fun H locs cells slots hS => ?_)
  refine lv_if_eq (pc := 10) (tgt := 33) hx hb dX7_chance_10 (by decide) (fun hc => ?_) (fun hc => ?_)
  · have hf := jI_t hf hc
    exact wX7_chance_33 cx e1 e2 a0 hth _ _ _ _ _ _ hf hS (lv_sub hl [0] rfl)
  · have hf := jI_f hf hc
    refine lv_iload_n (pc := 13) hx hb dX7_chance_13 rfl (lv_at hl 2 rfl) ?_
    refine lv_iconst (pc := 14) (v := 1) hx hb dX7_chance_14 rfl ?_
    refine lv_bipush (pc := 15) (v := 6) hx hb dX7_chance_15 rfl ?_
    obtain ⟨y2, h1, e9, hf⟩ := jB_some hf
    refine j_callS (pc := 17) (st1 := [.int y2]) (As := [.int x2, .int 1, .int 6]) (rest := []) cx hS rfl hl.1 hm (metX7_within l _ _ _ _ _ _ e9) (jle hf) (lw_S q1950 q1951 q123 q1952) pdX7_within rfl rfl (Nat.le_of_ble_eq_true rfl) ⟨Nat.le_of_ble_eq_true rfl, Nat.le_of_ble_eq_true rfl⟩ dX7_chance_17 rfl (fun H locs cells slots hS => ?_)
    refine lv_if_eq (pc := 20) (tgt := 33) hx hb dX7_chance_20 (by decide) (fun hc => ?_) (fun hc => ?_)
    · have hf := jI_t hf hc
      exact wX7_chance_33 cx e1 e2 a0 hth _ _ _ _ _ _ hf hS (lv_sub hl [0] rfl)
    · have hf := jI_f hf hc
      refine lv_iload_n (pc := 23) hx hb dX7_chance_23 rfl (lv_at hl 3 rfl) ?_
      refine lv_iconst (pc := 24) (v := 0) hx hb dX7_chance_24 rfl ?_
      refine lv_bipush (pc := 25) (v := 10) hx hb dX7_chance_25 rfl ?_
      obtain ⟨y3, h1, e9, hf⟩ := jB_some hf
      refine j_callS (pc := 27) (st1 := [.int y3]) (As := [.int x3, .int 0, .int 10]) (rest := []) cx hS rfl hl.1 hm (metX7_within l _ _ _ _ _ _ e9) (jle hf) (lw_S q1950 q1951 q123 q1952) pdX7_within rfl rfl (Nat.le_of_ble_eq_true rfl) ⟨Nat.le_of_ble_eq_true rfl, Nat.le_of_ble_eq_true rfl⟩ dX7_chance_27 rfl (fun H locs cells slots hS => ?_)
      refine lv_if_ne (pc := 30) (tgt := 35) hx hb dX7_chance_30 (by decide) (fun hc => ?_) (fun hc => ?_)
      · have hf := jI_f hf hc
        refine lv_aload_n (pc := 35) hx hb dX7_chance_35 rfl (lv_at hl 0 rfl) ?_
        refine lv_bipush (pc := 36) (v := 9) hx hb dX7_chance_36 rfl ?_
        obtain ⟨y4, h1, e9, hf⟩ := jB_some hf
        refine j_callV (pc := 38) (st1 := [.int y4]) (As := [.int 9]) (rest := []) cx hS rfl hl.1 hm (metX7_wholeBy l _ _ _ _ _ _ (hth.at hS) e9) (jle hf) (hth.at hS) rfl (lw_V q2079 q2081 qs91 q123 q2082) pdX7_wholeBy rfl rfl (Nat.le_of_ble_eq_true rfl) ⟨Nat.le_of_ble_eq_true rfl, Nat.le_of_ble_eq_true rfl⟩ dX7_chance_38 rfl (fun H locs cells slots hS => ?_)
        refine lv_iload_n (pc := 41) hx hb dX7_chance_41 rfl (lv_at hl 1 rfl) ?_
        refine lv_ishr (pc := 42) hx hb dX7_chance_42 ?_
        refine lv_iconst (pc := 43) (v := 1) hx hb dX7_chance_43 rfl ?_
        refine lv_iand (pc := 44) hx hb dX7_chance_44 ?_
        refine lv_iconst (pc := 45) (v := 1) hx hb dX7_chance_45 rfl ?_
        refine lv_icmp_ne (pc := 46) (tgt := 53) hx hb dX7_chance_46 (by decide) (fun hc => ?_) (fun hc => ?_)
        · have hf := jI_f hf hc
          refine lv_iload_n (pc := 53) hx hb dX7_chance_53 rfl (lv_at hl 3 rfl) ?_
          exact wX7_chance_54 cx e1 e2 a0 hth _ _ _ _ _ _ _ _ _ _ hf hS hl
        · have hf := jI_t hf hc
          refine lv_iconst (pc := 49) (v := 0) hx hb dX7_chance_49 rfl ?_
          refine lv_goto (pc := 50) (tgt := 54) hx hb dX7_chance_50 (by decide) ?_
          exact wX7_chance_54 cx e1 e2 a0 hth _ _ _ _ _ _ _ _ _ _ hf hS hl
      · have hf := jI_t hf hc
        exact wX7_chance_33 cx e1 e2 a0 hth _ _ _ _ _ _ hf hS (lv_sub hl [0] rfl)
theorem metX7_chance (l : Launch) (N : Nat) (a0 : Nat) (x1 : Int32) (x2 : Int32) (x3 : Int32) (h h' : jH) (r : Int32) (hth : jcd h a0 = some 7) (hf : (fX7_chance N a0 x1 x2 x3).1 h = some (r, h')) : jMet l yX7_chance (ws_ yX7_chance cX7_chance 11 (Option.some Jvm.ClassFile.FieldType.int)) (6) (147) [.ref a0, .int x1, .int x2, .int x3] h h' (.returned (some (.int r))) := by
  refine jStart rfl (jle hf) (Nat.le_of_ble_eq_true rfl) ?_
  intro p e s m below meth c D dA H0 mc ms ls cx hnm e1 e2 hS hl
  have hth := jTh.mk hS hth
  exact wX7_chance_0 cx e1 e2 a0 hth _ _ _ _ _ _ _ _ _ hf hS hl
def fX7_getsBy_31 (v0 : Int32) : jM Int32 := jR v0
def fX7_getsBy (x0 : Int32) (x1 : Int32) (x2 : Int32) (x3 : Int32) (x4 : Int32) : jM Int32 := if x3 = 1 then (if x4 = 1 then (fX7_getsBy_31 (-x0)) else (fX7_getsBy_31 x1)) else (if x4 = 1 then (fX7_getsBy_31 x2) else (fX7_getsBy_31 0))
theorem wX7_getsBy_31 {r : Int32} (cx : jCx p s m args meth c cX7_getsBy "WornSkinModel" 5 (Option.some Jvm.ClassFile.FieldType.int) D dA H0 hs.2.2.2.2) (e1 : h'.2.2.1 = hs.2.2.1 + mc) (e2 : h'.2.2.2.1 = hs.2.2.2.1 + ms) : ∀ (v0 : Int32), ∀ (h : jH) (H : Heap) (locs : List Loc) (cells slots : Nat) (ls : Array Slot), (fX7_getsBy_31 v0).1 h = some (r, h') → jS D dA H0 hs h H locs cells slots → lv_has ls 5 [] → W p l e { frames := 0, cells := mc, slots := ms, locals := 0 } s m args below meth c H locs cells slots (jQ D dA H0 below s (.returned (some (.int r))) h' mc ms) (F0 m 31 ls [.int v0]) := by
  have hx := cx.1
  have hb := cx.2.1
  have hown := cx.2.2.2.1
  have hts := cx.2.2.2.2.1
  have hm : h'.2.2.1 ≤ hs.2.2.1 + mc ∧ h'.2.2.2.1 ≤ hs.2.2.2.1 + ms := ⟨Nat.le_of_eq e1, Nat.le_of_eq e2⟩
  intro v0 h H locs cells slots ls hf hS hl
  unfold fX7_getsBy_31 at hf
  exact j_iret (pc := 31) cx hS hf e1 e2 dX7_getsBy_31
theorem wX7_getsBy_0 {r : Int32} (cx : jCx p s m args meth c cX7_getsBy "WornSkinModel" 5 (Option.some Jvm.ClassFile.FieldType.int) D dA H0 hs.2.2.2.2) (e1 : h'.2.2.1 = hs.2.2.1 + mc) (e2 : h'.2.2.2.1 = hs.2.2.2.1 + ms) : ∀ (x0 : Int32) (x1 : Int32) (x2 : Int32) (x3 : Int32) (x4 : Int32), ∀ (h : jH) (H : Heap) (locs : List Loc) (cells slots : Nat) (ls : Array Slot), (fX7_getsBy x0 x1 x2 x3 x4).1 h = some (r, h') → jS D dA H0 hs h H locs cells slots → lv_has ls 5 [(0, .int x0), (1, .int x1), (2, .int x2), (3, .int x3), (4, .int x4)] → W p l e { frames := 0, cells := mc, slots := ms, locals := 0 } s m args below meth c H locs cells slots (jQ D dA H0 below s (.returned (some (.int r))) h' mc ms) (F0 m 0 ls []) := by
  have hx := cx.1
  have hb := cx.2.1
  have hown := cx.2.2.2.1
  have hts := cx.2.2.2.2.1
  have hm : h'.2.2.1 ≤ hs.2.2.1 + mc ∧ h'.2.2.2.1 ≤ hs.2.2.2.1 + ms := ⟨Nat.le_of_eq e1, Nat.le_of_eq e2⟩
  intro x0 x1 x2 x3 x4 h H locs cells slots ls hf hS hl
  unfold fX7_getsBy at hf
  refine lv_iload_n (pc := 0) hx hb dX7_getsBy_0 rfl (lv_at hl 3 rfl) ?_
  refine lv_iconst (pc := 1) (v := 1) hx hb dX7_getsBy_1 rfl ?_
  refine lv_icmp_ne (pc := 2) (tgt := 20) hx hb dX7_getsBy_2 (by decide) (fun hc => ?_) (fun hc => ?_)
  · have hf := jI_f hf hc
    refine lv_iload (pc := 20) hx hb dX7_getsBy_20 (lv_at hl 4 rfl) ?_
    refine lv_iconst (pc := 22) (v := 1) hx hb dX7_getsBy_22 rfl ?_
    refine lv_icmp_ne (pc := 23) (tgt := 30) hx hb dX7_getsBy_23 (by decide) (fun hc => ?_) (fun hc => ?_)
    · have hf := jI_f hf hc
      refine lv_iconst (pc := 30) (v := 0) hx hb dX7_getsBy_30 rfl ?_
      exact wX7_getsBy_31 cx e1 e2 _ _ _ _ _ _ _ hf hS (lv_sub hl [] rfl)
    · have hf := jI_t hf hc
      refine lv_iload_n (pc := 26) hx hb dX7_getsBy_26 rfl (lv_at hl 2 rfl) ?_
      refine lv_goto (pc := 27) (tgt := 31) hx hb dX7_getsBy_27 (by decide) ?_
      exact wX7_getsBy_31 cx e1 e2 _ _ _ _ _ _ _ hf hS (lv_sub hl [] rfl)
  · have hf := jI_t hf hc
    refine lv_iload (pc := 5) hx hb dX7_getsBy_5 (lv_at hl 4 rfl) ?_
    refine lv_iconst (pc := 7) (v := 1) hx hb dX7_getsBy_7 rfl ?_
    refine lv_icmp_ne (pc := 8) (tgt := 16) hx hb dX7_getsBy_8 (by decide) (fun hc => ?_) (fun hc => ?_)
    · have hf := jI_f hf hc
      refine lv_iload_n (pc := 16) hx hb dX7_getsBy_16 rfl (lv_at hl 1 rfl) ?_
      refine lv_goto (pc := 17) (tgt := 31) hx hb dX7_getsBy_17 (by decide) ?_
      exact wX7_getsBy_31 cx e1 e2 _ _ _ _ _ _ _ hf hS (lv_sub hl [] rfl)
    · have hf := jI_t hf hc
      refine lv_iload_n (pc := 11) hx hb dX7_getsBy_11 rfl (lv_at hl 0 rfl) ?_
      refine lv_ineg (pc := 12) hx hb dX7_getsBy_12 ?_
      refine lv_goto (pc := 13) (tgt := 31) hx hb dX7_getsBy_13 (by decide) ?_
      exact wX7_getsBy_31 cx e1 e2 _ _ _ _ _ _ _ hf hS (lv_sub hl [] rfl)
theorem metX7_getsBy (l : Launch) (x0 : Int32) (x1 : Int32) (x2 : Int32) (x3 : Int32) (x4 : Int32) (h h' : jH) (r : Int32) (hf : (fX7_getsBy x0 x1 x2 x3 x4).1 h = some (r, h')) : jMet l yX7_getsBy (ws_ yX7_getsBy cX7_getsBy 5 (Option.some Jvm.ClassFile.FieldType.int)) (0) (0) [.int x0, .int x1, .int x2, .int x3, .int x4] h h' (.returned (some (.int r))) := by
  refine jStart rfl (jle hf) (Nat.le_of_ble_eq_true rfl) ?_
  intro p e s m below meth c D dA H0 mc ms ls cx hnm e1 e2 hS hl
  exact wX7_getsBy_0 cx e1 e2 _ _ _ _ _ _ _ _ _ _ _ hf hS hl
def fX7_rests_178 (N : Nat) (a0 : Nat) (v0 : Int32) : jM Int32 := jR v0
def fX7_rests_163 (N : Nat) (a0 : Nat) (x4 : Int32) (x5 : Int32) (v1 : Int32) : jM Int32 := jB (jpI [7] 0 (some a0) v1) fun _ => if x4 = (-1) then (fX7_rests_178 N a0 x5) else (fX7_rests_178 N a0 0)
def fX7_rests_151 (N : Nat) (a0 : Nat) (x4 : Int32) (x5 : Int32) : jM Int32 := if x4 = (-1) then (fX7_rests_163 N a0 x4 x5 0) else (fX7_rests_163 N a0 x4 x5 1)
def fX7_rests_145 (N : Nat) (k61 : Int32 → Int32 → Int32 → Int32 → Int32 → Int32 → jM Int32) (a0 : Nat) (x1 : Int32) (x2 : Int32) (x3 : Int32) (x4 : Int32) (x5 : Int32) (x6 : Int32) : jM Int32 := k61 x1 x2 x3 x4 x5 (x6 + 1)
def fX7_rests_139 (N : Nat) (a0 : Nat) (x6 : Int32) : jM Int32 := jR x6
def fX7_rests_61 (N : Nat) (a0 : Nat) : Nat → Int32 → Int32 → Int32 → Int32 → Int32 → Int32 → jM Int32
  | 0, _, _, _, _, _, _ => jE
  | n + 1, x1, x2, x3, x4, x5, x6 => if 4 ≤ x6 then (fX7_rests_151 N a0 x4 x5) else (jB (jnz 2) fun _ => jB (jnz 2) fun _ => jB (fX7_getsBy x1 x2 x3 (1 - (x6 / 2)) (x6 - x6 / 2 * 2)) fun y1 => jB (fX7_getsBy x1 x2 x3 (x6 / 2) (x6 - x6 / 2 * 2)) fun y2 => if y2 < y1 then (fX7_rests_145 N (fX7_rests_61 N a0 n) a0 x1 x2 x3 x4 x5 x6) else (jB (fX7_getsBy x1 x2 x3 (1 - (x6 - x6 / 2 * 2)) (x6 / 2)) fun y3 => jB (fX7_getsBy x1 x2 x3 (x6 - x6 / 2 * 2) (x6 / 2)) fun y4 => if y3 ≤ y4 then (if x5 = x4 then (fX7_rests_139 N a0 x6) else (fX7_rests_145 N (fX7_rests_61 N a0 n) a0 x1 x2 x3 x4 (x5 + 1) x6)) else (fX7_rests_145 N (fX7_rests_61 N a0 n) a0 x1 x2 x3 x4 x5 x6)))
def fX7_rests_42 (N : Nat) (a0 : Nat) (x1 : Int32) (x2 : Int32) (x3 : Int32) (x4 : Int32) (v1 : Int32) : jM Int32 := jB (jpI [7] 0 (some a0) v1) fun _ => jB (jgI [7] 0 (some a0)) fun y1 => if y1 = 1 then (jR 0) else (fX7_rests_61 N a0 N x1 x2 x3 x4 0 0)
def fX7_rests_41 (N : Nat) (a0 : Nat) (x1 : Int32) (x2 : Int32) (x3 : Int32) (x4 : Int32) : jM Int32 := fX7_rests_42 N a0 x1 x2 x3 x4 1
def fX7_rests (N : Nat) (a0 : Nat) (x1 : Int32) (x2 : Int32) (x3 : Int32) (x4 : Int32) : jM Int32 := jB (fX7_within x1 0 9) fun y1 => if y1 = 0 then (fX7_rests_41 N a0 x1 x2 x3 x4) else (jB (fX7_within x2 0 9) fun y2 => if y2 = 0 then (fX7_rests_41 N a0 x1 x2 x3 x4) else (jB (fX7_within x3 0 9) fun y3 => if y3 = 0 then (fX7_rests_41 N a0 x1 x2 x3 x4) else (if x4 < (-1) then (fX7_rests_41 N a0 x1 x2 x3 x4) else (fX7_rests_42 N a0 x1 x2 x3 x4 0))))
theorem wX7_rests_178 {N : Nat} {r : Int32} (cx : jCx p s m args meth c cX7_rests "WornSkinModel" 9 (Option.some Jvm.ClassFile.FieldType.int) D dA H0 hs.2.2.2.2) (e1 : h'.2.2.1 = hs.2.2.1 + mc) (e2 : h'.2.2.2.1 = hs.2.2.2.1 + ms) (a0 : Nat) (hth : jTh hs a0 7) : ∀ (v0 : Int32), ∀ (h : jH) (H : Heap) (locs : List Loc) (cells slots : Nat) (ls : Array Slot), (fX7_rests_178 N a0 v0).1 h = some (r, h') → jS D dA H0 hs h H locs cells slots → lv_has ls 9 [(0, .ref a0)] → W p l e { frames := 1, cells := mc, slots := ms, locals := 24 } s m args below meth c H locs cells slots (jQ D dA H0 below s (.returned (some (.int r))) h' mc ms) (F0 m 178 ls [.int v0]) := by
  have hx := cx.1
  have hb := cx.2.1
  have hown := cx.2.2.2.1
  have hts := cx.2.2.2.2.1
  have hm : h'.2.2.1 ≤ hs.2.2.1 + mc ∧ h'.2.2.2.1 ≤ hs.2.2.2.1 + ms := ⟨Nat.le_of_eq e1, Nat.le_of_eq e2⟩
  intro v0 h H locs cells slots ls hf hS hl
  unfold fX7_rests_178 at hf
  exact j_iret (pc := 178) cx hS hf e1 e2 dX7_rests_178
theorem wX7_rests_163 {N : Nat} {r : Int32} (cx : jCx p s m args meth c cX7_rests "WornSkinModel" 9 (Option.some Jvm.ClassFile.FieldType.int) D dA H0 hs.2.2.2.2) (e1 : h'.2.2.1 = hs.2.2.1 + mc) (e2 : h'.2.2.2.1 = hs.2.2.2.1 + ms) (a0 : Nat) (hth : jTh hs a0 7) : ∀ (x4 : Int32) (x5 : Int32) (v1 : Int32), ∀ (h : jH) (H : Heap) (locs : List Loc) (cells slots : Nat) (ls : Array Slot), (fX7_rests_163 N a0 x4 x5 v1).1 h = some (r, h') → jS D dA H0 hs h H locs cells slots → lv_has ls 9 [(0, .ref a0), (4, .int x4), (5, .int x5)] → W p l e { frames := 1, cells := mc, slots := ms, locals := 24 } s m args below meth c H locs cells slots (jQ D dA H0 below s (.returned (some (.int r))) h' mc ms) (F0 m 163 ls [.int v1, .ref a0]) := by
  have hx := cx.1
  have hb := cx.2.1
  have hown := cx.2.2.2.1
  have hts := cx.2.2.2.2.1
  have hm : h'.2.2.1 ≤ hs.2.2.1 + mc ∧ h'.2.2.2.1 ≤ hs.2.2.2.1 + ms := ⟨Nat.le_of_eq e1, Nat.le_of_eq e2⟩
  intro x4 x5 v1 h H locs cells slots ls hf hS hl
  unfold fX7_rests_163 at hf
  refine j_pI (pc := 163) cx hS hf fp_WornSkinModel_thrown (Or.inl rfl) q1684 dX7_rests_163 (fun h H locs hf hS => ?_)
  refine lv_iload (pc := 166) hx hb dX7_rests_166 (lv_at hl 1 rfl) ?_
  refine lv_iconst (pc := 168) (v := (-1)) hx hb dX7_rests_168 rfl ?_
  refine lv_icmp_ne (pc := 169) (tgt := 177) hx hb dX7_rests_169 (by decide) (fun hc => ?_) (fun hc => ?_)
  · have hf := jI_f hf hc
    refine lv_iconst (pc := 177) (v := 0) hx hb dX7_rests_177 rfl ?_
    exact wX7_rests_178 cx e1 e2 a0 hth _ _ _ _ _ _ _ hf hS (lv_sub hl [0] rfl)
  · have hf := jI_t hf hc
    refine lv_iload (pc := 172) hx hb dX7_rests_172 (lv_at hl 2 rfl) ?_
    refine lv_goto (pc := 174) (tgt := 178) hx hb dX7_rests_174 (by decide) ?_
    exact wX7_rests_178 cx e1 e2 a0 hth _ _ _ _ _ _ _ hf hS (lv_sub hl [0] rfl)
theorem wX7_rests_151 {N : Nat} {r : Int32} (cx : jCx p s m args meth c cX7_rests "WornSkinModel" 9 (Option.some Jvm.ClassFile.FieldType.int) D dA H0 hs.2.2.2.2) (e1 : h'.2.2.1 = hs.2.2.1 + mc) (e2 : h'.2.2.2.1 = hs.2.2.2.1 + ms) (a0 : Nat) (hth : jTh hs a0 7) : ∀ (x4 : Int32) (x5 : Int32), ∀ (h : jH) (H : Heap) (locs : List Loc) (cells slots : Nat) (ls : Array Slot), (fX7_rests_151 N a0 x4 x5).1 h = some (r, h') → jS D dA H0 hs h H locs cells slots → lv_has ls 9 [(0, .ref a0), (4, .int x4), (5, .int x5)] → W p l e { frames := 1, cells := mc, slots := ms, locals := 24 } s m args below meth c H locs cells slots (jQ D dA H0 below s (.returned (some (.int r))) h' mc ms) (F0 m 151 ls []) := by
  have hx := cx.1
  have hb := cx.2.1
  have hown := cx.2.2.2.1
  have hts := cx.2.2.2.2.1
  have hm : h'.2.2.1 ≤ hs.2.2.1 + mc ∧ h'.2.2.2.1 ≤ hs.2.2.2.1 + ms := ⟨Nat.le_of_eq e1, Nat.le_of_eq e2⟩
  intro x4 x5 h H locs cells slots ls hf hS hl
  unfold fX7_rests_151 at hf
  refine lv_aload_n (pc := 151) hx hb dX7_rests_151 rfl (lv_at hl 0 rfl) ?_
  refine lv_iload (pc := 152) hx hb dX7_rests_152 (lv_at hl 1 rfl) ?_
  refine lv_iconst (pc := 154) (v := (-1)) hx hb dX7_rests_154 rfl ?_
  refine lv_icmp_ne (pc := 155) (tgt := 162) hx hb dX7_rests_155 (by decide) (fun hc => ?_) (fun hc => ?_)
  · have hf := jI_f hf hc
    refine lv_iconst (pc := 162) (v := 1) hx hb dX7_rests_162 rfl ?_
    exact wX7_rests_163 cx e1 e2 a0 hth _ _ _ _ _ _ _ _ _ hf hS hl
  · have hf := jI_t hf hc
    refine lv_iconst (pc := 158) (v := 0) hx hb dX7_rests_158 rfl ?_
    refine lv_goto (pc := 159) (tgt := 163) hx hb dX7_rests_159 (by decide) ?_
    exact wX7_rests_163 cx e1 e2 a0 hth _ _ _ _ _ _ _ _ _ hf hS hl
theorem wX7_rests_145 {N : Nat} {k61 : Int32 → Int32 → Int32 → Int32 → Int32 → Int32 → jM Int32} {r : Int32} (cx : jCx p s m args meth c cX7_rests "WornSkinModel" 9 (Option.some Jvm.ClassFile.FieldType.int) D dA H0 hs.2.2.2.2) (e1 : h'.2.2.1 = hs.2.2.1 + mc) (e2 : h'.2.2.2.1 = hs.2.2.2.1 + ms) (a0 : Nat) (hth : jTh hs a0 7) (hk61 : ∀ (x1 : Int32) (x2 : Int32) (x3 : Int32) (x4 : Int32) (x5 : Int32) (x6 : Int32), ∀ (h : jH) (H : Heap) (locs : List Loc) (cells slots : Nat) (ls : Array Slot), (k61 x1 x2 x3 x4 x5 x6).1 h = some (r, h') → jS D dA H0 hs h H locs cells slots → lv_has ls 9 [(0, .ref a0), (1, .int x1), (2, .int x2), (3, .int x3), (4, .int x4), (5, .int x5), (6, .int x6)] → W p l e { frames := 1, cells := mc, slots := ms, locals := 24 } s m args below meth c H locs cells slots (jQ D dA H0 below s (.returned (some (.int r))) h' mc ms) (F0 m 61 ls [])) : ∀ (x1 : Int32) (x2 : Int32) (x3 : Int32) (x4 : Int32) (x5 : Int32) (x6 : Int32), ∀ (h : jH) (H : Heap) (locs : List Loc) (cells slots : Nat) (ls : Array Slot), (fX7_rests_145 N k61 a0 x1 x2 x3 x4 x5 x6).1 h = some (r, h') → jS D dA H0 hs h H locs cells slots → lv_has ls 9 [(0, .ref a0), (1, .int x1), (2, .int x2), (3, .int x3), (4, .int x4), (5, .int x5), (6, .int x6)] → W p l e { frames := 1, cells := mc, slots := ms, locals := 24 } s m args below meth c H locs cells slots (jQ D dA H0 below s (.returned (some (.int r))) h' mc ms) (F0 m 145 ls []) := by
  have hx := cx.1
  have hb := cx.2.1
  have hown := cx.2.2.2.1
  have hts := cx.2.2.2.2.1
  have hm : h'.2.2.1 ≤ hs.2.2.1 + mc ∧ h'.2.2.2.1 ≤ hs.2.2.2.1 + ms := ⟨Nat.le_of_eq e1, Nat.le_of_eq e2⟩
  intro x1 x2 x3 x4 x5 x6 h H locs cells slots ls hf hS hl
  unfold fX7_rests_145 at hf
  refine lv_iinc (pc := 145) (v := (x6 + 1)) (lv' := [(6, .int (x6 + 1)), (0, .ref a0), (1, .int x1), (2, .int x2), (3, .int x3), (4, .int x4), (5, .int x5)]) hx hb dX7_rests_145 hl (k := 6) rfl rfl (Nat.le_of_ble_eq_true rfl) rfl (fun ls hl => ?_)
  refine lv_goto (pc := 148) (tgt := 61) hx hb dX7_rests_148 (by decide) ?_
  exact hk61 _ _ _ _ _ _ _ _ _ _ _ _ hf hS (lv_sub hl [1, 2, 3, 4, 5, 6, 0] rfl)
theorem wX7_rests_139 {N : Nat} {r : Int32} (cx : jCx p s m args meth c cX7_rests "WornSkinModel" 9 (Option.some Jvm.ClassFile.FieldType.int) D dA H0 hs.2.2.2.2) (e1 : h'.2.2.1 = hs.2.2.1 + mc) (e2 : h'.2.2.2.1 = hs.2.2.2.1 + ms) (a0 : Nat) (hth : jTh hs a0 7) : ∀ (x6 : Int32), ∀ (h : jH) (H : Heap) (locs : List Loc) (cells slots : Nat) (ls : Array Slot), (fX7_rests_139 N a0 x6).1 h = some (r, h') → jS D dA H0 hs h H locs cells slots → lv_has ls 9 [(0, .ref a0), (6, .int x6)] → W p l e { frames := 1, cells := mc, slots := ms, locals := 24 } s m args below meth c H locs cells slots (jQ D dA H0 below s (.returned (some (.int r))) h' mc ms) (F0 m 139 ls []) := by
  have hx := cx.1
  have hb := cx.2.1
  have hown := cx.2.2.2.1
  have hts := cx.2.2.2.2.1
  have hm : h'.2.2.1 ≤ hs.2.2.1 + mc ∧ h'.2.2.2.1 ≤ hs.2.2.2.1 + ms := ⟨Nat.le_of_eq e1, Nat.le_of_eq e2⟩
  intro x6 h H locs cells slots ls hf hS hl
  unfold fX7_rests_139 at hf
  refine lv_iload (pc := 139) hx hb dX7_rests_139 (lv_at hl 1 rfl) ?_
  exact j_iret (pc := 141) cx hS hf e1 e2 dX7_rests_141
theorem wX7_rests_61 {N : Nat} {r : Int32} (cx : jCx p s m args meth c cX7_rests "WornSkinModel" 9 (Option.some Jvm.ClassFile.FieldType.int) D dA H0 hs.2.2.2.2) (e1 : h'.2.2.1 = hs.2.2.1 + mc) (e2 : h'.2.2.2.1 = hs.2.2.2.1 + ms) (a0 : Nat) (hth : jTh hs a0 7) : ∀ (n : Nat) (x1 : Int32) (x2 : Int32) (x3 : Int32) (x4 : Int32) (x5 : Int32) (x6 : Int32), ∀ (h : jH) (H : Heap) (locs : List Loc) (cells slots : Nat) (ls : Array Slot), (fX7_rests_61 N a0 n x1 x2 x3 x4 x5 x6).1 h = some (r, h') → jS D dA H0 hs h H locs cells slots → lv_has ls 9 [(0, .ref a0), (1, .int x1), (2, .int x2), (3, .int x3), (4, .int x4), (5, .int x5), (6, .int x6)] → W p l e { frames := 1, cells := mc, slots := ms, locals := 24 } s m args below meth c H locs cells slots (jQ D dA H0 below s (.returned (some (.int r))) h' mc ms) (F0 m 61 ls []) := by
  have hx := cx.1
  have hb := cx.2.1
  have hown := cx.2.2.2.1
  have hts := cx.2.2.2.2.1
  have hm : h'.2.2.1 ≤ hs.2.2.1 + mc ∧ h'.2.2.2.1 ≤ hs.2.2.2.1 + ms := ⟨Nat.le_of_eq e1, Nat.le_of_eq e2⟩
  intro n
  induction n with
  | zero =>
    intro x1 x2 x3 x4 x5 x6 h H locs cells slots ls hf hS hl
    exact jE_f hf
  | succ n ih =>
    intro x1 x2 x3 x4 x5 x6 h H locs cells slots ls hf hS hl
    unfold fX7_rests_61 at hf
    refine lv_iload (pc := 61) hx hb dX7_rests_61 (lv_at hl 6 rfl) ?_
    refine lv_iconst (pc := 63) (v := 4) hx hb dX7_rests_63 rfl ?_
    refine lv_icmp_ge (pc := 64) (tgt := 151) hx hb dX7_rests_64 (by decide) (fun hc => ?_) (fun hc => ?_)
    · have hf := jI_t hf hc
      exact wX7_rests_151 cx e1 e2 a0 hth _ _ _ _ _ _ _ _ hf hS (lv_sub hl [0, 4, 5] rfl)
    · have hf := jI_f hf hc
      refine lv_iload (pc := 67) hx hb dX7_rests_67 (lv_at hl 6 rfl) ?_
      refine lv_iconst (pc := 69) (v := 2) hx hb dX7_rests_69 rfl ?_
      obtain ⟨hne, hf⟩ := jnz_s hf
      refine lv_idiv (pc := 70) hx hb dX7_rests_70 hne ?_
      refine lv_istore (pc := 71) (i := 7) (lv' := [(7, .int (x6 / 2)), (0, .ref a0), (1, .int x1), (2, .int x2), (3, .int x3), (4, .int x4), (5, .int x5), (6, .int x6)]) hx hb dX7_rests_71 hl (Nat.le_of_ble_eq_true rfl) rfl (fun ls hl => ?_)
      refine lv_iload (pc := 73) hx hb dX7_rests_73 (lv_at hl 7 rfl) ?_
      refine lv_iconst (pc := 75) (v := 2) hx hb dX7_rests_75 rfl ?_
      obtain ⟨hne, hf⟩ := jnz_s hf
      refine lv_irem (pc := 76) hx hb dX7_rests_76 hne ?_
      refine lv_istore (pc := 77) (i := 8) (lv' := [(8, .int (x6 - x6 / 2 * 2)), (7, .int (x6 / 2)), (0, .ref a0), (1, .int x1), (2, .int x2), (3, .int x3), (4, .int x4), (5, .int x5), (6, .int x6)]) hx hb dX7_rests_77 hl (Nat.le_of_ble_eq_true rfl) rfl (fun ls hl => ?_)
      refine lv_iload_n (pc := 79) hx hb dX7_rests_79 rfl (lv_at hl 3 rfl) ?_
      refine lv_iload_n (pc := 80) hx hb dX7_rests_80 rfl (lv_at hl 4 rfl) ?_
      refine lv_iload_n (pc := 81) hx hb dX7_rests_81 rfl (lv_at hl 5 rfl) ?_
      refine lv_iconst (pc := 82) (v := 1) hx hb dX7_rests_82 rfl ?_
      refine lv_iload (pc := 83) hx hb dX7_rests_83 (lv_at hl 1 rfl) ?_
      refine lv_isub (pc := 85) hx hb dX7_rests_85 ?_
      refine lv_iload (pc := 86) hx hb dX7_rests_86 (lv_at hl 0 rfl) ?_
      obtain ⟨y1, h1, e9, hf⟩ := jB_some hf
      refine j_callS (pc := 88) (st1 := [.int y1]) (As := [.int x1, .int x2, .int x3, .int (1 - (x6 / 2)), .int (x6 - x6 / 2 * 2)]) (rest := []) cx hS rfl hl.1 hm (metX7_getsBy l _ _ _ _ _ _ _ _ e9) (jle hf) (lw_S q2269 q2270 q123 q2271) pdX7_getsBy rfl rfl (Nat.le_of_ble_eq_true rfl) ⟨Nat.le_of_ble_eq_true rfl, Nat.le_of_ble_eq_true rfl⟩ dX7_rests_88 rfl (fun H locs cells slots hS => ?_)
      refine lv_iload_n (pc := 91) hx hb dX7_rests_91 rfl (lv_at hl 3 rfl) ?_
      refine lv_iload_n (pc := 92) hx hb dX7_rests_92 rfl (lv_at hl 4 rfl) ?_
      refine lv_iload_n (pc := 93) hx hb dX7_rests_93 rfl (lv_at hl 5 rfl) ?_
      refine lv_iload (pc := 94) hx hb dX7_rests_94 (lv_at hl 1 rfl) ?_
      refine lv_iload (pc := 96) hx hb dX7_rests_96 (lv_at hl 0 rfl) ?_
      obtain ⟨y2, h1, e9, hf⟩ := jB_some hf
      refine j_callS (pc := 98) (st1 := [.int y2, .int y1]) (As := [.int x1, .int x2, .int x3, .int (x6 / 2), .int (x6 - x6 / 2 * 2)]) (rest := [.int y1]) cx hS rfl hl.1 hm (metX7_getsBy l _ _ _ _ _ _ _ _ e9) (jle hf) (lw_S q2269 q2270 q123 q2271) pdX7_getsBy rfl rfl (Nat.le_of_ble_eq_true rfl) ⟨Nat.le_of_ble_eq_true rfl, Nat.le_of_ble_eq_true rfl⟩ dX7_rests_98 rfl (fun H locs cells slots hS => ?_)
      refine lv_icmp_gt (pc := 101) (tgt := 145) hx hb dX7_rests_101 (by decide) (fun hc => ?_) (fun hc => ?_)
      · have hf := jI_t hf hc
        exact wX7_rests_145 cx e1 e2 a0 hth ih _ _ _ _ _ _ _ _ _ _ _ _ hf hS (lv_sub hl [2, 3, 4, 5, 6, 7, 8] rfl)
      · have hf := jI_f hf hc
        refine lv_iload_n (pc := 104) hx hb dX7_rests_104 rfl (lv_at hl 3 rfl) ?_
        refine lv_iload_n (pc := 105) hx hb dX7_rests_105 rfl (lv_at hl 4 rfl) ?_
        refine lv_iload_n (pc := 106) hx hb dX7_rests_106 rfl (lv_at hl 5 rfl) ?_
        refine lv_iconst (pc := 107) (v := 1) hx hb dX7_rests_107 rfl ?_
        refine lv_iload (pc := 108) hx hb dX7_rests_108 (lv_at hl 0 rfl) ?_
        refine lv_isub (pc := 110) hx hb dX7_rests_110 ?_
        refine lv_iload (pc := 111) hx hb dX7_rests_111 (lv_at hl 1 rfl) ?_
        obtain ⟨y3, h1, e9, hf⟩ := jB_some hf
        refine j_callS (pc := 113) (st1 := [.int y3]) (As := [.int x1, .int x2, .int x3, .int (1 - (x6 - x6 / 2 * 2)), .int (x6 / 2)]) (rest := []) cx hS rfl hl.1 hm (metX7_getsBy l _ _ _ _ _ _ _ _ e9) (jle hf) (lw_S q2269 q2270 q123 q2271) pdX7_getsBy rfl rfl (Nat.le_of_ble_eq_true rfl) ⟨Nat.le_of_ble_eq_true rfl, Nat.le_of_ble_eq_true rfl⟩ dX7_rests_113 rfl (fun H locs cells slots hS => ?_)
        refine lv_iload_n (pc := 116) hx hb dX7_rests_116 rfl (lv_at hl 3 rfl) ?_
        refine lv_iload_n (pc := 117) hx hb dX7_rests_117 rfl (lv_at hl 4 rfl) ?_
        refine lv_iload_n (pc := 118) hx hb dX7_rests_118 rfl (lv_at hl 5 rfl) ?_
        refine lv_iload (pc := 119) hx hb dX7_rests_119 (lv_at hl 0 rfl) ?_
        refine lv_iload (pc := 121) hx hb dX7_rests_121 (lv_at hl 1 rfl) ?_
        obtain ⟨y4, h1, e9, hf⟩ := jB_some hf
        refine j_callS (pc := 123) (st1 := [.int y4, .int y3]) (As := [.int x1, .int x2, .int x3, .int (x6 - x6 / 2 * 2), .int (x6 / 2)]) (rest := [.int y3]) cx hS rfl hl.1 hm (metX7_getsBy l _ _ _ _ _ _ _ _ e9) (jle hf) (lw_S q2269 q2270 q123 q2271) pdX7_getsBy rfl rfl (Nat.le_of_ble_eq_true rfl) ⟨Nat.le_of_ble_eq_true rfl, Nat.le_of_ble_eq_true rfl⟩ dX7_rests_123 rfl (fun H locs cells slots hS => ?_)
        refine lv_icmp_le (pc := 126) (tgt := 132) hx hb dX7_rests_126 (by decide) (fun hc => ?_) (fun hc => ?_)
        · have hf := jI_t hf hc
          refine lv_iload (pc := 132) hx hb dX7_rests_132 (lv_at hl 7 rfl) ?_
          refine lv_iload (pc := 134) hx hb dX7_rests_134 (lv_at hl 6 rfl) ?_
          refine lv_icmp_ne (pc := 136) (tgt := 142) hx hb dX7_rests_136 (by decide) (fun hc => ?_) (fun hc => ?_)
          · have hf := jI_f hf hc
            refine lv_iinc (pc := 142) (v := (x5 + 1)) (lv' := [(5, .int (x5 + 1)), (8, .int (x6 - x6 / 2 * 2)), (7, .int (x6 / 2)), (0, .ref a0), (1, .int x1), (2, .int x2), (3, .int x3), (4, .int x4), (6, .int x6)]) hx hb dX7_rests_142 hl (k := 7) rfl rfl (Nat.le_of_ble_eq_true rfl) rfl (fun ls hl => ?_)
            exact wX7_rests_145 cx e1 e2 a0 hth ih _ _ _ _ _ _ _ _ _ _ _ _ hf hS (lv_sub hl [3, 4, 5, 6, 7, 0, 8] rfl)
          · have hf := jI_t hf hc
            exact wX7_rests_139 cx e1 e2 a0 hth _ _ _ _ _ _ _ hf hS (lv_sub hl [2, 8] rfl)
        · have hf := jI_f hf hc
          refine lv_goto (pc := 129) (tgt := 145) hx hb dX7_rests_129 (by decide) ?_
          exact wX7_rests_145 cx e1 e2 a0 hth ih _ _ _ _ _ _ _ _ _ _ _ _ hf hS (lv_sub hl [2, 3, 4, 5, 6, 7, 8] rfl)
theorem wX7_rests_42 {N : Nat} {r : Int32} (cx : jCx p s m args meth c cX7_rests "WornSkinModel" 9 (Option.some Jvm.ClassFile.FieldType.int) D dA H0 hs.2.2.2.2) (e1 : h'.2.2.1 = hs.2.2.1 + mc) (e2 : h'.2.2.2.1 = hs.2.2.2.1 + ms) (a0 : Nat) (hth : jTh hs a0 7) : ∀ (x1 : Int32) (x2 : Int32) (x3 : Int32) (x4 : Int32) (v1 : Int32), ∀ (h : jH) (H : Heap) (locs : List Loc) (cells slots : Nat) (ls : Array Slot), (fX7_rests_42 N a0 x1 x2 x3 x4 v1).1 h = some (r, h') → jS D dA H0 hs h H locs cells slots → lv_has ls 9 [(0, .ref a0), (1, .int x1), (2, .int x2), (3, .int x3), (4, .int x4)] → W p l e { frames := 1, cells := mc, slots := ms, locals := 24 } s m args below meth c H locs cells slots (jQ D dA H0 below s (.returned (some (.int r))) h' mc ms) (F0 m 42 ls [.int v1, .ref a0]) := by
  have hx := cx.1
  have hb := cx.2.1
  have hown := cx.2.2.2.1
  have hts := cx.2.2.2.2.1
  have hm : h'.2.2.1 ≤ hs.2.2.1 + mc ∧ h'.2.2.2.1 ≤ hs.2.2.2.1 + ms := ⟨Nat.le_of_eq e1, Nat.le_of_eq e2⟩
  intro x1 x2 x3 x4 v1 h H locs cells slots ls hf hS hl
  unfold fX7_rests_42 at hf
  refine j_pI (pc := 42) cx hS hf fp_WornSkinModel_thrown (Or.inl rfl) q1684 dX7_rests_42 (fun h H locs hf hS => ?_)
  refine lv_aload_n (pc := 45) hx hb dX7_rests_45 rfl (lv_at hl 0 rfl) ?_
  refine j_gI (pc := 46) cx hS hf fd_WornSkinModel_thrown q1684 dX7_rests_46 (fun y1 hf => ?_)
  refine lv_iconst (pc := 49) (v := 1) hx hb dX7_rests_49 rfl ?_
  refine lv_icmp_ne (pc := 50) (tgt := 55) hx hb dX7_rests_50 (by decide) (fun hc => ?_) (fun hc => ?_)
  · have hf := jI_f hf hc
    refine lv_iconst (pc := 55) (v := 0) hx hb dX7_rests_55 rfl ?_
    refine lv_istore (pc := 56) (i := 5) (lv' := [(5, .int 0), (0, .ref a0), (1, .int x1), (2, .int x2), (3, .int x3), (4, .int x4)]) hx hb dX7_rests_56 hl (Nat.le_of_ble_eq_true rfl) rfl (fun ls hl => ?_)
    refine lv_iconst (pc := 58) (v := 0) hx hb dX7_rests_58 rfl ?_
    refine lv_istore (pc := 59) (i := 6) (lv' := [(6, .int 0), (5, .int 0), (0, .ref a0), (1, .int x1), (2, .int x2), (3, .int x3), (4, .int x4)]) hx hb dX7_rests_59 hl (Nat.le_of_ble_eq_true rfl) rfl (fun ls hl => ?_)
    exact wX7_rests_61 cx e1 e2 a0 hth N _ _ _ _ _ _ _ _ _ _ _ _ hf hS (lv_sub hl [2, 3, 4, 5, 6, 1, 0] rfl)
  · have hf := jI_t hf hc
    refine lv_iconst (pc := 53) (v := 0) hx hb dX7_rests_53 rfl ?_
    exact j_iret (pc := 54) cx hS hf e1 e2 dX7_rests_54
theorem wX7_rests_41 {N : Nat} {r : Int32} (cx : jCx p s m args meth c cX7_rests "WornSkinModel" 9 (Option.some Jvm.ClassFile.FieldType.int) D dA H0 hs.2.2.2.2) (e1 : h'.2.2.1 = hs.2.2.1 + mc) (e2 : h'.2.2.2.1 = hs.2.2.2.1 + ms) (a0 : Nat) (hth : jTh hs a0 7) : ∀ (x1 : Int32) (x2 : Int32) (x3 : Int32) (x4 : Int32), ∀ (h : jH) (H : Heap) (locs : List Loc) (cells slots : Nat) (ls : Array Slot), (fX7_rests_41 N a0 x1 x2 x3 x4).1 h = some (r, h') → jS D dA H0 hs h H locs cells slots → lv_has ls 9 [(0, .ref a0), (1, .int x1), (2, .int x2), (3, .int x3), (4, .int x4)] → W p l e { frames := 1, cells := mc, slots := ms, locals := 24 } s m args below meth c H locs cells slots (jQ D dA H0 below s (.returned (some (.int r))) h' mc ms) (F0 m 41 ls [.ref a0]) := by
  have hx := cx.1
  have hb := cx.2.1
  have hown := cx.2.2.2.1
  have hts := cx.2.2.2.2.1
  have hm : h'.2.2.1 ≤ hs.2.2.1 + mc ∧ h'.2.2.2.1 ≤ hs.2.2.2.1 + ms := ⟨Nat.le_of_eq e1, Nat.le_of_eq e2⟩
  intro x1 x2 x3 x4 h H locs cells slots ls hf hS hl
  unfold fX7_rests_41 at hf
  refine lv_iconst (pc := 41) (v := 1) hx hb dX7_rests_41 rfl ?_
  exact wX7_rests_42 cx e1 e2 a0 hth _ _ _ _ _ _ _ _ _ _ _ hf hS hl
theorem wX7_rests_0 {N : Nat} {r : Int32} (cx : jCx p s m args meth c cX7_rests "WornSkinModel" 9 (Option.some Jvm.ClassFile.FieldType.int) D dA H0 hs.2.2.2.2) (e1 : h'.2.2.1 = hs.2.2.1 + mc) (e2 : h'.2.2.2.1 = hs.2.2.2.1 + ms) (a0 : Nat) (hth : jTh hs a0 7) : ∀ (x1 : Int32) (x2 : Int32) (x3 : Int32) (x4 : Int32), ∀ (h : jH) (H : Heap) (locs : List Loc) (cells slots : Nat) (ls : Array Slot), (fX7_rests N a0 x1 x2 x3 x4).1 h = some (r, h') → jS D dA H0 hs h H locs cells slots → lv_has ls 9 [(0, .ref a0), (1, .int x1), (2, .int x2), (3, .int x3), (4, .int x4)] → W p l e { frames := 1, cells := mc, slots := ms, locals := 24 } s m args below meth c H locs cells slots (jQ D dA H0 below s (.returned (some (.int r))) h' mc ms) (F0 m 0 ls []) := by
  have hx := cx.1
  have hb := cx.2.1
  have hown := cx.2.2.2.1
  have hts := cx.2.2.2.2.1
  have hm : h'.2.2.1 ≤ hs.2.2.1 + mc ∧ h'.2.2.2.1 ≤ hs.2.2.2.1 + ms := ⟨Nat.le_of_eq e1, Nat.le_of_eq e2⟩
  intro x1 x2 x3 x4 h H locs cells slots ls hf hS hl
  unfold fX7_rests at hf
  refine lv_aload_n (pc := 0) hx hb dX7_rests_0 rfl (lv_at hl 0 rfl) ?_
  refine lv_iload_n (pc := 1) hx hb dX7_rests_1 rfl (lv_at hl 1 rfl) ?_
  refine lv_iconst (pc := 2) (v := 0) hx hb dX7_rests_2 rfl ?_
  refine lv_bipush (pc := 3) (v := 9) hx hb dX7_rests_3 rfl ?_
  obtain ⟨y1, h1, e9, hf⟩ := jB_some hf
  refine j_callS (pc := 5) (st1 := [.int y1, .ref a0]) (As := [.int x1, .int 0, .int 9]) (rest := [.ref a0]) cx hS rfl hl.1 hm (metX7_within l _ _ _ _ _ _ e9) (jle hf) (lw_S q1950 q1951 q123 q1952) pdX7_within rfl rfl (Nat.le_of_ble_eq_true rfl) ⟨Nat.le_of_ble_eq_true rfl, Nat.le_of_ble_eq_true rfl⟩ dX7_rests_5 rfl (fun H locs cells slots hS => ?_)
  refine lv_if_eq (pc := 8) (tgt := 41) hx hb dX7_rests_8 (by decide) (fun hc => ?_) (fun hc => ?_)
  · have hf := jI_t hf hc
    exact wX7_rests_41 cx e1 e2 a0 hth _ _ _ _ _ _ _ _ _ _ hf hS hl
  · have hf := jI_f hf hc
    refine lv_iload_n (pc := 11) hx hb dX7_rests_11 rfl (lv_at hl 2 rfl) ?_
    refine lv_iconst (pc := 12) (v := 0) hx hb dX7_rests_12 rfl ?_
    refine lv_bipush (pc := 13) (v := 9) hx hb dX7_rests_13 rfl ?_
    obtain ⟨y2, h1, e9, hf⟩ := jB_some hf
    refine j_callS (pc := 15) (st1 := [.int y2, .ref a0]) (As := [.int x2, .int 0, .int 9]) (rest := [.ref a0]) cx hS rfl hl.1 hm (metX7_within l _ _ _ _ _ _ e9) (jle hf) (lw_S q1950 q1951 q123 q1952) pdX7_within rfl rfl (Nat.le_of_ble_eq_true rfl) ⟨Nat.le_of_ble_eq_true rfl, Nat.le_of_ble_eq_true rfl⟩ dX7_rests_15 rfl (fun H locs cells slots hS => ?_)
    refine lv_if_eq (pc := 18) (tgt := 41) hx hb dX7_rests_18 (by decide) (fun hc => ?_) (fun hc => ?_)
    · have hf := jI_t hf hc
      exact wX7_rests_41 cx e1 e2 a0 hth _ _ _ _ _ _ _ _ _ _ hf hS hl
    · have hf := jI_f hf hc
      refine lv_iload_n (pc := 21) hx hb dX7_rests_21 rfl (lv_at hl 3 rfl) ?_
      refine lv_iconst (pc := 22) (v := 0) hx hb dX7_rests_22 rfl ?_
      refine lv_bipush (pc := 23) (v := 9) hx hb dX7_rests_23 rfl ?_
      obtain ⟨y3, h1, e9, hf⟩ := jB_some hf
      refine j_callS (pc := 25) (st1 := [.int y3, .ref a0]) (As := [.int x3, .int 0, .int 9]) (rest := [.ref a0]) cx hS rfl hl.1 hm (metX7_within l _ _ _ _ _ _ e9) (jle hf) (lw_S q1950 q1951 q123 q1952) pdX7_within rfl rfl (Nat.le_of_ble_eq_true rfl) ⟨Nat.le_of_ble_eq_true rfl, Nat.le_of_ble_eq_true rfl⟩ dX7_rests_25 rfl (fun H locs cells slots hS => ?_)
      refine lv_if_eq (pc := 28) (tgt := 41) hx hb dX7_rests_28 (by decide) (fun hc => ?_) (fun hc => ?_)
      · have hf := jI_t hf hc
        exact wX7_rests_41 cx e1 e2 a0 hth _ _ _ _ _ _ _ _ _ _ hf hS hl
      · have hf := jI_f hf hc
        refine lv_iload (pc := 31) hx hb dX7_rests_31 (lv_at hl 4 rfl) ?_
        refine lv_iconst (pc := 33) (v := (-1)) hx hb dX7_rests_33 rfl ?_
        refine lv_icmp_lt (pc := 34) (tgt := 41) hx hb dX7_rests_34 (by decide) (fun hc => ?_) (fun hc => ?_)
        · have hf := jI_t hf hc
          exact wX7_rests_41 cx e1 e2 a0 hth _ _ _ _ _ _ _ _ _ _ hf hS hl
        · have hf := jI_f hf hc
          refine lv_iconst (pc := 37) (v := 0) hx hb dX7_rests_37 rfl ?_
          refine lv_goto (pc := 38) (tgt := 42) hx hb dX7_rests_38 (by decide) ?_
          exact wX7_rests_42 cx e1 e2 a0 hth _ _ _ _ _ _ _ _ _ _ _ hf hS hl
theorem metX7_rests (l : Launch) (N : Nat) (a0 : Nat) (x1 : Int32) (x2 : Int32) (x3 : Int32) (x4 : Int32) (h h' : jH) (r : Int32) (hth : jcd h a0 = some 7) (hf : (fX7_rests N a0 x1 x2 x3 x4).1 h = some (r, h')) : jMet l yX7_rests (ws_ yX7_rests cX7_rests 9 (Option.some Jvm.ClassFile.FieldType.int)) (1) (24) [.ref a0, .int x1, .int x2, .int x3, .int x4] h h' (.returned (some (.int r))) := by
  refine jStart rfl (jle hf) (Nat.le_of_ble_eq_true rfl) ?_
  intro p e s m below meth c D dA H0 mc ms ls cx hnm e1 e2 hS hl
  have hth := jTh.mk hS hth
  exact wX7_rests_0 cx e1 e2 a0 hth _ _ _ _ _ _ _ _ _ _ hf hS hl
end
