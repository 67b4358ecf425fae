set_option maxRecDepth 100000
section
variable {p : Program} {l : Launch} {e : Env} {s : State} {m : MethodId} {args : Array Value} {below : List Frame} {meth : Method} {c : Code} {D : va_G} {dA : Nat → ClassId → Prop} {H0 : Heap} {hs h' : jH} {mc ms : Nat}
def fX7_read_34 (N : Nat) (a0 : Nat) (v0 : Int32) : jM Int32 := jR v0
def fX7_read (N : Nat) (a0 : Nat) (x1 : Int32) (x2 : Int32) : jM Int32 := jB (jpI [7] 0 (some a0) 0) fun _ => jB (fX7_isLine a0 x1 x2) fun y1 => if y1 = 0 then (fX7_read_34 N a0 (-1)) else (jB (jgR [7] 48 (some a0)) fun y2 => jB (jaI 0 y2 0) fun y3 => jB (fX7_dampOf a0 y3) fun y4 => jB (fX7_readBy N a0 x1 x2 y4) fun y5 => fX7_read_34 N a0 y5)
theorem wX7_read_34 {N : Nat} {r : Int32} (cx : jCx p s m args meth c cX7_read "WornSkinModel" 3 (Option.some Jvm.ClassFile.FieldType.int) D dA H0 hs.2.2.2.2) (e1 : h'.2.2.1 = hs.2.2.1 + mc) (e2 : h'.2.2.2.1 = hs.2.2.2.1 + ms) (a0 : Nat) (hth : jTh hs a0 7) : ∀ (v0 : Int32), ∀ (h : jH) (H : Heap) (locs : List Loc) (cells slots : Nat) (ls : Array Slot), (fX7_read_34 N a0 v0).1 h = some (r, h') → jS D dA H0 hs h H locs cells slots → lv_has ls 3 [(0, .ref a0)] → W p l e { frames := 5, cells := mc, slots := ms, locals := 120 } s m args below meth c H locs cells slots (jQ D dA H0 below s (.returned (some (.int r))) h' mc ms) (F0 m 34 ls [.int v0]) := by
  have hx := cx.1
  have hb := cx.2.1
  have hown := cx.2.2.2.1
  have hts := cx.2.2.2.2.1
  have hm : h'.2.2.1 ≤ hs.2.2.1 + mc ∧ h'.2.2.2.1 ≤ hs.2.2.2.1 + ms := ⟨Nat.le_of_eq e1, Nat.le_of_eq e2⟩
  intro v0 h H locs cells slots ls hf hS hl
  unfold fX7_read_34 at hf
  exact j_iret (pc := 34) cx hS hf e1 e2 dX7_read_34
theorem wX7_read_0 {N : Nat} {r : Int32} (cx : jCx p s m args meth c cX7_read "WornSkinModel" 3 (Option.some Jvm.ClassFile.FieldType.int) D dA H0 hs.2.2.2.2) (e1 : h'.2.2.1 = hs.2.2.1 + mc) (e2 : h'.2.2.2.1 = hs.2.2.2.1 + ms) (a0 : Nat) (hth : jTh hs a0 7) : ∀ (x1 : Int32) (x2 : Int32), ∀ (h : jH) (H : Heap) (locs : List Loc) (cells slots : Nat) (ls : Array Slot), (fX7_read N a0 x1 x2).1 h = some (r, h') → jS D dA H0 hs h H locs cells slots → lv_has ls 3 [(0, .ref a0), (1, .int x1), (2, .int x2)] → W p l e { frames := 5, cells := mc, slots := ms, locals := 120 } s m args below meth c H locs cells slots (jQ D dA H0 below s (.returned (some (.int r))) h' mc ms) (F0 m 0 ls []) := by
  have hx := cx.1
  have hb := cx.2.1
  have hown := cx.2.2.2.1
  have hts := cx.2.2.2.2.1
  have hm : h'.2.2.1 ≤ hs.2.2.1 + mc ∧ h'.2.2.2.1 ≤ hs.2.2.2.1 + ms := ⟨Nat.le_of_eq e1, Nat.le_of_eq e2⟩
  intro x1 x2 h H locs cells slots ls hf hS hl
  unfold fX7_read at hf
  refine lv_aload_n (pc := 0) hx hb dX7_read_0 rfl (lv_at hl 0 rfl) ?_
  refine lv_iconst (pc := 1) (v := 0) hx hb dX7_read_1 rfl ?_
  refine j_pI (pc := 2) cx hS hf fp_WornSkinModel_thrown (Or.inl rfl) q1684 dX7_read_2 (fun h H locs hf hS => ?_)
  refine lv_aload_n (pc := 5) hx hb dX7_read_5 rfl (lv_at hl 0 rfl) ?_
  refine lv_iload_n (pc := 6) hx hb dX7_read_6 rfl (lv_at hl 1 rfl) ?_
  refine lv_iload_n (pc := 7) hx hb dX7_read_7 rfl (lv_at hl 2 rfl) ?_
  obtain ⟨y1, h1, e9, hf⟩ := jB_some hf
  refine j_callV (pc := 8) (st1 := [.int y1]) (As := [.int x1, .int x2]) (rest := []) cx hS rfl hl.1 hm (metX7_isLine l _ _ _ _ _ _ (hth.at hS) e9) (jle hf) (hth.at hS) rfl (lw_V q2094 q2096 qs93 q123 q2097) pdX7_isLine rfl rfl (Nat.le_of_ble_eq_true rfl) ⟨Nat.le_of_ble_eq_true rfl, Nat.le_of_ble_eq_true rfl⟩ dX7_read_8 rfl (fun H locs cells slots hS => ?_)
  refine lv_if_eq (pc := 11) (tgt := 33) hx hb dX7_read_11 (by decide) (fun hc => ?_) (fun hc => ?_)
  · have hf := jI_t hf hc
    refine lv_iconst (pc := 33) (v := (-1)) hx hb dX7_read_33 rfl ?_
    exact wX7_read_34 cx e1 e2 a0 hth _ _ _ _ _ _ _ hf hS (lv_sub hl [0] rfl)
  · have hf := jI_f hf hc
    refine lv_aload_n (pc := 14) hx hb dX7_read_14 rfl (lv_at hl 0 rfl) ?_
    refine lv_iload_n (pc := 15) hx hb dX7_read_15 rfl (lv_at hl 1 rfl) ?_
    refine lv_iload_n (pc := 16) hx hb dX7_read_16 rfl (lv_at hl 2 rfl) ?_
    refine lv_aload_n (pc := 17) hx hb dX7_read_17 rfl (lv_at hl 0 rfl) ?_
    refine lv_aload_n (pc := 18) hx hb dX7_read_18 rfl (lv_at hl 0 rfl) ?_
    refine j_gR (pc := 19) cx hS hf fd_WornSkinModel_s q1732 dX7_read_19 (fun y2 hf => ?_)
    refine lv_iconst (pc := 22) (v := 0) hx hb dX7_read_22 rfl ?_
    refine j_aI (pc := 23) cx hS hf rfl dX7_read_23 (fun y3 hf => ?_)
    obtain ⟨y4, h1, e9, hf⟩ := jB_some hf
    refine j_callV (pc := 24) (st1 := [.int y4, .int x2, .int x1, .ref a0]) (As := [.int y3]) (rest := [.int x2, .int x1, .ref a0]) cx hS rfl hl.1 hm (metX7_dampOf l _ _ _ _ _ (hth.at hS) e9) (jle hf) (hth.at hS) rfl (lw_V q2039 q2041 qs82 q123 q2042) pdX7_dampOf rfl rfl (Nat.le_of_ble_eq_true rfl) ⟨Nat.le_of_ble_eq_true rfl, Nat.le_of_ble_eq_true rfl⟩ dX7_read_24 rfl (fun H locs cells slots hS => ?_)
    obtain ⟨y5, h1, e9, hf⟩ := jB_some hf
    refine j_callV (pc := 27) (st1 := [.int y5]) (As := [.int x1, .int x2, .int y4]) (rest := []) cx hS rfl hl.1 hm (metX7_readBy l _ _ _ _ _ _ _ _ (hth.at hS) e9) (jle hf) (hth.at hS) rfl (lw_V q2043 q2045 qs83 q123 q2046) pdX7_readBy rfl rfl (Nat.le_of_ble_eq_true rfl) ⟨Nat.le_of_ble_eq_true rfl, Nat.le_of_ble_eq_true rfl⟩ dX7_read_27 rfl (fun H locs cells slots hS => ?_)
    refine lv_goto (pc := 30) (tgt := 34) hx hb dX7_read_30 (by decide) ?_
    exact wX7_read_34 cx e1 e2 a0 hth _ _ _ _ _ _ _ hf hS (lv_sub hl [0] rfl)
theorem metX7_read (l : Launch) (N : Nat) (a0 : Nat) (x1 : Int32) (x2 : Int32) (h h' : jH) (r : Int32) (hth : jcd h a0 = some 7) (hf : (fX7_read N a0 x1 x2).1 h = some (r, h')) : jMet l yX7_read (ws_ yX7_read cX7_read 3 (Option.some Jvm.ClassFile.FieldType.int)) (5) (120) [.ref a0, .int x1, .int x2] h h' (.returned (some (.int r))) := by
  refine jStart rfl (jle hf) (Nat.le_of_ble_eq_true rfl) ?_
  intro p e s m below meth c D dA H0 mc ms ls cx hnm e1 e2 hS hl
  have hth := jTh.mk hS hth
  exact wX7_read_0 cx e1 e2 a0 hth _ _ _ _ _ _ _ _ hf hS hl
def fX7_canWrite_107 (N : Nat) (a0 : Nat) : jM Int32 := jRn .boolean 1
def fX7_canWrite_99 (N : Nat) (a0 : Nat) : jM Int32 := jRn .boolean 0
def fX7_canWrite_33 (N : Nat) (a0 : Nat) : Nat → Int32 → Int32 → Int32 → Int32 → jM Int32
  | 0, _, _, _, _ => jE
  | n + 1, x1, x2, x3, x4 => jB (jgR [7] 18 (some a0)) fun y1 => jB (jaI 0 y1 x1) fun y2 => if (x3 + y2) ≤ x4 then (fX7_canWrite_107 N a0) else (jB (jgR [7] 15 (some a0)) fun y3 => jB (jaI 0 y3 x2) fun y4 => if ((y4 >>> (x4 &&& 31)) &&& 1) = 1 then (fX7_canWrite_99 N a0) else (jB (jgR [7] 48 (some a0)) fun y5 => jB (jaI 0 y5 (4 + x2)) fun y6 => if ((y6 >>> (x4 &&& 31)) &&& 1) = 1 then (fX7_canWrite_99 N a0) else (jB (jgR [7] 48 (some a0)) fun y7 => jB (jaI 0 y7 ((7 + (6 * x2)) + x4)) fun y8 => if y8 < 5764801 then (fX7_canWrite_33 N a0 n x1 x2 x3 (x4 + 1)) else (fX7_canWrite_99 N a0))))
def fX7_canWrite_28 (N : Nat) (a0 : Nat) : jM Int32 := jRn .boolean 0
def fX7_canWrite (N : Nat) (a0 : Nat) (x1 : Int32) (x2 : Int32) (x3 : Int32) : jM Int32 := jB (jgR [7] 48 (some a0)) fun y1 => jB (jaI 0 y1 (1 + x2)) fun y2 => if y2 = 0 then (fX7_canWrite_28 N a0) else (jB (jgR [7] 18 (some a0)) fun y3 => jB (jaI 0 y3 x1) fun y4 => jB (jgR [7] 13 (some a0)) fun y5 => jB (jaI 0 y5 x2) fun y6 => if (x3 + y4) ≤ y6 then (fX7_canWrite_33 N a0 N x1 x2 x3 x3) else (fX7_canWrite_28 N a0))
theorem wX7_canWrite_107 {N : Nat} {r : Int32} (cx : jCx p s m args meth c cX7_canWrite "WornSkinModel" 5 (Option.some Jvm.ClassFile.FieldType.boolean) D dA H0 hs.2.2.2.2) (e1 : h'.2.2.1 = hs.2.2.1 + mc) (e2 : h'.2.2.2.1 = hs.2.2.2.1 + ms) (a0 : Nat) (hth : jTh hs a0 7) : ∀ (h : jH) (H : Heap) (locs : List Loc) (cells slots : Nat) (ls : Array Slot), (fX7_canWrite_107 N a0).1 h = some (r, h') → jS D dA H0 hs h H locs cells slots → lv_has ls 5 [(0, .ref a0)] → W p l e { frames := 0, cells := mc, slots := ms, locals := 0 } s m args below meth c H locs cells slots (jQ D dA H0 below s (.returned (some (.int r))) h' mc ms) (F0 m 107 ls []) := by
  have hx := cx.1
  have hb := cx.2.1
  have hown := cx.2.2.2.1
  have hts := cx.2.2.2.2.1
  have hm : h'.2.2.1 ≤ hs.2.2.1 + mc ∧ h'.2.2.2.1 ≤ hs.2.2.2.1 + ms := ⟨Nat.le_of_eq e1, Nat.le_of_eq e2⟩
  intro h H locs cells slots ls hf hS hl
  unfold fX7_canWrite_107 at hf
  refine lv_iconst (pc := 107) (v := 1) hx hb dX7_canWrite_107 rfl ?_
  exact j_zret (pc := 108) cx (Or.inl rfl) hS hf e1 e2 dX7_canWrite_108
theorem wX7_canWrite_99 {N : Nat} {r : Int32} (cx : jCx p s m args meth c cX7_canWrite "WornSkinModel" 5 (Option.some Jvm.ClassFile.FieldType.boolean) D dA H0 hs.2.2.2.2) (e1 : h'.2.2.1 = hs.2.2.1 + mc) (e2 : h'.2.2.2.1 = hs.2.2.2.1 + ms) (a0 : Nat) (hth : jTh hs a0 7) : ∀ (h : jH) (H : Heap) (locs : List Loc) (cells slots : Nat) (ls : Array Slot), (fX7_canWrite_99 N a0).1 h = some (r, h') → jS D dA H0 hs h H locs cells slots → lv_has ls 5 [(0, .ref a0)] → W p l e { frames := 0, cells := mc, slots := ms, locals := 0 } s m args below meth c H locs cells slots (jQ D dA H0 below s (.returned (some (.int r))) h' mc ms) (F0 m 99 ls []) := by
  have hx := cx.1
  have hb := cx.2.1
  have hown := cx.2.2.2.1
  have hts := cx.2.2.2.2.1
  have hm : h'.2.2.1 ≤ hs.2.2.1 + mc ∧ h'.2.2.2.1 ≤ hs.2.2.2.1 + ms := ⟨Nat.le_of_eq e1, Nat.le_of_eq e2⟩
  intro h H locs cells slots ls hf hS hl
  unfold fX7_canWrite_99 at hf
  refine lv_iconst (pc := 99) (v := 0) hx hb dX7_canWrite_99 rfl ?_
  exact j_zret (pc := 100) cx (Or.inl rfl) hS hf e1 e2 dX7_canWrite_100
theorem wX7_canWrite_33 {N : Nat} {r : Int32} (cx : jCx p s m args meth c cX7_canWrite "WornSkinModel" 5 (Option.some Jvm.ClassFile.FieldType.boolean) D dA H0 hs.2.2.2.2) (e1 : h'.2.2.1 = hs.2.2.1 + mc) (e2 : h'.2.2.2.1 = hs.2.2.2.1 + ms) (a0 : Nat) (hth : jTh hs a0 7) : ∀ (n : Nat) (x1 : Int32) (x2 : Int32) (x3 : Int32) (x4 : Int32), ∀ (h : jH) (H : Heap) (locs : List Loc) (cells slots : Nat) (ls : Array Slot), (fX7_canWrite_33 N a0 n x1 x2 x3 x4).1 h = some (r, h') → jS D dA H0 hs h H locs cells slots → lv_has ls 5 [(0, .ref a0), (1, .int x1), (2, .int x2), (3, .int x3), (4, .int x4)] → W p l e { frames := 0, cells := mc, slots := ms, locals := 0 } s m args below meth c H locs cells slots (jQ D dA H0 below s (.returned (some (.int r))) h' mc ms) (F0 m 33 ls []) := by
  have hx := cx.1
  have hb := cx.2.1
  have hown := cx.2.2.2.1
  have hts := cx.2.2.2.2.1
  have hm : h'.2.2.1 ≤ hs.2.2.1 + mc ∧ h'.2.2.2.1 ≤ hs.2.2.2.1 + ms := ⟨Nat.le_of_eq e1, Nat.le_of_eq e2⟩
  intro n
  induction n with
  | zero =>
    intro x1 x2 x3 x4 h H locs cells slots ls hf hS hl
    exact jE_f hf
  | succ n ih =>
    intro x1 x2 x3 x4 h H locs cells slots ls hf hS hl
    unfold fX7_canWrite_33 at hf
    refine lv_iload (pc := 33) hx hb dX7_canWrite_33 (lv_at hl 4 rfl) ?_
    refine lv_iload_n (pc := 35) hx hb dX7_canWrite_35 rfl (lv_at hl 3 rfl) ?_
    refine lv_aload_n (pc := 36) hx hb dX7_canWrite_36 rfl (lv_at hl 0 rfl) ?_
    refine j_gR (pc := 37) cx hS hf fd_WornSkinModel_long0 q1702 dX7_canWrite_37 (fun y1 hf => ?_)
    refine lv_iload_n (pc := 40) hx hb dX7_canWrite_40 rfl (lv_at hl 1 rfl) ?_
    refine j_aI (pc := 41) cx hS hf rfl dX7_canWrite_41 (fun y2 hf => ?_)
    refine lv_iadd (pc := 42) hx hb dX7_canWrite_42 ?_
    refine lv_icmp_ge (pc := 43) (tgt := 107) hx hb dX7_canWrite_43 (by decide) (fun hc => ?_) (fun hc => ?_)
    · have hf := jI_t hf hc
      exact wX7_canWrite_107 cx e1 e2 a0 hth _ _ _ _ _ _ hf hS (lv_sub hl [0] rfl)
    · have hf := jI_f hf hc
      refine lv_aload_n (pc := 46) hx hb dX7_canWrite_46 rfl (lv_at hl 0 rfl) ?_
      refine j_gR (pc := 47) cx hS hf fd_WornSkinModel_holes q1699 dX7_canWrite_47 (fun y3 hf => ?_)
      refine lv_iload_n (pc := 50) hx hb dX7_canWrite_50 rfl (lv_at hl 2 rfl) ?_
      refine j_aI (pc := 51) cx hS hf rfl dX7_canWrite_51 (fun y4 hf => ?_)
      refine lv_iload (pc := 52) hx hb dX7_canWrite_52 (lv_at hl 4 rfl) ?_
      refine lv_ishr (pc := 54) hx hb dX7_canWrite_54 ?_
      refine lv_iconst (pc := 55) (v := 1) hx hb dX7_canWrite_55 rfl ?_
      refine lv_iand (pc := 56) hx hb dX7_canWrite_56 ?_
      refine lv_iconst (pc := 57) (v := 1) hx hb dX7_canWrite_57 rfl ?_
      refine lv_icmp_eq (pc := 58) (tgt := 99) hx hb dX7_canWrite_58 (by decide) (fun hc => ?_) (fun hc => ?_)
      · have hf := jI_t hf hc
        exact wX7_canWrite_99 cx e1 e2 a0 hth _ _ _ _ _ _ hf hS (lv_sub hl [0] rfl)
      · have hf := jI_f hf hc
        refine lv_aload_n (pc := 61) hx hb dX7_canWrite_61 rfl (lv_at hl 0 rfl) ?_
        refine j_gR (pc := 62) cx hS hf fd_WornSkinModel_s q1732 dX7_canWrite_62 (fun y5 hf => ?_)
        refine lv_iconst (pc := 65) (v := 4) hx hb dX7_canWrite_65 rfl ?_
        refine lv_iload_n (pc := 66) hx hb dX7_canWrite_66 rfl (lv_at hl 2 rfl) ?_
        refine lv_iadd (pc := 67) hx hb dX7_canWrite_67 ?_
        refine j_aI (pc := 68) cx hS hf rfl dX7_canWrite_68 (fun y6 hf => ?_)
        refine lv_iload (pc := 69) hx hb dX7_canWrite_69 (lv_at hl 4 rfl) ?_
        refine lv_ishr (pc := 71) hx hb dX7_canWrite_71 ?_
        refine lv_iconst (pc := 72) (v := 1) hx hb dX7_canWrite_72 rfl ?_
        refine lv_iand (pc := 73) hx hb dX7_canWrite_73 ?_
        refine lv_iconst (pc := 74) (v := 1) hx hb dX7_canWrite_74 rfl ?_
        refine lv_icmp_eq (pc := 75) (tgt := 99) hx hb dX7_canWrite_75 (by decide) (fun hc => ?_) (fun hc => ?_)
        · have hf := jI_t hf hc
          exact wX7_canWrite_99 cx e1 e2 a0 hth _ _ _ _ _ _ hf hS (lv_sub hl [0] rfl)
        · have hf := jI_f hf hc
          refine lv_aload_n (pc := 78) hx hb dX7_canWrite_78 rfl (lv_at hl 0 rfl) ?_
          refine j_gR (pc := 79) cx hS hf fd_WornSkinModel_s q1732 dX7_canWrite_79 (fun y7 hf => ?_)
          refine lv_bipush (pc := 82) (v := 7) hx hb dX7_canWrite_82 rfl ?_
          refine lv_bipush (pc := 84) (v := 6) hx hb dX7_canWrite_84 rfl ?_
          refine lv_iload_n (pc := 86) hx hb dX7_canWrite_86 rfl (lv_at hl 2 rfl) ?_
          refine lv_imul (pc := 87) hx hb dX7_canWrite_87 ?_
          refine lv_iadd (pc := 88) hx hb dX7_canWrite_88 ?_
          refine lv_iload (pc := 89) hx hb dX7_canWrite_89 (lv_at hl 4 rfl) ?_
          refine lv_iadd (pc := 91) hx hb dX7_canWrite_91 ?_
          refine j_aI (pc := 92) cx hS hf rfl dX7_canWrite_92 (fun y8 hf => ?_)
          refine lv_ldcw (pc := 93) (v := 5764801) hx hb hown (hts _ q2120) dX7_canWrite_93 ?_
          refine lv_icmp_lt (pc := 96) (tgt := 101) hx hb dX7_canWrite_96 (by decide) (fun hc => ?_) (fun hc => ?_)
          · have hf := jI_t hf hc
            refine lv_iinc (pc := 101) (v := (x4 + 1)) (lv' := [(4, .int (x4 + 1)), (0, .ref a0), (1, .int x1), (2, .int x2), (3, .int x3)]) hx hb dX7_canWrite_101 hl (k := 4) rfl rfl (Nat.le_of_ble_eq_true rfl) rfl (fun ls hl => ?_)
            refine lv_goto (pc := 104) (tgt := 33) hx hb dX7_canWrite_104 (by decide) ?_
            exact ih _ _ _ _ _ _ _ _ _ _ hf hS (lv_sub hl [1, 2, 3, 4, 0] rfl)
          · have hf := jI_f hf hc
            exact wX7_canWrite_99 cx e1 e2 a0 hth _ _ _ _ _ _ hf hS (lv_sub hl [0] rfl)
theorem wX7_canWrite_28 {N : Nat} {r : Int32} (cx : jCx p s m args meth c cX7_canWrite "WornSkinModel" 5 (Option.some Jvm.ClassFile.FieldType.boolean) D dA H0 hs.2.2.2.2) (e1 : h'.2.2.1 = hs.2.2.1 + mc) (e2 : h'.2.2.2.1 = hs.2.2.2.1 + ms) (a0 : Nat) (hth : jTh hs a0 7) : ∀ (h : jH) (H : Heap) (locs : List Loc) (cells slots : Nat) (ls : Array Slot), (fX7_canWrite_28 N a0).1 h = some (r, h') → jS D dA H0 hs h H locs cells slots → lv_has ls 5 [(0, .ref a0)] → W p l e { frames := 0, cells := mc, slots := ms, locals := 0 } s m args below meth c H locs cells slots (jQ D dA H0 below s (.returned (some (.int r))) h' mc ms) (F0 m 28 ls []) := by
  have hx := cx.1
  have hb := cx.2.1
  have hown := cx.2.2.2.1
  have hts := cx.2.2.2.2.1
  have hm : h'.2.2.1 ≤ hs.2.2.1 + mc ∧ h'.2.2.2.1 ≤ hs.2.2.2.1 + ms := ⟨Nat.le_of_eq e1, Nat.le_of_eq e2⟩
  intro h H locs cells slots ls hf hS hl
  unfold fX7_canWrite_28 at hf
  refine lv_iconst (pc := 28) (v := 0) hx hb dX7_canWrite_28 rfl ?_
  exact j_zret (pc := 29) cx (Or.inl rfl) hS hf e1 e2 dX7_canWrite_29
theorem wX7_canWrite_0 {N : Nat} {r : Int32} (cx : jCx p s m args meth c cX7_canWrite "WornSkinModel" 5 (Option.some Jvm.ClassFile.FieldType.boolean) D dA H0 hs.2.2.2.2) (e1 : h'.2.2.1 = hs.2.2.1 + mc) (e2 : h'.2.2.2.1 = hs.2.2.2.1 + ms) (a0 : Nat) (hth : jTh hs a0 7) : ∀ (x1 : Int32) (x2 : Int32) (x3 : Int32), ∀ (h : jH) (H : Heap) (locs : List Loc) (cells slots : Nat) (ls : Array Slot), (fX7_canWrite N a0 x1 x2 x3).1 h = some (r, h') → jS D dA H0 hs h H locs cells slots → lv_has ls 5 [(0, .ref a0), (1, .int x1), (2, .int x2), (3, .int x3)] → W p l e { frames := 0, cells := mc, slots := ms, locals := 0 } s m args below meth c H locs cells slots (jQ D dA H0 below s (.returned (some (.int r))) h' mc ms) (F0 m 0 ls []) := by
  have hx := cx.1
  have hb := cx.2.1
  have hown := cx.2.2.2.1
  have hts := cx.2.2.2.2.1
  have hm : h'.2.2.1 ≤ hs.2.2.1 + mc ∧ h'.2.2.2.1 ≤ hs.2.2.2.1 + ms := ⟨Nat.le_of_eq e1, Nat.le_of_eq e2⟩
  intro x1 x2 x3 h H locs cells slots ls hf hS hl
  unfold fX7_canWrite at hf
  refine lv_aload_n (pc := 0) hx hb dX7_canWrite_0 rfl (lv_at hl 0 rfl) ?_
  refine j_gR (pc := 1) cx hS hf fd_WornSkinModel_s q1732 dX7_canWrite_1 (fun y1 hf => ?_)
  refine lv_iconst (pc := 4) (v := 1) hx hb dX7_canWrite_4 rfl ?_
  refine lv_iload_n (pc := 5) hx hb dX7_canWrite_5 rfl (lv_at hl 2 rfl) ?_
  refine lv_iadd (pc := 6) hx hb dX7_canWrite_6 ?_
  refine j_aI (pc := 7) cx hS hf rfl dX7_canWrite_7 (fun y2 hf => ?_)
  refine lv_if_eq (pc := 8) (tgt := 28) hx hb dX7_canWrite_8 (by decide) (fun hc => ?_) (fun hc => ?_)
  · have hf := jI_t hf hc
    exact wX7_canWrite_28 cx e1 e2 a0 hth _ _ _ _ _ _ hf hS (lv_sub hl [0] rfl)
  · have hf := jI_f hf hc
    refine lv_iload_n (pc := 11) hx hb dX7_canWrite_11 rfl (lv_at hl 3 rfl) ?_
    refine lv_aload_n (pc := 12) hx hb dX7_canWrite_12 rfl (lv_at hl 0 rfl) ?_
    refine j_gR (pc := 13) cx hS hf fd_WornSkinModel_long0 q1702 dX7_canWrite_13 (fun y3 hf => ?_)
    refine lv_iload_n (pc := 16) hx hb dX7_canWrite_16 rfl (lv_at hl 1 rfl) ?_
    refine j_aI (pc := 17) cx hS hf rfl dX7_canWrite_17 (fun y4 hf => ?_)
    refine lv_iadd (pc := 18) hx hb dX7_canWrite_18 ?_
    refine lv_aload_n (pc := 19) hx hb dX7_canWrite_19 rfl (lv_at hl 0 rfl) ?_
    refine j_gR (pc := 20) cx hS hf fd_WornSkinModel_linesOf q1697 dX7_canWrite_20 (fun y5 hf => ?_)
    refine lv_iload_n (pc := 23) hx hb dX7_canWrite_23 rfl (lv_at hl 2 rfl) ?_
    refine j_aI (pc := 24) cx hS hf rfl dX7_canWrite_24 (fun y6 hf => ?_)
    refine lv_icmp_le (pc := 25) (tgt := 30) hx hb dX7_canWrite_25 (by decide) (fun hc => ?_) (fun hc => ?_)
    · have hf := jI_t hf hc
      refine lv_iload_n (pc := 30) hx hb dX7_canWrite_30 rfl (lv_at hl 3 rfl) ?_
      refine lv_istore (pc := 31) (i := 4) (lv' := [(4, .int x3), (0, .ref a0), (1, .int x1), (2, .int x2), (3, .int x3)]) hx hb dX7_canWrite_31 hl (Nat.le_of_ble_eq_true rfl) rfl (fun ls hl => ?_)
      exact wX7_canWrite_33 cx e1 e2 a0 hth N _ _ _ _ _ _ _ _ _ _ hf hS (lv_sub hl [1, 2, 3, 4, 0] rfl)
    · have hf := jI_f hf hc
      exact wX7_canWrite_28 cx e1 e2 a0 hth _ _ _ _ _ _ hf hS (lv_sub hl [0] rfl)
theorem metX7_canWrite (l : Launch) (N : Nat) (a0 : Nat) (x1 : Int32) (x2 : Int32) (x3 : Int32) (h h' : jH) (r : Int32) (hth : jcd h a0 = some 7) (hf : (fX7_canWrite N a0 x1 x2 x3).1 h = some (r, h')) : jMet l yX7_canWrite (ws_ yX7_canWrite cX7_canWrite 5 (Option.some Jvm.ClassFile.FieldType.boolean)) (0) (0) [.ref a0, .int x1, .int x2, .int x3] h h' (.returned (some (.int r))) := by
  refine jStart rfl (jle hf) (Nat.le_of_ble_eq_true rfl) ?_
  intro p e s m below meth c D dA H0 mc ms ls cx hnm e1 e2 hS hl
  have hth := jTh.mk hS hth
  exact wX7_canWrite_0 cx e1 e2 a0 hth _ _ _ _ _ _ _ _ _ hf hS hl
def fX7_copies_28 (N : Nat) : jM Unit := jR ()
def fX7_copies_3 (N : Nat) : Nat → Option Nat → Int32 → Option Nat → Int32 → Int32 → jM Unit
  | 0, _, _, _, _, _ => jE
  | n + 1, x0, x1, x2, x3, x4 => if 25 ≤ x4 then (fX7_copies_28 N) else (jB (jaI 0 x0 (x1 + x4)) fun y1 => jB (jsI 0 x2 (x3 + x4) y1) fun _ => fX7_copies_3 N n x0 x1 x2 x3 (x4 + 1))
def fX7_copies (N : Nat) (x0 : Option Nat) (x1 : Int32) (x2 : Option Nat) (x3 : Int32) : jM Unit := fX7_copies_3 N N x0 x1 x2 x3 0
theorem wX7_copies_28 {N : Nat} {r : Unit} (cx : jCx p s m args meth c cX7_copies "WornSkinModel" 5 (Option.none : Option Jvm.ClassFile.FieldType) D dA H0 hs.2.2.2.2) (e1 : h'.2.2.1 = hs.2.2.1 + mc) (e2 : h'.2.2.2.1 = hs.2.2.2.1 + ms) : ∀ (h : jH) (H : Heap) (locs : List Loc) (cells slots : Nat) (ls : Array Slot), (fX7_copies_28 N).1 h = some (r, h') → jS D dA H0 hs h H locs cells slots → lv_has ls 5 [] → W p l e { frames := 0, cells := mc, slots := ms, locals := 0 } s m args below meth c H locs cells slots (jQ D dA H0 below s (.returned none) h' mc ms) (F0 m 28 ls []) := by
  have hx := cx.1
  have hb := cx.2.1
  have hown := cx.2.2.2.1
  have hts := cx.2.2.2.2.1
  have hm : h'.2.2.1 ≤ hs.2.2.1 + mc ∧ h'.2.2.2.1 ≤ hs.2.2.2.1 + ms := ⟨Nat.le_of_eq e1, Nat.le_of_eq e2⟩
  intro h H locs cells slots ls hf hS hl
  unfold fX7_copies_28 at hf
  exact j_vret (pc := 28) cx hS hf e1 e2 dX7_copies_28
theorem wX7_copies_3 {N : Nat} {r : Unit} (cx : jCx p s m args meth c cX7_copies "WornSkinModel" 5 (Option.none : Option Jvm.ClassFile.FieldType) D dA H0 hs.2.2.2.2) (e1 : h'.2.2.1 = hs.2.2.1 + mc) (e2 : h'.2.2.2.1 = hs.2.2.2.1 + ms) : ∀ (n : Nat) (x0 : Option Nat) (x1 : Int32) (x2 : Option Nat) (x3 : Int32) (x4 : Int32), ∀ (h : jH) (H : Heap) (locs : List Loc) (cells slots : Nat) (ls : Array Slot), (fX7_copies_3 N n x0 x1 x2 x3 x4).1 h = some (r, h') → jS D dA H0 hs h H locs cells slots → lv_has ls 5 [(0, va_rf x0), (1, .int x1), (2, va_rf x2), (3, .int x3), (4, .int x4)] → W p l e { frames := 0, cells := mc, slots := ms, locals := 0 } s m args below meth c H locs cells slots (jQ D dA H0 below s (.returned none) h' mc ms) (F0 m 3 ls []) := by
  have hx := cx.1
  have hb := cx.2.1
  have hown := cx.2.2.2.1
  have hts := cx.2.2.2.2.1
  have hm : h'.2.2.1 ≤ hs.2.2.1 + mc ∧ h'.2.2.2.1 ≤ hs.2.2.2.1 + ms := ⟨Nat.le_of_eq e1, Nat.le_of_eq e2⟩
  intro n
  induction n with
  | zero =>
    intro x0 x1 x2 x3 x4 h H locs cells slots ls hf hS hl
    exact jE_f hf
  | succ n ih =>
    intro x0 x1 x2 x3 x4 h H locs cells slots ls hf hS hl
    unfold fX7_copies_3 at hf
    refine lv_iload (pc := 3) hx hb dX7_copies_3 (lv_at hl 4 rfl) ?_
    refine lv_bipush (pc := 5) (v := 25) hx hb dX7_copies_5 rfl ?_
    refine lv_icmp_ge (pc := 7) (tgt := 28) hx hb dX7_copies_7 (by decide) (fun hc => ?_) (fun hc => ?_)
    · have hf := jI_t hf hc
      exact wX7_copies_28 cx e1 e2 _ _ _ _ _ _ hf hS (lv_sub hl [] rfl)
    · have hf := jI_f hf hc
      refine j_aload_n (pc := 10) (r := x2) hx hb dX7_copies_10 rfl (lv_at hl 2 rfl) ?_
      refine lv_iload_n (pc := 11) hx hb dX7_copies_11 rfl (lv_at hl 3 rfl) ?_
      refine lv_iload (pc := 12) hx hb dX7_copies_12 (lv_at hl 4 rfl) ?_
      refine lv_iadd (pc := 14) hx hb dX7_copies_14 ?_
      refine j_aload_n (pc := 15) (r := x0) hx hb dX7_copies_15 rfl (lv_at hl 0 rfl) ?_
      refine lv_iload_n (pc := 16) hx hb dX7_copies_16 rfl (lv_at hl 1 rfl) ?_
      refine lv_iload (pc := 17) hx hb dX7_copies_17 (lv_at hl 4 rfl) ?_
      refine lv_iadd (pc := 19) hx hb dX7_copies_19 ?_
      refine j_aI (pc := 20) cx hS hf rfl dX7_copies_20 (fun y1 hf => ?_)
      refine j_sI (pc := 21) cx hS hf rfl dX7_copies_21 (fun h H locs hf hS => ?_)
      refine lv_iinc (pc := 22) (v := (x4 + 1)) (lv' := [(4, .int (x4 + 1)), (0, va_rf x0), (1, .int x1), (2, va_rf x2), (3, .int x3)]) hx hb dX7_copies_22 hl (k := 4) rfl rfl (Nat.le_of_ble_eq_true rfl) rfl (fun ls hl => ?_)
      refine lv_goto (pc := 25) (tgt := 3) hx hb dX7_copies_25 (by decide) ?_
      exact ih _ _ _ _ _ _ _ _ _ _ _ hf hS (lv_sub hl [1, 2, 3, 4, 0] rfl)
theorem wX7_copies_0 {N : Nat} {r : Unit} (cx : jCx p s m args meth c cX7_copies "WornSkinModel" 5 (Option.none : Option Jvm.ClassFile.FieldType) D dA H0 hs.2.2.2.2) (e1 : h'.2.2.1 = hs.2.2.1 + mc) (e2 : h'.2.2.2.1 = hs.2.2.2.1 + ms) : ∀ (x0 : Option Nat) (x1 : Int32) (x2 : Option Nat) (x3 : Int32), ∀ (h : jH) (H : Heap) (locs : List Loc) (cells slots : Nat) (ls : Array Slot), (fX7_copies N x0 x1 x2 x3).1 h = some (r, h') → jS D dA H0 hs h H locs cells slots → lv_has ls 5 [(0, va_rf x0), (1, .int x1), (2, va_rf x2), (3, .int x3)] → W p l e { frames := 0, cells := mc, slots := ms, locals := 0 } s m args below meth c H locs cells slots (jQ D dA H0 below s (.returned none) h' mc ms) (F0 m 0 ls []) := by
  have hx := cx.1
  have hb := cx.2.1
  have hown := cx.2.2.2.1
  have hts := cx.2.2.2.2.1
  have hm : h'.2.2.1 ≤ hs.2.2.1 + mc ∧ h'.2.2.2.1 ≤ hs.2.2.2.1 + ms := ⟨Nat.le_of_eq e1, Nat.le_of_eq e2⟩
  intro x0 x1 x2 x3 h H locs cells slots ls hf hS hl
  unfold fX7_copies at hf
  refine lv_iconst (pc := 0) (v := 0) hx hb dX7_copies_0 rfl ?_
  refine lv_istore (pc := 1) (i := 4) (lv' := [(4, .int 0), (0, va_rf x0), (1, .int x1), (2, va_rf x2), (3, .int x3)]) hx hb dX7_copies_1 hl (Nat.le_of_ble_eq_true rfl) rfl (fun ls hl => ?_)
  exact wX7_copies_3 cx e1 e2 N _ _ _ _ _ _ _ _ _ _ _ hf hS (lv_sub hl [1, 2, 3, 4, 0] rfl)
theorem metX7_copies (l : Launch) (N : Nat) (x0 : Option Nat) (x1 : Int32) (x2 : Option Nat) (x3 : Int32) (h h' : jH) (r : Unit) (hf : (fX7_copies N x0 x1 x2 x3).1 h = some (r, h')) : jMet l yX7_copies (ws_ yX7_copies cX7_copies 5 (Option.none : Option Jvm.ClassFile.FieldType)) (0) (0) [va_rf x0, .int x1, va_rf x2, .int x3] h h' (.returned none) := by
  refine jStart rfl (jle hf) (by cases x0 <;> cases x2 <;> exact Nat.le_of_ble_eq_true rfl) ?_
  intro p e s m below meth c D dA H0 mc ms ls cx hnm e1 e2 hS hl
  have hl : lv_has ls 5 [(0, va_rf x0), (1, .int x1), (2, va_rf x2), (3, .int x3)] := by cases x0 <;> cases x2 <;> exact hl
  exact wX7_copies_0 cx e1 e2 _ _ _ _ _ _ _ _ _ _ hf hS hl
def fX7_keeps_49 (N : Nat) (a0 : Nat) : jM Unit := jB (jgR [7] 48 (some a0)) fun y1 => jB (jgR [7] 52 (some a0)) fun y2 => jB (jgI [7] 54 (some a0)) fun y3 => jB (fX7_copies N y1 0 y2 (25 * y3)) fun _ => jB (jgI [7] 54 (some a0)) fun y5 => jB (jpI [7] 54 (some a0) (y5 + 1)) fun _ => jR ()
def fX7_keeps_39 (N : Nat) (a0 : Nat) : jM Unit := jB (jgI [7] 54 (some a0)) fun y1 => jB (jpI [7] 54 (some a0) (y1 - 1)) fun _ => fX7_keeps_49 N a0
def fX7_keeps_11 (N : Nat) (a0 : Nat) : Nat → Int32 → jM Unit
  | 0, _ => jE
  | n + 1, x1 => if 375 ≤ x1 then (fX7_keeps_39 N a0) else (jB (jgR [7] 52 (some a0)) fun y1 => jB (jgR [7] 52 (some a0)) fun y2 => jB (jaI 0 y2 (x1 + 25)) fun y3 => jB (jsI 0 y1 x1 y3) fun _ => fX7_keeps_11 N a0 n (x1 + 1))
def fX7_keeps (N : Nat) (a0 : Nat) : jM Unit := jB (jgI [7] 54 (some a0)) fun y1 => if y1 = 16 then (fX7_keeps_11 N a0 N 0) else (fX7_keeps_49 N a0)
theorem wX7_keeps_49 {N : Nat} {r : Unit} (cx : jCx p s m args meth c cX7_keeps "WornSkinModel" 2 (Option.none : Option Jvm.ClassFile.FieldType) D dA H0 hs.2.2.2.2) (e1 : h'.2.2.1 = hs.2.2.1 + mc) (e2 : h'.2.2.2.1 = hs.2.2.2.1 + ms) (a0 : Nat) (hth : jTh hs a0 7) : ∀ (h : jH) (H : Heap) (locs : List Loc) (cells slots : Nat) (ls : Array Slot), (fX7_keeps_49 N a0).1 h = some (r, h') → jS D dA H0 hs h H locs cells slots → lv_has ls 2 [(0, .ref a0)] → W p l e { frames := 1, cells := mc, slots := ms, locals := 24 } s m args below meth c H locs cells slots (jQ D dA H0 below s (.returned none) h' mc ms) (F0 m 49 ls []) := by
  have hx := cx.1
  have hb := cx.2.1
  have hown := cx.2.2.2.1
  have hts := cx.2.2.2.2.1
  have hm : h'.2.2.1 ≤ hs.2.2.1 + mc ∧ h'.2.2.2.1 ≤ hs.2.2.2.1 + ms := ⟨Nat.le_of_eq e1, Nat.le_of_eq e2⟩
  intro h H locs cells slots ls hf hS hl
  unfold fX7_keeps_49 at hf
  refine lv_aload_n (pc := 49) hx hb dX7_keeps_49 rfl (lv_at hl 0 rfl) ?_
  refine j_gR (pc := 50) cx hS hf fd_WornSkinModel_s q1732 dX7_keeps_50 (fun y1 hf => ?_)
  refine lv_iconst (pc := 53) (v := 0) hx hb dX7_keeps_53 rfl ?_
  refine lv_aload_n (pc := 54) hx hb dX7_keeps_54 rfl (lv_at hl 0 rfl) ?_
  refine j_gR (pc := 55) cx hS hf fd_WornSkinModel_undone q1736 dX7_keeps_55 (fun y2 hf => ?_)
  refine lv_bipush (pc := 58) (v := 25) hx hb dX7_keeps_58 rfl ?_
  refine lv_aload_n (pc := 60) hx hb dX7_keeps_60 rfl (lv_at hl 0 rfl) ?_
  refine j_gI (pc := 61) cx hS hf fd_WornSkinModel_done q1738 dX7_keeps_61 (fun y3 hf => ?_)
  refine lv_imul (pc := 64) hx hb dX7_keeps_64 ?_
  obtain ⟨_, h1, e9, hf⟩ := jB_some hf
  refine j_callS (pc := 65) (st1 := []) (As := [va_rf y1, .int 0, va_rf y2, .int (25 * y3)]) (rest := []) cx hS rfl hl.1 hm (metX7_copies l _ _ _ _ _ _ _ _ e9) (jle hf) (lw_S q2125 q2126 q123 q2127) pdX7_copies rfl rfl (Nat.le_of_ble_eq_true rfl) ⟨Nat.le_of_ble_eq_true rfl, Nat.le_of_ble_eq_true rfl⟩ dX7_keeps_65 rfl (fun H locs cells slots hS => ?_)
  refine lv_aload_n (pc := 68) hx hb dX7_keeps_68 rfl (lv_at hl 0 rfl) ?_
  refine lv_dup (pc := 69) hx hb dX7_keeps_69 rfl ?_
  refine j_gI (pc := 70) cx hS hf fd_WornSkinModel_done q1738 dX7_keeps_70 (fun y5 hf => ?_)
  refine lv_iconst (pc := 73) (v := 1) hx hb dX7_keeps_73 rfl ?_
  refine lv_iadd (pc := 74) hx hb dX7_keeps_74 ?_
  refine j_pI (pc := 75) cx hS hf fp_WornSkinModel_done (Or.inl rfl) q1738 dX7_keeps_75 (fun h H locs hf hS => ?_)
  exact j_vret (pc := 78) cx hS hf e1 e2 dX7_keeps_78
theorem wX7_keeps_39 {N : Nat} {r : Unit} (cx : jCx p s m args meth c cX7_keeps "WornSkinModel" 2 (Option.none : Option Jvm.ClassFile.FieldType) D dA H0 hs.2.2.2.2) (e1 : h'.2.2.1 = hs.2.2.1 + mc) (e2 : h'.2.2.2.1 = hs.2.2.2.1 + ms) (a0 : Nat) (hth : jTh hs a0 7) : ∀ (h : jH) (H : Heap) (locs : List Loc) (cells slots : Nat) (ls : Array Slot), (fX7_keeps_39 N a0).1 h = some (r, h') → jS D dA H0 hs h H locs cells slots → lv_has ls 2 [(0, .ref a0)] → W p l e { frames := 1, cells := mc, slots := ms, locals := 24 } s m args below meth c H locs cells slots (jQ D dA H0 below s (.returned none) h' mc ms) (F0 m 39 ls []) := by
  have hx := cx.1
  have hb := cx.2.1
  have hown := cx.2.2.2.1
  have hts := cx.2.2.2.2.1
  have hm : h'.2.2.1 ≤ hs.2.2.1 + mc ∧ h'.2.2.2.1 ≤ hs.2.2.2.1 + ms := ⟨Nat.le_of_eq e1, Nat.le_of_eq e2⟩
  intro h H locs cells slots ls hf hS hl
  unfold fX7_keeps_39 at hf
  refine lv_aload_n (pc := 39) hx hb dX7_keeps_39 rfl (lv_at hl 0 rfl) ?_
  refine lv_dup (pc := 40) hx hb dX7_keeps_40 rfl ?_
  refine j_gI (pc := 41) cx hS hf fd_WornSkinModel_done q1738 dX7_keeps_41 (fun y1 hf => ?_)
  refine lv_iconst (pc := 44) (v := 1) hx hb dX7_keeps_44 rfl ?_
  refine lv_isub (pc := 45) hx hb dX7_keeps_45 ?_
  refine j_pI (pc := 46) cx hS hf fp_WornSkinModel_done (Or.inl rfl) q1738 dX7_keeps_46 (fun h H locs hf hS => ?_)
  exact wX7_keeps_49 cx e1 e2 a0 hth _ _ _ _ _ _ hf hS hl
theorem wX7_keeps_11 {N : Nat} {r : Unit} (cx : jCx p s m args meth c cX7_keeps "WornSkinModel" 2 (Option.none : Option Jvm.ClassFile.FieldType) D dA H0 hs.2.2.2.2) (e1 : h'.2.2.1 = hs.2.2.1 + mc) (e2 : h'.2.2.2.1 = hs.2.2.2.1 + ms) (a0 : Nat) (hth : jTh hs a0 7) : ∀ (n : Nat) (x1 : Int32), ∀ (h : jH) (H : Heap) (locs : List Loc) (cells slots : Nat) (ls : Array Slot), (fX7_keeps_11 N a0 n x1).1 h = some (r, h') → jS D dA H0 hs h H locs cells slots → lv_has ls 2 [(0, .ref a0), (1, .int x1)] → W p l e { frames := 1, cells := mc, slots := ms, locals := 24 } s m args below meth c H locs cells slots (jQ D dA H0 below s (.returned none) h' mc ms) (F0 m 11 ls []) := by
  have hx := cx.1
  have hb := cx.2.1
  have hown := cx.2.2.2.1
  have hts := cx.2.2.2.2.1
  have hm : h'.2.2.1 ≤ hs.2.2.1 + mc ∧ h'.2.2.2.1 ≤ hs.2.2.2.1 + ms := ⟨Nat.le_of_eq e1, Nat.le_of_eq e2⟩
  intro n
  induction n with
  | zero =>
    intro x1 h H locs cells slots ls hf hS hl
    exact jE_f hf
  | succ n ih =>
    intro x1 h H locs cells slots ls hf hS hl
    unfold fX7_keeps_11 at hf
    refine lv_iload_n (pc := 11) hx hb dX7_keeps_11 rfl (lv_at hl 1 rfl) ?_
    refine lv_sipush (pc := 12) (v := 375) hx hb dX7_keeps_12 rfl ?_
    refine lv_icmp_ge (pc := 15) (tgt := 39) hx hb dX7_keeps_15 (by decide) (fun hc => ?_) (fun hc => ?_)
    · have hf := jI_t hf hc
      exact wX7_keeps_39 cx e1 e2 a0 hth _ _ _ _ _ _ hf hS (lv_sub hl [0] rfl)
    · have hf := jI_f hf hc
      refine lv_aload_n (pc := 18) hx hb dX7_keeps_18 rfl (lv_at hl 0 rfl) ?_
      refine j_gR (pc := 19) cx hS hf fd_WornSkinModel_undone q1736 dX7_keeps_19 (fun y1 hf => ?_)
      refine lv_iload_n (pc := 22) hx hb dX7_keeps_22 rfl (lv_at hl 1 rfl) ?_
      refine lv_aload_n (pc := 23) hx hb dX7_keeps_23 rfl (lv_at hl 0 rfl) ?_
      refine j_gR (pc := 24) cx hS hf fd_WornSkinModel_undone q1736 dX7_keeps_24 (fun y2 hf => ?_)
      refine lv_iload_n (pc := 27) hx hb dX7_keeps_27 rfl (lv_at hl 1 rfl) ?_
      refine lv_bipush (pc := 28) (v := 25) hx hb dX7_keeps_28 rfl ?_
      refine lv_iadd (pc := 30) hx hb dX7_keeps_30 ?_
      refine j_aI (pc := 31) cx hS hf rfl dX7_keeps_31 (fun y3 hf => ?_)
      refine j_sI (pc := 32) cx hS hf rfl dX7_keeps_32 (fun h H locs hf hS => ?_)
      refine lv_iinc (pc := 33) (v := (x1 + 1)) (lv' := [(1, .int (x1 + 1)), (0, .ref a0)]) hx hb dX7_keeps_33 hl (k := 1) rfl rfl (Nat.le_of_ble_eq_true rfl) rfl (fun ls hl => ?_)
      refine lv_goto (pc := 36) (tgt := 11) hx hb dX7_keeps_36 (by decide) ?_
      exact ih _ _ _ _ _ _ _ hf hS (lv_sub hl [1, 0] rfl)
theorem wX7_keeps_0 {N : Nat} {r : Unit} (cx : jCx p s m args meth c cX7_keeps "WornSkinModel" 2 (Option.none : Option Jvm.ClassFile.FieldType) D dA H0 hs.2.2.2.2) (e1 : h'.2.2.1 = hs.2.2.1 + mc) (e2 : h'.2.2.2.1 = hs.2.2.2.1 + ms) (a0 : Nat) (hth : jTh hs a0 7) : ∀ (h : jH) (H : Heap) (locs : List Loc) (cells slots : Nat) (ls : Array Slot), (fX7_keeps N a0).1 h = some (r, h') → jS D dA H0 hs h H locs cells slots → lv_has ls 2 [(0, .ref a0)] → W p l e { frames := 1, cells := mc, slots := ms, locals := 24 } s m args below meth c H locs cells slots (jQ D dA H0 below s (.returned none) h' mc ms) (F0 m 0 ls []) := by
  have hx := cx.1
  have hb := cx.2.1
  have hown := cx.2.2.2.1
  have hts := cx.2.2.2.2.1
  have hm : h'.2.2.1 ≤ hs.2.2.1 + mc ∧ h'.2.2.2.1 ≤ hs.2.2.2.1 + ms := ⟨Nat.le_of_eq e1, Nat.le_of_eq e2⟩
  intro h H locs cells slots ls hf hS hl
  unfold fX7_keeps at hf
  refine lv_aload_n (pc := 0) hx hb dX7_keeps_0 rfl (lv_at hl 0 rfl) ?_
  refine j_gI (pc := 1) cx hS hf fd_WornSkinModel_done q1738 dX7_keeps_1 (fun y1 hf => ?_)
  refine lv_bipush (pc := 4) (v := 16) hx hb dX7_keeps_4 rfl ?_
  refine lv_icmp_ne (pc := 6) (tgt := 49) hx hb dX7_keeps_6 (by decide) (fun hc => ?_) (fun hc => ?_)
  · have hf := jI_f hf hc
    exact wX7_keeps_49 cx e1 e2 a0 hth _ _ _ _ _ _ hf hS hl
  · have hf := jI_t hf hc
    refine lv_iconst (pc := 9) (v := 0) hx hb dX7_keeps_9 rfl ?_
    refine lv_istore_n (pc := 10) (i := 1) (lv' := [(1, .int 0), (0, .ref a0)]) hx hb dX7_keeps_10 rfl hl (Nat.le_of_ble_eq_true rfl) rfl (fun ls hl => ?_)
    exact wX7_keeps_11 cx e1 e2 a0 hth N _ _ _ _ _ _ _ hf hS (lv_sub hl [1, 0] rfl)
theorem metX7_keeps (l : Launch) (N : Nat) (a0 : Nat) (h h' : jH) (r : Unit) (hth : jcd h a0 = some 7) (hf : (fX7_keeps N a0).1 h = some (r, h')) : jMet l yX7_keeps (ws_ yX7_keeps cX7_keeps 2 (Option.none : Option Jvm.ClassFile.FieldType)) (1) (24) [.ref a0] h h' (.returned none) := by
  refine jStart rfl (jle hf) (Nat.le_of_ble_eq_true rfl) ?_
  intro p e s m below meth c D dA H0 mc ms ls cx hnm e1 e2 hS hl
  have hth := jTh.mk hS hth
  exact wX7_keeps_0 cx e1 e2 a0 hth  _ _ _ _ _ _ hf hS hl
def fX7_writes_74 (N : Nat) (a0 : Nat) : jM Unit := jR ()
def fX7_writes_3 (N : Nat) (a0 : Nat) : Nat → Int32 → Int32 → Int32 → Int32 → jM Unit
  | 0, _, _, _, _ => jE
  | n + 1, x1, x2, x3, x4 => jB (jgR [7] 18 (some a0)) fun y1 => jB (jaI 0 y1 x1) fun y2 => if (x3 + y2) ≤ x4 then (fX7_writes_74 N a0) else (jB (jgR [7] 48 (some a0)) fun y3 => jB (jgR [7] 48 (some a0)) fun y4 => jB (jaI 0 y4 ((7 + (6 * x2)) + x4)) fun y5 => jB (jsI 0 y3 ((7 + (6 * x2)) + x4) (((y5 * 7) + x1) + 1)) fun _ => jB (jgR [7] 48 (some a0)) fun y6 => jB (jaI 0 y6 (4 + x2)) fun y7 => jB (jsI 0 y6 (4 + x2) (y7 ||| (1 <<< (x4 &&& 31)))) fun _ => fX7_writes_3 N a0 n x1 x2 x3 (x4 + 1))
def fX7_writes (N : Nat) (a0 : Nat) (x1 : Int32) (x2 : Int32) (x3 : Int32) : jM Unit := fX7_writes_3 N a0 N x1 x2 x3 x3
theorem wX7_writes_74 {N : Nat} {r : Unit} (cx : jCx p s m args meth c cX7_writes "WornSkinModel" 5 (Option.none : Option Jvm.ClassFile.FieldType) D dA H0 hs.2.2.2.2) (e1 : h'.2.2.1 = hs.2.2.1 + mc) (e2 : h'.2.2.2.1 = hs.2.2.2.1 + ms) (a0 : Nat) (hth : jTh hs a0 7) : ∀ (h : jH) (H : Heap) (locs : List Loc) (cells slots : Nat) (ls : Array Slot), (fX7_writes_74 N a0).1 h = some (r, h') → jS D dA H0 hs h H locs cells slots → lv_has ls 5 [(0, .ref a0)] → W p l e { frames := 0, cells := mc, slots := ms, locals := 0 } s m args below meth c H locs cells slots (jQ D dA H0 below s (.returned none) h' mc ms) (F0 m 74 ls []) := by
  have hx := cx.1
  have hb := cx.2.1
  have hown := cx.2.2.2.1
  have hts := cx.2.2.2.2.1
  have hm : h'.2.2.1 ≤ hs.2.2.1 + mc ∧ h'.2.2.2.1 ≤ hs.2.2.2.1 + ms := ⟨Nat.le_of_eq e1, Nat.le_of_eq e2⟩
  intro h H locs cells slots ls hf hS hl
  unfold fX7_writes_74 at hf
  exact j_vret (pc := 74) cx hS hf e1 e2 dX7_writes_74
theorem wX7_writes_3 {N : Nat} {r : Unit} (cx : jCx p s m args meth c cX7_writes "WornSkinModel" 5 (Option.none : Option Jvm.ClassFile.FieldType) D dA H0 hs.2.2.2.2) (e1 : h'.2.2.1 = hs.2.2.1 + mc) (e2 : h'.2.2.2.1 = hs.2.2.2.1 + ms) (a0 : Nat) (hth : jTh hs a0 7) : ∀ (n : Nat) (x1 : Int32) (x2 : Int32) (x3 : Int32) (x4 : Int32), ∀ (h : jH) (H : Heap) (locs : List Loc) (cells slots : Nat) (ls : Array Slot), (fX7_writes_3 N a0 n x1 x2 x3 x4).1 h = some (r, h') → jS D dA H0 hs h H locs cells slots → lv_has ls 5 [(0, .ref a0), (1, .int x1), (2, .int x2), (3, .int x3), (4, .int x4)] → W p l e { frames := 0, cells := mc, slots := ms, locals := 0 } s m args below meth c H locs cells slots (jQ D dA H0 below s (.returned none) h' mc ms) (F0 m 3 ls []) := by
  have hx := cx.1
  have hb := cx.2.1
  have hown := cx.2.2.2.1
  have hts := cx.2.2.2.2.1
  have hm : h'.2.2.1 ≤ hs.2.2.1 + mc ∧ h'.2.2.2.1 ≤ hs.2.2.2.1 + ms := ⟨Nat.le_of_eq e1, Nat.le_of_eq e2⟩
  intro n
  induction n with
  | zero =>
    intro x1 x2 x3 x4 h H locs cells slots ls hf hS hl
    exact jE_f hf
  | succ n ih =>
    intro x1 x2 x3 x4 h H locs cells slots ls hf hS hl
    unfold fX7_writes_3 at hf
    refine lv_iload (pc := 3) hx hb dX7_writes_3 (lv_at hl 4 rfl) ?_
    refine lv_iload_n (pc := 5) hx hb dX7_writes_5 rfl (lv_at hl 3 rfl) ?_
    refine lv_aload_n (pc := 6) hx hb dX7_writes_6 rfl (lv_at hl 0 rfl) ?_
    refine j_gR (pc := 7) cx hS hf fd_WornSkinModel_long0 q1702 dX7_writes_7 (fun y1 hf => ?_)
    refine lv_iload_n (pc := 10) hx hb dX7_writes_10 rfl (lv_at hl 1 rfl) ?_
    refine j_aI (pc := 11) cx hS hf rfl dX7_writes_11 (fun y2 hf => ?_)
    refine lv_iadd (pc := 12) hx hb dX7_writes_12 ?_
    refine lv_icmp_ge (pc := 13) (tgt := 74) hx hb dX7_writes_13 (by decide) (fun hc => ?_) (fun hc => ?_)
    · have hf := jI_t hf hc
      exact wX7_writes_74 cx e1 e2 a0 hth _ _ _ _ _ _ hf hS (lv_sub hl [0] rfl)
    · have hf := jI_f hf hc
      refine lv_aload_n (pc := 16) hx hb dX7_writes_16 rfl (lv_at hl 0 rfl) ?_
      refine j_gR (pc := 17) cx hS hf fd_WornSkinModel_s q1732 dX7_writes_17 (fun y3 hf => ?_)
      refine lv_bipush (pc := 20) (v := 7) hx hb dX7_writes_20 rfl ?_
      refine lv_bipush (pc := 22) (v := 6) hx hb dX7_writes_22 rfl ?_
      refine lv_iload_n (pc := 24) hx hb dX7_writes_24 rfl (lv_at hl 2 rfl) ?_
      refine lv_imul (pc := 25) hx hb dX7_writes_25 ?_
      refine lv_iadd (pc := 26) hx hb dX7_writes_26 ?_
      refine lv_iload (pc := 27) hx hb dX7_writes_27 (lv_at hl 4 rfl) ?_
      refine lv_iadd (pc := 29) hx hb dX7_writes_29 ?_
      refine lv_aload_n (pc := 30) hx hb dX7_writes_30 rfl (lv_at hl 0 rfl) ?_
      refine j_gR (pc := 31) cx hS hf fd_WornSkinModel_s q1732 dX7_writes_31 (fun y4 hf => ?_)
      refine lv_bipush (pc := 34) (v := 7) hx hb dX7_writes_34 rfl ?_
      refine lv_bipush (pc := 36) (v := 6) hx hb dX7_writes_36 rfl ?_
      refine lv_iload_n (pc := 38) hx hb dX7_writes_38 rfl (lv_at hl 2 rfl) ?_
      refine lv_imul (pc := 39) hx hb dX7_writes_39 ?_
      refine lv_iadd (pc := 40) hx hb dX7_writes_40 ?_
      refine lv_iload (pc := 41) hx hb dX7_writes_41 (lv_at hl 4 rfl) ?_
      refine lv_iadd (pc := 43) hx hb dX7_writes_43 ?_
      refine j_aI (pc := 44) cx hS hf rfl dX7_writes_44 (fun y5 hf => ?_)
      refine lv_bipush (pc := 45) (v := 7) hx hb dX7_writes_45 rfl ?_
      refine lv_imul (pc := 47) hx hb dX7_writes_47 ?_
      refine lv_iload_n (pc := 48) hx hb dX7_writes_48 rfl (lv_at hl 1 rfl) ?_
      refine lv_iadd (pc := 49) hx hb dX7_writes_49 ?_
      refine lv_iconst (pc := 50) (v := 1) hx hb dX7_writes_50 rfl ?_
      refine lv_iadd (pc := 51) hx hb dX7_writes_51 ?_
      refine j_sI (pc := 52) cx hS hf rfl dX7_writes_52 (fun h H locs hf hS => ?_)
      refine lv_aload_n (pc := 53) hx hb dX7_writes_53 rfl (lv_at hl 0 rfl) ?_
      refine j_gR (pc := 54) cx hS hf fd_WornSkinModel_s q1732 dX7_writes_54 (fun y6 hf => ?_)
      refine lv_iconst (pc := 57) (v := 4) hx hb dX7_writes_57 rfl ?_
      refine lv_iload_n (pc := 58) hx hb dX7_writes_58 rfl (lv_at hl 2 rfl) ?_
      refine lv_iadd (pc := 59) hx hb dX7_writes_59 ?_
      refine lv_dup2_11 (pc := 60) hx hb dX7_writes_60 rfl (jrfc _) ?_
      refine j_aI (pc := 61) cx hS hf rfl dX7_writes_61 (fun y7 hf => ?_)
      refine lv_iconst (pc := 62) (v := 1) hx hb dX7_writes_62 rfl ?_
      refine lv_iload (pc := 63) hx hb dX7_writes_63 (lv_at hl 4 rfl) ?_
      refine lv_ishl (pc := 65) hx hb dX7_writes_65 ?_
      refine lv_ior (pc := 66) hx hb dX7_writes_66 ?_
      refine j_sI (pc := 67) cx hS hf rfl dX7_writes_67 (fun h H locs hf hS => ?_)
      refine lv_iinc (pc := 68) (v := (x4 + 1)) (lv' := [(4, .int (x4 + 1)), (0, .ref a0), (1, .int x1), (2, .int x2), (3, .int x3)]) hx hb dX7_writes_68 hl (k := 4) rfl rfl (Nat.le_of_ble_eq_true rfl) rfl (fun ls hl => ?_)
      refine lv_goto (pc := 71) (tgt := 3) hx hb dX7_writes_71 (by decide) ?_
      exact ih _ _ _ _ _ _ _ _ _ _ hf hS (lv_sub hl [1, 2, 3, 4, 0] rfl)
theorem wX7_writes_0 {N : Nat} {r : Unit} (cx : jCx p s m args meth c cX7_writes "WornSkinModel" 5 (Option.none : Option Jvm.ClassFile.FieldType) D dA H0 hs.2.2.2.2) (e1 : h'.2.2.1 = hs.2.2.1 + mc) (e2 : h'.2.2.2.1 = hs.2.2.2.1 + ms) (a0 : Nat) (hth : jTh hs a0 7) : ∀ (x1 : Int32) (x2 : Int32) (x3 : Int32), ∀ (h : jH) (H : Heap) (locs : List Loc) (cells slots : Nat) (ls : Array Slot), (fX7_writes N a0 x1 x2 x3).1 h = some (r, h') → jS D dA H0 hs h H locs cells slots → lv_has ls 5 [(0, .ref a0), (1, .int x1), (2, .int x2), (3, .int x3)] → W p l e { frames := 0, cells := mc, slots := ms, locals := 0 } s m args below meth c H locs cells slots (jQ D dA H0 below s (.returned none) h' mc ms) (F0 m 0 ls []) := by
  have hx := cx.1
  have hb := cx.2.1
  have hown := cx.2.2.2.1
  have hts := cx.2.2.2.2.1
  have hm : h'.2.2.1 ≤ hs.2.2.1 + mc ∧ h'.2.2.2.1 ≤ hs.2.2.2.1 + ms := ⟨Nat.le_of_eq e1, Nat.le_of_eq e2⟩
  intro x1 x2 x3 h H locs cells slots ls hf hS hl
  unfold fX7_writes at hf
  refine lv_iload_n (pc := 0) hx hb dX7_writes_0 rfl (lv_at hl 3 rfl) ?_
  refine lv_istore (pc := 1) (i := 4) (lv' := [(4, .int x3), (0, .ref a0), (1, .int x1), (2, .int x2), (3, .int x3)]) hx hb dX7_writes_1 hl (Nat.le_of_ble_eq_true rfl) rfl (fun ls hl => ?_)
  exact wX7_writes_3 cx e1 e2 a0 hth N _ _ _ _ _ _ _ _ _ _ hf hS (lv_sub hl [1, 2, 3, 4, 0] rfl)
theorem metX7_writes (l : Launch) (N : Nat) (a0 : Nat) (x1 : Int32) (x2 : Int32) (x3 : Int32) (h h' : jH) (r : Unit) (hth : jcd h a0 = some 7) (hf : (fX7_writes N a0 x1 x2 x3).1 h = some (r, h')) : jMet l yX7_writes (ws_ yX7_writes cX7_writes 5 (Option.none : Option Jvm.ClassFile.FieldType)) (0) (0) [.ref a0, .int x1, .int x2, .int x3] h h' (.returned none) := by
  refine jStart rfl (jle hf) (Nat.le_of_ble_eq_true rfl) ?_
  intro p e s m below meth c D dA H0 mc ms ls cx hnm e1 e2 hS hl
  have hth := jTh.mk hS hth
  exact wX7_writes_0 cx e1 e2 a0 hth _ _ _ _ _ _ _ _ _ hf hS hl
def fX7_write_32 (N : Nat) (a0 : Nat) : jM Int32 := jRn .boolean 0
def fX7_write (N : Nat) (a0 : Nat) (x1 : Int32) (x2 : Int32) (x3 : Int32) : jM Int32 := jB (jpI [7] 0 (some a0) 0) fun _ => jB (fX7_isText a0 x1) fun y1 => if y1 = 0 then (fX7_write_32 N a0) else (jB (fX7_isLine a0 x2 x3) fun y2 => if y2 = 0 then (fX7_write_32 N a0) else (jB (fX7_canWrite N a0 x1 x2 x3) fun y3 => if y3 = 0 then (fX7_write_32 N a0) else (jB (fX7_keeps N a0) fun _ => jB (fX7_writes N a0 x1 x2 x3) fun _ => jRn .boolean 1)))
theorem wX7_write_32 {N : Nat} {r : Int32} (cx : jCx p s m args meth c cX7_write "WornSkinModel" 4 (Option.some Jvm.ClassFile.FieldType.boolean) D dA H0 hs.2.2.2.2) (e1 : h'.2.2.1 = hs.2.2.1 + mc) (e2 : h'.2.2.2.1 = hs.2.2.2.1 + ms) (a0 : Nat) (hth : jTh hs a0 7) : ∀ (h : jH) (H : Heap) (locs : List Loc) (cells slots : Nat) (ls : Array Slot), (fX7_write_32 N a0).1 h = some (r, h') → jS D dA H0 hs h H locs cells slots → lv_has ls 4 [(0, .ref a0)] → W p l e { frames := 2, cells := mc, slots := ms, locals := 45 } s m args below meth c H locs cells slots (jQ D dA H0 below s (.returned (some (.int r))) h' mc ms) (F0 m 32 ls []) := by
  have hx := cx.1
  have hb := cx.2.1
  have hown := cx.2.2.2.1
  have hts := cx.2.2.2.2.1
  have hm : h'.2.2.1 ≤ hs.2.2.1 + mc ∧ h'.2.2.2.1 ≤ hs.2.2.2.1 + ms := ⟨Nat.le_of_eq e1, Nat.le_of_eq e2⟩
  intro h H locs cells slots ls hf hS hl
  unfold fX7_write_32 at hf
  refine lv_iconst (pc := 32) (v := 0) hx hb dX7_write_32 rfl ?_
  exact j_zret (pc := 33) cx (Or.inl rfl) hS hf e1 e2 dX7_write_33
theorem wX7_write_0 {N : Nat} {r : Int32} (cx : jCx p s m args meth c cX7_write "WornSkinModel" 4 (Option.some Jvm.ClassFile.FieldType.boolean) D dA H0 hs.2.2.2.2) (e1 : h'.2.2.1 = hs.2.2.1 + mc) (e2 : h'.2.2.2.1 = hs.2.2.2.1 + ms) (a0 : Nat) (hth : jTh hs a0 7) : ∀ (x1 : Int32) (x2 : Int32) (x3 : Int32), ∀ (h : jH) (H : Heap) (locs : List Loc) (cells slots : Nat) (ls : Array Slot), (fX7_write N a0 x1 x2 x3).1 h = some (r, h') → jS D dA H0 hs h H locs cells slots → lv_has ls 4 [(0, .ref a0), (1, .int x1), (2, .int x2), (3, .int x3)] → W p l e { frames := 2, cells := mc, slots := ms, locals := 45 } s m args below meth c H locs cells slots (jQ D dA H0 below s (.returned (some (.int r))) h' mc ms) (F0 m 0 ls []) := by
  have hx := cx.1
  have hb := cx.2.1
  have hown := cx.2.2.2.1
  have hts := cx.2.2.2.2.1
  have hm : h'.2.2.1 ≤ hs.2.2.1 + mc ∧ h'.2.2.2.1 ≤ hs.2.2.2.1 + ms := ⟨Nat.le_of_eq e1, Nat.le_of_eq e2⟩
  intro x1 x2 x3 h H locs cells slots ls hf hS hl
  unfold fX7_write at hf
  refine lv_aload_n (pc := 0) hx hb dX7_write_0 rfl (lv_at hl 0 rfl) ?_
  refine lv_iconst (pc := 1) (v := 0) hx hb dX7_write_1 rfl ?_
  refine j_pI (pc := 2) cx hS hf fp_WornSkinModel_thrown (Or.inl rfl) q1684 dX7_write_2 (fun h H locs hf hS => ?_)
  refine lv_aload_n (pc := 5) hx hb dX7_write_5 rfl (lv_at hl 0 rfl) ?_
  refine lv_iload_n (pc := 6) hx hb dX7_write_6 rfl (lv_at hl 1 rfl) ?_
  obtain ⟨y1, h1, e9, hf⟩ := jB_some hf
  refine j_callV (pc := 7) (st1 := [.int y1]) (As := [.int x1]) (rest := []) cx hS rfl hl.1 hm (metX7_isText l _ _ _ _ _ (hth.at hS) e9) (jle hf) (hth.at hS) rfl (lw_V q2071 q2073 qs89 q123 q2074) pdX7_isText rfl rfl (Nat.le_of_ble_eq_true rfl) ⟨Nat.le_of_ble_eq_true rfl, Nat.le_of_ble_eq_true rfl⟩ dX7_write_7 rfl (fun H locs cells slots hS => ?_)
  refine lv_if_eq (pc := 10) (tgt := 32) hx hb dX7_write_10 (by decide) (fun hc => ?_) (fun hc => ?_)
  · have hf := jI_t hf hc
    exact wX7_write_32 cx e1 e2 a0 hth _ _ _ _ _ _ hf hS (lv_sub hl [0] rfl)
  · have hf := jI_f hf hc
    refine lv_aload_n (pc := 13) hx hb dX7_write_13 rfl (lv_at hl 0 rfl) ?_
    refine lv_iload_n (pc := 14) hx hb dX7_write_14 rfl (lv_at hl 2 rfl) ?_
    refine lv_iload_n (pc := 15) hx hb dX7_write_15 rfl (lv_at hl 3 rfl) ?_
    obtain ⟨y2, h1, e9, hf⟩ := jB_some hf
    refine j_callV (pc := 16) (st1 := [.int y2]) (As := [.int x2, .int x3]) (rest := []) cx hS rfl hl.1 hm (metX7_isLine l _ _ _ _ _ _ (hth.at hS) e9) (jle hf) (hth.at hS) rfl (lw_V q2094 q2096 qs93 q123 q2097) pdX7_isLine rfl rfl (Nat.le_of_ble_eq_true rfl) ⟨Nat.le_of_ble_eq_true rfl, Nat.le_of_ble_eq_true rfl⟩ dX7_write_16 rfl (fun H locs cells slots hS => ?_)
    refine lv_if_eq (pc := 19) (tgt := 32) hx hb dX7_write_19 (by decide) (fun hc => ?_) (fun hc => ?_)
    · have hf := jI_t hf hc
      exact wX7_write_32 cx e1 e2 a0 hth _ _ _ _ _ _ hf hS (lv_sub hl [0] rfl)
    · have hf := jI_f hf hc
      refine lv_aload_n (pc := 22) hx hb dX7_write_22 rfl (lv_at hl 0 rfl) ?_
      refine lv_iload_n (pc := 23) hx hb dX7_write_23 rfl (lv_at hl 1 rfl) ?_
      refine lv_iload_n (pc := 24) hx hb dX7_write_24 rfl (lv_at hl 2 rfl) ?_
      refine lv_iload_n (pc := 25) hx hb dX7_write_25 rfl (lv_at hl 3 rfl) ?_
      obtain ⟨y3, h1, e9, hf⟩ := jB_some hf
      refine j_callV (pc := 26) (st1 := [.int y3]) (As := [.int x1, .int x2, .int x3]) (rest := []) cx hS rfl hl.1 hm (metX7_canWrite l _ _ _ _ _ _ _ _ (hth.at hS) e9) (jle hf) (hth.at hS) rfl (lw_V q2116 q2118 qs94 q123 q2119) pdX7_canWrite rfl rfl (Nat.le_of_ble_eq_true rfl) ⟨Nat.le_of_ble_eq_true rfl, Nat.le_of_ble_eq_true rfl⟩ dX7_write_26 rfl (fun H locs cells slots hS => ?_)
      refine lv_if_ne (pc := 29) (tgt := 34) hx hb dX7_write_29 (by decide) (fun hc => ?_) (fun hc => ?_)
      · have hf := jI_f hf hc
        refine lv_aload_n (pc := 34) hx hb dX7_write_34 rfl (lv_at hl 0 rfl) ?_
        obtain ⟨_, h1, e9, hf⟩ := jB_some hf
        refine j_callV (pc := 35) (st1 := []) (As := []) (rest := []) cx hS rfl hl.1 hm (metX7_keeps l _ _ _ _ _ (hth.at hS) e9) (jle hf) (hth.at hS) rfl (lw_V q2121 q2123 qs95 q123 q2124) pdX7_keeps rfl rfl (Nat.le_of_ble_eq_true rfl) ⟨Nat.le_of_ble_eq_true rfl, Nat.le_of_ble_eq_true rfl⟩ dX7_write_35 rfl (fun H locs cells slots hS => ?_)
        refine lv_aload_n (pc := 38) hx hb dX7_write_38 rfl (lv_at hl 0 rfl) ?_
        refine lv_iload_n (pc := 39) hx hb dX7_write_39 rfl (lv_at hl 1 rfl) ?_
        refine lv_iload_n (pc := 40) hx hb dX7_write_40 rfl (lv_at hl 2 rfl) ?_
        refine lv_iload_n (pc := 41) hx hb dX7_write_41 rfl (lv_at hl 3 rfl) ?_
        obtain ⟨_, h1, e9, hf⟩ := jB_some hf
        refine j_callV (pc := 42) (st1 := []) (As := [.int x1, .int x2, .int x3]) (rest := []) cx hS rfl hl.1 hm (metX7_writes l _ _ _ _ _ _ _ _ (hth.at hS) e9) (jle hf) (hth.at hS) rfl (lw_V q2128 q2130 qs96 q123 q2131) pdX7_writes rfl rfl (Nat.le_of_ble_eq_true rfl) ⟨Nat.le_of_ble_eq_true rfl, Nat.le_of_ble_eq_true rfl⟩ dX7_write_42 rfl (fun H locs cells slots hS => ?_)
        refine lv_iconst (pc := 45) (v := 1) hx hb dX7_write_45 rfl ?_
        exact j_zret (pc := 46) cx (Or.inl rfl) hS hf e1 e2 dX7_write_46
      · have hf := jI_t hf hc
        exact wX7_write_32 cx e1 e2 a0 hth _ _ _ _ _ _ hf hS (lv_sub hl [0] rfl)
theorem metX7_write (l : Launch) (N : Nat) (a0 : Nat) (x1 : Int32) (x2 : Int32) (x3 : Int32) (h h' : jH) (r : Int32) (hth : jcd h a0 = some 7) (hf : (fX7_write N a0 x1 x2 x3).1 h = some (r, h')) : jMet l yX7_write (ws_ yX7_write cX7_write 4 (Option.some Jvm.ClassFile.FieldType.boolean)) (2) (45) [.ref a0, .int x1, .int x2, .int x3] h h' (.returned (some (.int r))) := by
  refine jStart rfl (jle hf) (Nat.le_of_ble_eq_true rfl) ?_
  intro p e s m below meth c D dA H0 mc ms ls cx hnm e1 e2 hS hl
  have hth := jTh.mk hS hth
  exact wX7_write_0 cx e1 e2 a0 hth _ _ _ _ _ _ _ _ _ hf hS hl
def fX7_scrapedBy_115 (N : Nat) (a0 : Nat) (v0 : Int32) : jM Int32 := jR v0
def fX7_scrapedBy_100 (N : Nat) (a0 : Nat) (x3 : Int32) (x4 : Int32) (x5 : Int32) : jM Int32 := if x3 = 0 then (fX7_scrapedBy_115 N a0 0) else (fX7_scrapedBy_115 N a0 ((1 + x4) + x5))
def fX7_scrapedBy_94 (N : Nat) (k20 : Int32 → Int32 → Int32 → Int32 → Int32 → jM Int32) (a0 : Nat) (x1 : Int32) (x3 : Int32) (x4 : Int32) (x5 : Int32) (x6 : Int32) : jM Int32 := k20 x1 x3 x4 x5 (x6 + 1)
def fX7_scrapedBy_91 (N : Nat) (k20 : Int32 → Int32 → Int32 → Int32 → Int32 → jM Int32) (a0 : Nat) (x1 : Int32) (x3 : Int32) (x4 : Int32) (x6 : Int32) (v0 : Int32) (v1 : Int32) : jM Int32 := fX7_scrapedBy_94 N k20 a0 x1 x3 x4 (v0 ||| v1) x6
def fX7_scrapedBy_20 (N : Nat) (a0 : Nat) : Nat → Int32 → Int32 → Int32 → Int32 → Int32 → jM Int32
  | 0, _, _, _, _, _ => jE
  | n + 1, x1, x3, x4, x5, x6 => if 6 ≤ x6 then (fX7_scrapedBy_100 N a0 x3 x4 x5) else (if ((x3 >>> (x6 &&& 31)) &&& 1) = 0 then (fX7_scrapedBy_94 N (fX7_scrapedBy_20 N a0 n) a0 x1 x3 x4 x5 x6) else (jB (jgR [7] 48 (some a0)) fun y1 => jB (jaI 0 y1 ((7 + (6 * x1)) + x6)) fun y2 => jB (jnz 7) fun _ => jB (jgR [7] 17 (some a0)) fun y3 => jB (jaI 0 y3 ((y2 - y2 / 7 * 7) - 1)) fun y4 => jB (jgR [7] 16 (some a0)) fun y5 => jB (jaI 0 y5 ((y2 - y2 / 7 * 7) - 1)) fun y6 => if y6 = 3 then (fX7_scrapedBy_91 N (fX7_scrapedBy_20 N a0 n) a0 x1 x3 (x4 ||| y4) x6 x5 1) else (fX7_scrapedBy_91 N (fX7_scrapedBy_20 N a0 n) a0 x1 x3 (x4 ||| y4) x6 x5 0)))
def fX7_scrapedBy (N : Nat) (a0 : Nat) (x1 : Int32) (x2 : Int32) : jM Int32 := jB (jgR [7] 48 (some a0)) fun y1 => jB (jaI 0 y1 (4 + x1)) fun y2 => fX7_scrapedBy_20 N a0 N x1 (y2 &&& x2) 0 0 0
theorem wX7_scrapedBy_115 {N : Nat} {r : Int32} (cx : jCx p s m args meth c cX7_scrapedBy "WornSkinModel" 8 (Option.some Jvm.ClassFile.FieldType.int) D dA H0 hs.2.2.2.2) (e1 : h'.2.2.1 = hs.2.2.1 + mc) (e2 : h'.2.2.2.1 = hs.2.2.2.1 + ms) (a0 : Nat) (hth : jTh hs a0 7) : ∀ (v0 : Int32), ∀ (h : jH) (H : Heap) (locs : List Loc) (cells slots : Nat) (ls : Array Slot), (fX7_scrapedBy_115 N a0 v0).1 h = some (r, h') → jS D dA H0 hs h H locs cells slots → lv_has ls 8 [(0, .ref a0)] → W p l e { frames := 0, cells := mc, slots := ms, locals := 0 } s m args below meth c H locs cells slots (jQ D dA H0 below s (.returned (some (.int r))) h' mc ms) (F0 m 115 ls [.int v0]) := by
  have hx := cx.1
  have hb := cx.2.1
  have hown := cx.2.2.2.1
  have hts := cx.2.2.2.2.1
  have hm : h'.2.2.1 ≤ hs.2.2.1 + mc ∧ h'.2.2.2.1 ≤ hs.2.2.2.1 + ms := ⟨Nat.le_of_eq e1, Nat.le_of_eq e2⟩
  intro v0 h H locs cells slots ls hf hS hl
  unfold fX7_scrapedBy_115 at hf
  exact j_iret (pc := 115) cx hS hf e1 e2 dX7_scrapedBy_115
theorem wX7_scrapedBy_100 {N : Nat} {r : Int32} (cx : jCx p s m args meth c cX7_scrapedBy "WornSkinModel" 8 (Option.some Jvm.ClassFile.FieldType.int) D dA H0 hs.2.2.2.2) (e1 : h'.2.2.1 = hs.2.2.1 + mc) (e2 : h'.2.2.2.1 = hs.2.2.2.1 + ms) (a0 : Nat) (hth : jTh hs a0 7) : ∀ (x3 : Int32) (x4 : Int32) (x5 : Int32), ∀ (h : jH) (H : Heap) (locs : List Loc) (cells slots : Nat) (ls : Array Slot), (fX7_scrapedBy_100 N a0 x3 x4 x5).1 h = some (r, h') → jS D dA H0 hs h H locs cells slots → lv_has ls 8 [(0, .ref a0), (3, .int x3), (4, .int x4), (5, .int x5)] → W p l e { frames := 0, cells := mc, slots := ms, locals := 0 } s m args below meth c H locs cells slots (jQ D dA H0 below s (.returned (some (.int r))) h' mc ms) (F0 m 100 ls []) := by
  have hx := cx.1
  have hb := cx.2.1
  have hown := cx.2.2.2.1
  have hts := cx.2.2.2.2.1
  have hm : h'.2.2.1 ≤ hs.2.2.1 + mc ∧ h'.2.2.2.1 ≤ hs.2.2.2.1 + ms := ⟨Nat.le_of_eq e1, Nat.le_of_eq e2⟩
  intro x3 x4 x5 h H locs cells slots ls hf hS hl
  unfold fX7_scrapedBy_100 at hf
  refine lv_iload_n (pc := 100) hx hb dX7_scrapedBy_100 rfl (lv_at hl 1 rfl) ?_
  refine lv_if_ne (pc := 101) (tgt := 108) hx hb dX7_scrapedBy_101 (by decide) (fun hc => ?_) (fun hc => ?_)
  · have hf := jI_f hf hc
    refine lv_iconst (pc := 108) (v := 1) hx hb dX7_scrapedBy_108 rfl ?_
    refine lv_iload (pc := 109) hx hb dX7_scrapedBy_109 (lv_at hl 2 rfl) ?_
    refine lv_iadd (pc := 111) hx hb dX7_scrapedBy_111 ?_
    refine lv_iload (pc := 112) hx hb dX7_scrapedBy_112 (lv_at hl 3 rfl) ?_
    refine lv_iadd (pc := 114) hx hb dX7_scrapedBy_114 ?_
    exact wX7_scrapedBy_115 cx e1 e2 a0 hth _ _ _ _ _ _ _ hf hS (lv_sub hl [0] rfl)
  · have hf := jI_t hf hc
    refine lv_iconst (pc := 104) (v := 0) hx hb dX7_scrapedBy_104 rfl ?_
    refine lv_goto (pc := 105) (tgt := 115) hx hb dX7_scrapedBy_105 (by decide) ?_
    exact wX7_scrapedBy_115 cx e1 e2 a0 hth _ _ _ _ _ _ _ hf hS (lv_sub hl [0] rfl)
theorem wX7_scrapedBy_94 {N : Nat} {k20 : Int32 → Int32 → Int32 → Int32 → Int32 → jM Int32} {r : Int32} (cx : jCx p s m args meth c cX7_scrapedBy "WornSkinModel" 8 (Option.some Jvm.ClassFile.FieldType.int) D dA H0 hs.2.2.2.2) (e1 : h'.2.2.1 = hs.2.2.1 + mc) (e2 : h'.2.2.2.1 = hs.2.2.2.1 + ms) (a0 : Nat) (hth : jTh hs a0 7) (hk20 : ∀ (x1 : Int32) (x3 : Int32) (x4 : Int32) (x5 : Int32) (x6 : Int32), ∀ (h : jH) (H : Heap) (locs : List Loc) (cells slots : Nat) (ls : Array Slot), (k20 x1 x3 x4 x5 x6).1 h = some (r, h') → jS D dA H0 hs h H locs cells slots → lv_has ls 8 [(0, .ref a0), (1, .int x1), (3, .int x3), (4, .int x4), (5, .int x5), (6, .int x6)] → W p l e { frames := 0, cells := mc, slots := ms, locals := 0 } s m args below meth c H locs cells slots (jQ D dA H0 below s (.returned (some (.int r))) h' mc ms) (F0 m 20 ls [])) : ∀ (x1 : Int32) (x3 : Int32) (x4 : Int32) (x5 : Int32) (x6 : Int32), ∀ (h : jH) (H : Heap) (locs : List Loc) (cells slots : Nat) (ls : Array Slot), (fX7_scrapedBy_94 N k20 a0 x1 x3 x4 x5 x6).1 h = some (r, h') → jS D dA H0 hs h H locs cells slots → lv_has ls 8 [(0, .ref a0), (1, .int x1), (3, .int x3), (4, .int x4), (5, .int x5), (6, .int x6)] → W p l e { frames := 0, cells := mc, slots := ms, locals := 0 } s m args below meth c H locs cells slots (jQ D dA H0 below s (.returned (some (.int r))) h' mc ms) (F0 m 94 ls []) := by
  have hx := cx.1
  have hb := cx.2.1
  have hown := cx.2.2.2.1
  have hts := cx.2.2.2.2.1
  have hm : h'.2.2.1 ≤ hs.2.2.1 + mc ∧ h'.2.2.2.1 ≤ hs.2.2.2.1 + ms := ⟨Nat.le_of_eq e1, Nat.le_of_eq e2⟩
  intro x1 x3 x4 x5 x6 h H locs cells slots ls hf hS hl
  unfold fX7_scrapedBy_94 at hf
  refine lv_iinc (pc := 94) (v := (x6 + 1)) (lv' := [(6, .int (x6 + 1)), (0, .ref a0), (1, .int x1), (3, .int x3), (4, .int x4), (5, .int x5)]) hx hb dX7_scrapedBy_94 hl (k := 5) rfl rfl (Nat.le_of_ble_eq_true rfl) rfl (fun ls hl => ?_)
  refine lv_goto (pc := 97) (tgt := 20) hx hb dX7_scrapedBy_97 (by decide) ?_
  exact hk20 _ _ _ _ _ _ _ _ _ _ _ hf hS (lv_sub hl [1, 2, 3, 4, 5, 0] rfl)
theorem wX7_scrapedBy_91 {N : Nat} {k20 : Int32 → Int32 → Int32 → Int32 → Int32 → jM Int32} {r : Int32} (cx : jCx p s m args meth c cX7_scrapedBy "WornSkinModel" 8 (Option.some Jvm.ClassFile.FieldType.int) D dA H0 hs.2.2.2.2) (e1 : h'.2.2.1 = hs.2.2.1 + mc) (e2 : h'.2.2.2.1 = hs.2.2.2.1 + ms) (a0 : Nat) (hth : jTh hs a0 7) (hk20 : ∀ (x1 : Int32) (x3 : Int32) (x4 : Int32) (x5 : Int32) (x6 : Int32), ∀ (h : jH) (H : Heap) (locs : List Loc) (cells slots : Nat) (ls : Array Slot), (k20 x1 x3 x4 x5 x6).1 h = some (r, h') → jS D dA H0 hs h H locs cells slots → lv_has ls 8 [(0, .ref a0), (1, .int x1), (3, .int x3), (4, .int x4), (5, .int x5), (6, .int x6)] → W p l e { frames := 0, cells := mc, slots := ms, locals := 0 } s m args below meth c H locs cells slots (jQ D dA H0 below s (.returned (some (.int r))) h' mc ms) (F0 m 20 ls [])) : ∀ (x1 : Int32) (x3 : Int32) (x4 : Int32) (x6 : Int32) (v0 : Int32) (v1 : Int32), ∀ (h : jH) (H : Heap) (locs : List Loc) (cells slots : Nat) (ls : Array Slot), (fX7_scrapedBy_91 N k20 a0 x1 x3 x4 x6 v0 v1).1 h = some (r, h') → jS D dA H0 hs h H locs cells slots → lv_has ls 8 [(0, .ref a0), (1, .int x1), (3, .int x3), (4, .int x4), (6, .int x6)] → W p l e { frames := 0, cells := mc, slots := ms, locals := 0 } s m args below meth c H locs cells slots (jQ D dA H0 below s (.returned (some (.int r))) h' mc ms) (F0 m 91 ls [.int v1, .int v0]) := by
  have hx := cx.1
  have hb := cx.2.1
  have hown := cx.2.2.2.1
  have hts := cx.2.2.2.2.1
  have hm : h'.2.2.1 ≤ hs.2.2.1 + mc ∧ h'.2.2.2.1 ≤ hs.2.2.2.1 + ms := ⟨Nat.le_of_eq e1, Nat.le_of_eq e2⟩
  intro x1 x3 x4 x6 v0 v1 h H locs cells slots ls hf hS hl
  unfold fX7_scrapedBy_91 at hf
  refine lv_ior (pc := 91) hx hb dX7_scrapedBy_91 ?_
  refine lv_istore (pc := 92) (i := 5) (lv' := [(5, .int (v0 ||| v1)), (0, .ref a0), (1, .int x1), (3, .int x3), (4, .int x4), (6, .int x6)]) hx hb dX7_scrapedBy_92 hl (Nat.le_of_ble_eq_true rfl) rfl (fun ls hl => ?_)
  exact wX7_scrapedBy_94 cx e1 e2 a0 hth hk20 _ _ _ _ _ _ _ _ _ _ _ hf hS (lv_sub hl [1, 2, 3, 4, 0, 5] rfl)
theorem wX7_scrapedBy_20 {N : Nat} {r : Int32} (cx : jCx p s m args meth c cX7_scrapedBy "WornSkinModel" 8 (Option.some Jvm.ClassFile.FieldType.int) D dA H0 hs.2.2.2.2) (e1 : h'.2.2.1 = hs.2.2.1 + mc) (e2 : h'.2.2.2.1 = hs.2.2.2.1 + ms) (a0 : Nat) (hth : jTh hs a0 7) : ∀ (n : Nat) (x1 : Int32) (x3 : Int32) (x4 : Int32) (x5 : Int32) (x6 : Int32), ∀ (h : jH) (H : Heap) (locs : List Loc) (cells slots : Nat) (ls : Array Slot), (fX7_scrapedBy_20 N a0 n x1 x3 x4 x5 x6).1 h = some (r, h') → jS D dA H0 hs h H locs cells slots → lv_has ls 8 [(0, .ref a0), (1, .int x1), (3, .int x3), (4, .int x4), (5, .int x5), (6, .int x6)] → W p l e { frames := 0, cells := mc, slots := ms, locals := 0 } s m args below meth c H locs cells slots (jQ D dA H0 below s (.returned (some (.int r))) h' mc ms) (F0 m 20 ls []) := by
  have hx := cx.1
  have hb := cx.2.1
  have hown := cx.2.2.2.1
  have hts := cx.2.2.2.2.1
  have hm : h'.2.2.1 ≤ hs.2.2.1 + mc ∧ h'.2.2.2.1 ≤ hs.2.2.2.1 + ms := ⟨Nat.le_of_eq e1, Nat.le_of_eq e2⟩
  intro n
  induction n with
  | zero =>
    intro x1 x3 x4 x5 x6 h H locs cells slots ls hf hS hl
    exact jE_f hf
  | succ n ih =>
    intro x1 x3 x4 x5 x6 h H locs cells slots ls hf hS hl
    unfold fX7_scrapedBy_20 at hf
    refine lv_iload (pc := 20) hx hb dX7_scrapedBy_20 (lv_at hl 5 rfl) ?_
    refine lv_bipush (pc := 22) (v := 6) hx hb dX7_scrapedBy_22 rfl ?_
    refine lv_icmp_ge (pc := 24) (tgt := 100) hx hb dX7_scrapedBy_24 (by decide) (fun hc => ?_) (fun hc => ?_)
    · have hf := jI_t hf hc
      exact wX7_scrapedBy_100 cx e1 e2 a0 hth _ _ _ _ _ _ _ _ _ hf hS (lv_sub hl [0, 2, 3, 4] rfl)
    · have hf := jI_f hf hc
      refine lv_iload_n (pc := 27) hx hb dX7_scrapedBy_27 rfl (lv_at hl 2 rfl) ?_
      refine lv_iload (pc := 28) hx hb dX7_scrapedBy_28 (lv_at hl 5 rfl) ?_
      refine lv_ishr (pc := 30) hx hb dX7_scrapedBy_30 ?_
      refine lv_iconst (pc := 31) (v := 1) hx hb dX7_scrapedBy_31 rfl ?_
      refine lv_iand (pc := 32) hx hb dX7_scrapedBy_32 ?_
      refine lv_if_ne (pc := 33) (tgt := 39) hx hb dX7_scrapedBy_33 (by decide) (fun hc => ?_) (fun hc => ?_)
      · have hf := jI_f hf hc
        refine lv_aload_n (pc := 39) hx hb dX7_scrapedBy_39 rfl (lv_at hl 0 rfl) ?_
        refine j_gR (pc := 40) cx hS hf fd_WornSkinModel_s q1732 dX7_scrapedBy_40 (fun y1 hf => ?_)
        refine lv_bipush (pc := 43) (v := 7) hx hb dX7_scrapedBy_43 rfl ?_
        refine lv_bipush (pc := 45) (v := 6) hx hb dX7_scrapedBy_45 rfl ?_
        refine lv_iload_n (pc := 47) hx hb dX7_scrapedBy_47 rfl (lv_at hl 1 rfl) ?_
        refine lv_imul (pc := 48) hx hb dX7_scrapedBy_48 ?_
        refine lv_iadd (pc := 49) hx hb dX7_scrapedBy_49 ?_
        refine lv_iload (pc := 50) hx hb dX7_scrapedBy_50 (lv_at hl 5 rfl) ?_
        refine lv_iadd (pc := 52) hx hb dX7_scrapedBy_52 ?_
        refine j_aI (pc := 53) cx hS hf rfl dX7_scrapedBy_53 (fun y2 hf => ?_)
        refine lv_bipush (pc := 54) (v := 7) hx hb dX7_scrapedBy_54 rfl ?_
        obtain ⟨hne, hf⟩ := jnz_s hf
        refine lv_irem (pc := 56) hx hb dX7_scrapedBy_56 hne ?_
        refine lv_iconst (pc := 57) (v := 1) hx hb dX7_scrapedBy_57 rfl ?_
        refine lv_isub (pc := 58) hx hb dX7_scrapedBy_58 ?_
        refine lv_istore (pc := 59) (i := 7) (lv' := [(7, .int ((y2 - y2 / 7 * 7) - 1)), (0, .ref a0), (1, .int x1), (3, .int x3), (4, .int x4), (5, .int x5), (6, .int x6)]) hx hb dX7_scrapedBy_59 hl (Nat.le_of_ble_eq_true rfl) rfl (fun ls hl => ?_)
        refine lv_iload (pc := 61) hx hb dX7_scrapedBy_61 (lv_at hl 4 rfl) ?_
        refine lv_aload_n (pc := 63) hx hb dX7_scrapedBy_63 rfl (lv_at hl 1 rfl) ?_
        refine j_gR (pc := 64) cx hS hf fd_WornSkinModel_gall q1701 dX7_scrapedBy_64 (fun y3 hf => ?_)
        refine lv_iload (pc := 67) hx hb dX7_scrapedBy_67 (lv_at hl 0 rfl) ?_
        refine j_aI (pc := 69) cx hS hf rfl dX7_scrapedBy_69 (fun y4 hf => ?_)
        refine lv_ior (pc := 70) hx hb dX7_scrapedBy_70 ?_
        refine lv_istore (pc := 71) (i := 4) (lv' := [(4, .int (x4 ||| y4)), (7, .int ((y2 - y2 / 7 * 7) - 1)), (0, .ref a0), (1, .int x1), (3, .int x3), (5, .int x5), (6, .int x6)]) hx hb dX7_scrapedBy_71 hl (Nat.le_of_ble_eq_true rfl) rfl (fun ls hl => ?_)
        refine lv_iload (pc := 73) hx hb dX7_scrapedBy_73 (lv_at hl 5 rfl) ?_
        refine lv_aload_n (pc := 75) hx hb dX7_scrapedBy_75 rfl (lv_at hl 2 rfl) ?_
        refine j_gR (pc := 76) cx hS hf fd_WornSkinModel_kind q1700 dX7_scrapedBy_76 (fun y5 hf => ?_)
        refine lv_iload (pc := 79) hx hb dX7_scrapedBy_79 (lv_at hl 1 rfl) ?_
        refine j_aI (pc := 81) cx hS hf rfl dX7_scrapedBy_81 (fun y6 hf => ?_)
        refine lv_iconst (pc := 82) (v := 3) hx hb dX7_scrapedBy_82 rfl ?_
        refine lv_icmp_ne (pc := 83) (tgt := 90) hx hb dX7_scrapedBy_83 (by decide) (fun hc => ?_) (fun hc => ?_)
        · have hf := jI_f hf hc
          refine lv_iconst (pc := 90) (v := 0) hx hb dX7_scrapedBy_90 rfl ?_
          exact wX7_scrapedBy_91 cx e1 e2 a0 hth ih _ _ _ _ _ _ _ _ _ _ _ _ hf hS (lv_sub hl [2, 3, 4, 0, 6] rfl)
        · have hf := jI_t hf hc
          refine lv_iconst (pc := 86) (v := 1) hx hb dX7_scrapedBy_86 rfl ?_
          refine lv_goto (pc := 87) (tgt := 91) hx hb dX7_scrapedBy_87 (by decide) ?_
          exact wX7_scrapedBy_91 cx e1 e2 a0 hth ih _ _ _ _ _ _ _ _ _ _ _ _ hf hS (lv_sub hl [2, 3, 4, 0, 6] rfl)
      · have hf := jI_t hf hc
        refine lv_goto (pc := 36) (tgt := 94) hx hb dX7_scrapedBy_36 (by decide) ?_
        exact wX7_scrapedBy_94 cx e1 e2 a0 hth ih _ _ _ _ _ _ _ _ _ _ _ hf hS hl
theorem wX7_scrapedBy_0 {N : Nat} {r : Int32} (cx : jCx p s m args meth c cX7_scrapedBy "WornSkinModel" 8 (Option.some Jvm.ClassFile.FieldType.int) D dA H0 hs.2.2.2.2) (e1 : h'.2.2.1 = hs.2.2.1 + mc) (e2 : h'.2.2.2.1 = hs.2.2.2.1 + ms) (a0 : Nat) (hth : jTh hs a0 7) : ∀ (x1 : Int32) (x2 : Int32), ∀ (h : jH) (H : Heap) (locs : List Loc) (cells slots : Nat) (ls : Array Slot), (fX7_scrapedBy N a0 x1 x2).1 h = some (r, h') → jS D dA H0 hs h H locs cells slots → lv_has ls 8 [(0, .ref a0), (1, .int x1), (2, .int x2)] → W p l e { frames := 0, cells := mc, slots := ms, locals := 0 } s m args below meth c H locs cells slots (jQ D dA H0 below s (.returned (some (.int r))) h' mc ms) (F0 m 0 ls []) := by
  have hx := cx.1
  have hb := cx.2.1
  have hown := cx.2.2.2.1
  have hts := cx.2.2.2.2.1
  have hm : h'.2.2.1 ≤ hs.2.2.1 + mc ∧ h'.2.2.2.1 ≤ hs.2.2.2.1 + ms := ⟨Nat.le_of_eq e1, Nat.le_of_eq e2⟩
  intro x1 x2 h H locs cells slots ls hf hS hl
  unfold fX7_scrapedBy at hf
  refine lv_aload_n (pc := 0) hx hb dX7_scrapedBy_0 rfl (lv_at hl 0 rfl) ?_
  refine j_gR (pc := 1) cx hS hf fd_WornSkinModel_s q1732 dX7_scrapedBy_1 (fun y1 hf => ?_)
  refine lv_iconst (pc := 4) (v := 4) hx hb dX7_scrapedBy_4 rfl ?_
  refine lv_iload_n (pc := 5) hx hb dX7_scrapedBy_5 rfl (lv_at hl 1 rfl) ?_
  refine lv_iadd (pc := 6) hx hb dX7_scrapedBy_6 ?_
  refine j_aI (pc := 7) cx hS hf rfl dX7_scrapedBy_7 (fun y2 hf => ?_)
  refine lv_iload_n (pc := 8) hx hb dX7_scrapedBy_8 rfl (lv_at hl 2 rfl) ?_
  refine lv_iand (pc := 9) hx hb dX7_scrapedBy_9 ?_
  refine lv_istore_n (pc := 10) (i := 3) (lv' := [(3, .int (y2 &&& x2)), (0, .ref a0), (1, .int x1), (2, .int x2)]) hx hb dX7_scrapedBy_10 rfl hl (Nat.le_of_ble_eq_true rfl) rfl (fun ls hl => ?_)
  refine lv_iconst (pc := 11) (v := 0) hx hb dX7_scrapedBy_11 rfl ?_
  refine lv_istore (pc := 12) (i := 4) (lv' := [(4, .int 0), (3, .int (y2 &&& x2)), (0, .ref a0), (1, .int x1), (2, .int x2)]) hx hb dX7_scrapedBy_12 hl (Nat.le_of_ble_eq_true rfl) rfl (fun ls hl => ?_)
  refine lv_iconst (pc := 14) (v := 0) hx hb dX7_scrapedBy_14 rfl ?_
  refine lv_istore (pc := 15) (i := 5) (lv' := [(5, .int 0), (4, .int 0), (3, .int (y2 &&& x2)), (0, .ref a0), (1, .int x1), (2, .int x2)]) hx hb dX7_scrapedBy_15 hl (Nat.le_of_ble_eq_true rfl) rfl (fun ls hl => ?_)
  refine lv_iconst (pc := 17) (v := 0) hx hb dX7_scrapedBy_17 rfl ?_
  refine lv_istore (pc := 18) (i := 6) (lv' := [(6, .int 0), (5, .int 0), (4, .int 0), (3, .int (y2 &&& x2)), (0, .ref a0), (1, .int x1), (2, .int x2)]) hx hb dX7_scrapedBy_18 hl (Nat.le_of_ble_eq_true rfl) rfl (fun ls hl => ?_)
  exact wX7_scrapedBy_20 cx e1 e2 a0 hth N _ _ _ _ _ _ _ _ _ _ _ hf hS (lv_sub hl [4, 5, 3, 2, 1, 0] rfl)
theorem metX7_scrapedBy (l : Launch) (N : Nat) (a0 : Nat) (x1 : Int32) (x2 : Int32) (h h' : jH) (r : Int32) (hth : jcd h a0 = some 7) (hf : (fX7_scrapedBy N a0 x1 x2).1 h = some (r, h')) : jMet l yX7_scrapedBy (ws_ yX7_scrapedBy cX7_scrapedBy 8 (Option.some Jvm.ClassFile.FieldType.int)) (0) (0) [.ref a0, .int x1, .int x2] h h' (.returned (some (.int r))) := by
  refine jStart rfl (jle hf) (Nat.le_of_ble_eq_true rfl) ?_
  intro p e s m below meth c D dA H0 mc ms ls cx hnm e1 e2 hS hl
  have hth := jTh.mk hS hth
  exact wX7_scrapedBy_0 cx e1 e2 a0 hth _ _ _ _ _ _ _ _ hf hS hl
def fX7_scrapes_90 (N : Nat) (a0 : Nat) : jM Unit := jR ()
def fX7_scrapes_63 (N : Nat) (a0 : Nat) : Nat → Int32 → Int32 → jM Unit
  | 0, _, _ => jE
  | n + 1, x1, x3 => if 6 ≤ x3 then (fX7_scrapes_90 N a0) else (jB (jgR [7] 48 (some a0)) fun y1 => jB (jsI 0 y1 ((7 + (6 * x1)) + x3) 0) fun _ => fX7_scrapes_63 N a0 n x1 (x3 + 1))
def fX7_scrapes (N : Nat) (a0 : Nat) (x1 : Int32) (x2 : Int32) : jM Unit := jB (jgR [7] 48 (some a0)) fun y1 => jB (jaI 0 y1 (1 + x1)) fun y2 => jB (fX7_scrapedBy N a0 x1 x2) fun y3 => jB (jsI 0 y1 (1 + x1) (y2 - y3)) fun _ => jB (jgR [7] 48 (some a0)) fun y4 => jB (jaI 0 y4 (4 + x1)) fun y5 => jB (jsI 0 y4 (4 + x1) (y5 &&& (x2 ^^^ (-1)))) fun _ => jB (jgR [7] 48 (some a0)) fun y6 => jB (jaI 0 y6 (1 + x1)) fun y7 => if y7 ≤ 0 then (jB (jgR [7] 48 (some a0)) fun y8 => jB (jsI 0 y8 (1 + x1) 0) fun _ => jB (jgR [7] 48 (some a0)) fun y9 => jB (jsI 0 y9 (4 + x1) 0) fun _ => fX7_scrapes_63 N a0 N x1 0) else (jR ())
theorem wX7_scrapes_90 {N : Nat} {r : Unit} (cx : jCx p s m args meth c cX7_scrapes "WornSkinModel" 4 (Option.none : Option Jvm.ClassFile.FieldType) D dA H0 hs.2.2.2.2) (e1 : h'.2.2.1 = hs.2.2.1 + mc) (e2 : h'.2.2.2.1 = hs.2.2.2.1 + ms) (a0 : Nat) (hth : jTh hs a0 7) : ∀ (h : jH) (H : Heap) (locs : List Loc) (cells slots : Nat) (ls : Array Slot), (fX7_scrapes_90 N a0).1 h = some (r, h') → jS D dA H0 hs h H locs cells slots → lv_has ls 4 [(0, .ref a0)] → W p l e { frames := 1, cells := mc, slots := ms, locals := 27 } s m args below meth c H locs cells slots (jQ D dA H0 below s (.returned none) h' mc ms) (F0 m 90 ls []) := by
  have hx := cx.1
  have hb := cx.2.1
  have hown := cx.2.2.2.1
  have hts := cx.2.2.2.2.1
  have hm : h'.2.2.1 ≤ hs.2.2.1 + mc ∧ h'.2.2.2.1 ≤ hs.2.2.2.1 + ms := ⟨Nat.le_of_eq e1, Nat.le_of_eq e2⟩
  intro h H locs cells slots ls hf hS hl
  unfold fX7_scrapes_90 at hf
  exact j_vret (pc := 90) cx hS hf e1 e2 dX7_scrapes_90
theorem wX7_scrapes_63 {N : Nat} {r : Unit} (cx : jCx p s m args meth c cX7_scrapes "WornSkinModel" 4 (Option.none : Option Jvm.ClassFile.FieldType) D dA H0 hs.2.2.2.2) (e1 : h'.2.2.1 = hs.2.2.1 + mc) (e2 : h'.2.2.2.1 = hs.2.2.2.1 + ms) (a0 : Nat) (hth : jTh hs a0 7) : ∀ (n : Nat) (x1 : Int32) (x3 : Int32), ∀ (h : jH) (H : Heap) (locs : List Loc) (cells slots : Nat) (ls : Array Slot), (fX7_scrapes_63 N a0 n x1 x3).1 h = some (r, h') → jS D dA H0 hs h H locs cells slots → lv_has ls 4 [(0, .ref a0), (1, .int x1), (3, .int x3)] → W p l e { frames := 1, cells := mc, slots := ms, locals := 27 } s m args below meth c H locs cells slots (jQ D dA H0 below s (.returned none) h' mc ms) (F0 m 63 ls []) := by
  have hx := cx.1
  have hb := cx.2.1
  have hown := cx.2.2.2.1
  have hts := cx.2.2.2.2.1
  have hm : h'.2.2.1 ≤ hs.2.2.1 + mc ∧ h'.2.2.2.1 ≤ hs.2.2.2.1 + ms := ⟨Nat.le_of_eq e1, Nat.le_of_eq e2⟩
  intro n
  induction n with
  | zero =>
    intro x1 x3 h H locs cells slots ls hf hS hl
    exact jE_f hf
  | succ n ih =>
    intro x1 x3 h H locs cells slots ls hf hS hl
    unfold fX7_scrapes_63 at hf
    refine lv_iload_n (pc := 63) hx hb dX7_scrapes_63 rfl (lv_at hl 2 rfl) ?_
    refine lv_bipush (pc := 64) (v := 6) hx hb dX7_scrapes_64 rfl ?_
    refine lv_icmp_ge (pc := 66) (tgt := 90) hx hb dX7_scrapes_66 (by decide) (fun hc => ?_) (fun hc => ?_)
    · have hf := jI_t hf hc
      exact wX7_scrapes_90 cx e1 e2 a0 hth _ _ _ _ _ _ hf hS (lv_sub hl [0] rfl)
    · have hf := jI_f hf hc
      refine lv_aload_n (pc := 69) hx hb dX7_scrapes_69 rfl (lv_at hl 0 rfl) ?_
      refine j_gR (pc := 70) cx hS hf fd_WornSkinModel_s q1732 dX7_scrapes_70 (fun y1 hf => ?_)
      refine lv_bipush (pc := 73) (v := 7) hx hb dX7_scrapes_73 rfl ?_
      refine lv_bipush (pc := 75) (v := 6) hx hb dX7_scrapes_75 rfl ?_
      refine lv_iload_n (pc := 77) hx hb dX7_scrapes_77 rfl (lv_at hl 1 rfl) ?_
      refine lv_imul (pc := 78) hx hb dX7_scrapes_78 ?_
      refine lv_iadd (pc := 79) hx hb dX7_scrapes_79 ?_
      refine lv_iload_n (pc := 80) hx hb dX7_scrapes_80 rfl (lv_at hl 2 rfl) ?_
      refine lv_iadd (pc := 81) hx hb dX7_scrapes_81 ?_
      refine lv_iconst (pc := 82) (v := 0) hx hb dX7_scrapes_82 rfl ?_
      refine j_sI (pc := 83) cx hS hf rfl dX7_scrapes_83 (fun h H locs hf hS => ?_)
      refine lv_iinc (pc := 84) (v := (x3 + 1)) (lv' := [(3, .int (x3 + 1)), (0, .ref a0), (1, .int x1)]) hx hb dX7_scrapes_84 hl (k := 2) rfl rfl (Nat.le_of_ble_eq_true rfl) rfl (fun ls hl => ?_)
      refine lv_goto (pc := 87) (tgt := 63) hx hb dX7_scrapes_87 (by decide) ?_
      exact ih _ _ _ _ _ _ _ _ hf hS (lv_sub hl [1, 2, 0] rfl)
theorem wX7_scrapes_0 {N : Nat} {r : Unit} (cx : jCx p s m args meth c cX7_scrapes "WornSkinModel" 4 (Option.none : Option Jvm.ClassFile.FieldType) D dA H0 hs.2.2.2.2) (e1 : h'.2.2.1 = hs.2.2.1 + mc) (e2 : h'.2.2.2.1 = hs.2.2.2.1 + ms) (a0 : Nat) (hth : jTh hs a0 7) : ∀ (x1 : Int32) (x2 : Int32), ∀ (h : jH) (H : Heap) (locs : List Loc) (cells slots : Nat) (ls : Array Slot), (fX7_scrapes N a0 x1 x2).1 h = some (r, h') → jS D dA H0 hs h H locs cells slots → lv_has ls 4 [(0, .ref a0), (1, .int x1), (2, .int x2)] → W p l e { frames := 1, cells := mc, slots := ms, locals := 27 } s m args below meth c H locs cells slots (jQ D dA H0 below s (.returned none) h' mc ms) (F0 m 0 ls []) := by
  have hx := cx.1
  have hb := cx.2.1
  have hown := cx.2.2.2.1
  have hts := cx.2.2.2.2.1
  have hm : h'.2.2.1 ≤ hs.2.2.1 + mc ∧ h'.2.2.2.1 ≤ hs.2.2.2.1 + ms := ⟨Nat.le_of_eq e1, Nat.le_of_eq e2⟩
  intro x1 x2 h H locs cells slots ls hf hS hl
  unfold fX7_scrapes at hf
  refine lv_aload_n (pc := 0) hx hb dX7_scrapes_0 rfl (lv_at hl 0 rfl) ?_
  refine j_gR (pc := 1) cx hS hf fd_WornSkinModel_s q1732 dX7_scrapes_1 (fun y1 hf => ?_)
  refine lv_iconst (pc := 4) (v := 1) hx hb dX7_scrapes_4 rfl ?_
  refine lv_iload_n (pc := 5) hx hb dX7_scrapes_5 rfl (lv_at hl 1 rfl) ?_
  refine lv_iadd (pc := 6) hx hb dX7_scrapes_6 ?_
  refine lv_dup2_11 (pc := 7) hx hb dX7_scrapes_7 rfl (jrfc _) ?_
  refine j_aI (pc := 8) cx hS hf rfl dX7_scrapes_8 (fun y2 hf => ?_)
  refine lv_aload_n (pc := 9) hx hb dX7_scrapes_9 rfl (lv_at hl 0 rfl) ?_
  refine lv_iload_n (pc := 10) hx hb dX7_scrapes_10 rfl (lv_at hl 1 rfl) ?_
  refine lv_iload_n (pc := 11) hx hb dX7_scrapes_11 rfl (lv_at hl 2 rfl) ?_
  obtain ⟨y3, h1, e9, hf⟩ := jB_some hf
  refine j_callV (pc := 12) (st1 := [.int y3, .int y2, .int (1 + x1), va_rf y1]) (As := [.int x1, .int x2]) (rest := [.int y2, .int (1 + x1), va_rf y1]) cx hS rfl hl.1 hm (metX7_scrapedBy l _ _ _ _ _ _ _ (hth.at hS) e9) (jle hf) (hth.at hS) rfl (lw_V q2140 q2142 qs98 q123 q2143) pdX7_scrapedBy rfl rfl (by simp only [List.map_cons, List.map_nil, List.sum_cons, List.sum_nil, jrfc]; exact Nat.le_of_ble_eq_true rfl) ⟨Nat.le_of_ble_eq_true rfl, Nat.le_of_ble_eq_true rfl⟩ dX7_scrapes_12 rfl (fun H locs cells slots hS => ?_)
  refine lv_isub (pc := 15) hx hb dX7_scrapes_15 ?_
  refine j_sI (pc := 16) cx hS hf rfl dX7_scrapes_16 (fun h H locs hf hS => ?_)
  refine lv_aload_n (pc := 17) hx hb dX7_scrapes_17 rfl (lv_at hl 0 rfl) ?_
  refine j_gR (pc := 18) cx hS hf fd_WornSkinModel_s q1732 dX7_scrapes_18 (fun y4 hf => ?_)
  refine lv_iconst (pc := 21) (v := 4) hx hb dX7_scrapes_21 rfl ?_
  refine lv_iload_n (pc := 22) hx hb dX7_scrapes_22 rfl (lv_at hl 1 rfl) ?_
  refine lv_iadd (pc := 23) hx hb dX7_scrapes_23 ?_
  refine lv_dup2_11 (pc := 24) hx hb dX7_scrapes_24 rfl (jrfc _) ?_
  refine j_aI (pc := 25) cx hS hf rfl dX7_scrapes_25 (fun y5 hf => ?_)
  refine lv_iload_n (pc := 26) hx hb dX7_scrapes_26 rfl (lv_at hl 2 rfl) ?_
  refine lv_iconst (pc := 27) (v := (-1)) hx hb dX7_scrapes_27 rfl ?_
  refine lv_ixor (pc := 28) hx hb dX7_scrapes_28 ?_
  refine lv_iand (pc := 29) hx hb dX7_scrapes_29 ?_
  refine j_sI (pc := 30) cx hS hf rfl dX7_scrapes_30 (fun h H locs hf hS => ?_)
  refine lv_aload_n (pc := 31) hx hb dX7_scrapes_31 rfl (lv_at hl 0 rfl) ?_
  refine j_gR (pc := 32) cx hS hf fd_WornSkinModel_s q1732 dX7_scrapes_32 (fun y6 hf => ?_)
  refine lv_iconst (pc := 35) (v := 1) hx hb dX7_scrapes_35 rfl ?_
  refine lv_iload_n (pc := 36) hx hb dX7_scrapes_36 rfl (lv_at hl 1 rfl) ?_
  refine lv_iadd (pc := 37) hx hb dX7_scrapes_37 ?_
  refine j_aI (pc := 38) cx hS hf rfl dX7_scrapes_38 (fun y7 hf => ?_)
  refine lv_if_le (pc := 39) (tgt := 43) hx hb dX7_scrapes_39 (by decide) (fun hc => ?_) (fun hc => ?_)
  · have hf := jI_t hf hc
    refine lv_aload_n (pc := 43) hx hb dX7_scrapes_43 rfl (lv_at hl 0 rfl) ?_
    refine j_gR (pc := 44) cx hS hf fd_WornSkinModel_s q1732 dX7_scrapes_44 (fun y8 hf => ?_)
    refine lv_iconst (pc := 47) (v := 1) hx hb dX7_scrapes_47 rfl ?_
    refine lv_iload_n (pc := 48) hx hb dX7_scrapes_48 rfl (lv_at hl 1 rfl) ?_
    refine lv_iadd (pc := 49) hx hb dX7_scrapes_49 ?_
    refine lv_iconst (pc := 50) (v := 0) hx hb dX7_scrapes_50 rfl ?_
    refine j_sI (pc := 51) cx hS hf rfl dX7_scrapes_51 (fun h H locs hf hS => ?_)
    refine lv_aload_n (pc := 52) hx hb dX7_scrapes_52 rfl (lv_at hl 0 rfl) ?_
    refine j_gR (pc := 53) cx hS hf fd_WornSkinModel_s q1732 dX7_scrapes_53 (fun y9 hf => ?_)
    refine lv_iconst (pc := 56) (v := 4) hx hb dX7_scrapes_56 rfl ?_
    refine lv_iload_n (pc := 57) hx hb dX7_scrapes_57 rfl (lv_at hl 1 rfl) ?_
    refine lv_iadd (pc := 58) hx hb dX7_scrapes_58 ?_
    refine lv_iconst (pc := 59) (v := 0) hx hb dX7_scrapes_59 rfl ?_
    refine j_sI (pc := 60) cx hS hf rfl dX7_scrapes_60 (fun h H locs hf hS => ?_)
    refine lv_iconst (pc := 61) (v := 0) hx hb dX7_scrapes_61 rfl ?_
    refine lv_istore_n (pc := 62) (i := 3) (lv' := [(3, .int 0), (0, .ref a0), (1, .int x1), (2, .int x2)]) hx hb dX7_scrapes_62 rfl hl (Nat.le_of_ble_eq_true rfl) rfl (fun ls hl => ?_)
    exact wX7_scrapes_63 cx e1 e2 a0 hth N _ _ _ _ _ _ _ _ hf hS (lv_sub hl [1, 2, 0] rfl)
  · have hf := jI_f hf hc
    exact j_vret (pc := 42) cx hS hf e1 e2 dX7_scrapes_42
theorem metX7_scrapes (l : Launch) (N : Nat) (a0 : Nat) (x1 : Int32) (x2 : Int32) (h h' : jH) (r : Unit) (hth : jcd h a0 = some 7) (hf : (fX7_scrapes N a0 x1 x2).1 h = some (r, h')) : jMet l yX7_scrapes (ws_ yX7_scrapes cX7_scrapes 4 (Option.none : Option Jvm.ClassFile.FieldType)) (1) (27) [.ref a0, .int x1, .int x2] h h' (.returned none) := by
  refine jStart rfl (jle hf) (Nat.le_of_ble_eq_true rfl) ?_
  intro p e s m below meth c D dA H0 mc ms ls cx hnm e1 e2 hS hl
  have hth := jTh.mk hS hth
  exact wX7_scrapes_0 cx e1 e2 a0 hth _ _ _ _ _ _ _ _ hf hS hl
def fX7_scrapesNow_17 (N : Nat) (a0 : Nat) : jM Int32 := jR (-1)
def fX7_scrapesNow (N : Nat) (a0 : Nat) (x1 : Int32) (x2 : Int32) : jM Int32 := jB (fX7_isSkin a0 x1) fun y1 => if y1 = 0 then (fX7_scrapesNow_17 N a0) else (jB (fX7_scrapedBy N a0 x1 x2) fun y2 => if y2 = 0 then (fX7_scrapesNow_17 N a0) else (jB (fX7_keeps N a0) fun _ => jB (fX7_scrapes N a0 x1 x2) fun _ => jB (jgR [7] 48 (some a0)) fun y5 => jB (jaI 0 y5 (1 + x1)) fun y6 => jR y6))
theorem wX7_scrapesNow_17 {N : Nat} {r : Int32} (cx : jCx p s m args meth c cX7_scrapesNow "WornSkinModel" 3 (Option.some Jvm.ClassFile.FieldType.int) D dA H0 hs.2.2.2.2) (e1 : h'.2.2.1 = hs.2.2.1 + mc) (e2 : h'.2.2.2.1 = hs.2.2.2.1 + ms) (a0 : Nat) (hth : jTh hs a0 7) : ∀ (h : jH) (H : Heap) (locs : List Loc) (cells slots : Nat) (ls : Array Slot), (fX7_scrapesNow_17 N a0).1 h = some (r, h') → jS D dA H0 hs h H locs cells slots → lv_has ls 3 [(0, .ref a0)] → W p l e { frames := 2, cells := mc, slots := ms, locals := 50 } s m args below meth c H locs cells slots (jQ D dA H0 below s (.returned (some (.int r))) h' mc ms) (F0 m 17 ls []) := by
  have hx := cx.1
  have hb := cx.2.1
  have hown := cx.2.2.2.1
  have hts := cx.2.2.2.2.1
  have hm : h'.2.2.1 ≤ hs.2.2.1 + mc ∧ h'.2.2.2.1 ≤ hs.2.2.2.1 + ms := ⟨Nat.le_of_eq e1, Nat.le_of_eq e2⟩
  intro h H locs cells slots ls hf hS hl
  unfold fX7_scrapesNow_17 at hf
  refine lv_iconst (pc := 17) (v := (-1)) hx hb dX7_scrapesNow_17 rfl ?_
  exact j_iret (pc := 18) cx hS hf e1 e2 dX7_scrapesNow_18
theorem wX7_scrapesNow_0 {N : Nat} {r : Int32} (cx : jCx p s m args meth c cX7_scrapesNow "WornSkinModel" 3 (Option.some Jvm.ClassFile.FieldType.int) D dA H0 hs.2.2.2.2) (e1 : h'.2.2.1 = hs.2.2.1 + mc) (e2 : h'.2.2.2.1 = hs.2.2.2.1 + ms) (a0 : Nat) (hth : jTh hs a0 7) : ∀ (x1 : Int32) (x2 : Int32), ∀ (h : jH) (H : Heap) (locs : List Loc) (cells slots : Nat) (ls : Array Slot), (fX7_scrapesNow N a0 x1 x2).1 h = some (r, h') → jS D dA H0 hs h H locs cells slots → lv_has ls 3 [(0, .ref a0), (1, .int x1), (2, .int x2)] → W p l e { frames := 2, cells := mc, slots := ms, locals := 50 } s m args below meth c H locs cells slots (jQ D dA H0 below s (.returned (some (.int r))) h' mc ms) (F0 m 0 ls []) := by
  have hx := cx.1
  have hb := cx.2.1
  have hown := cx.2.2.2.1
  have hts := cx.2.2.2.2.1
  have hm : h'.2.2.1 ≤ hs.2.2.1 + mc ∧ h'.2.2.2.1 ≤ hs.2.2.2.1 + ms := ⟨Nat.le_of_eq e1, Nat.le_of_eq e2⟩
  intro x1 x2 h H locs cells slots ls hf hS hl
  unfold fX7_scrapesNow at hf
  refine lv_aload_n (pc := 0) hx hb dX7_scrapesNow_0 rfl (lv_at hl 0 rfl) ?_
  refine lv_iload_n (pc := 1) hx hb dX7_scrapesNow_1 rfl (lv_at hl 1 rfl) ?_
  obtain ⟨y1, h1, e9, hf⟩ := jB_some hf
  refine j_callV (pc := 2) (st1 := [.int y1]) (As := [.int x1]) (rest := []) cx hS rfl hl.1 hm (metX7_isSkin l _ _ _ _ _ (hth.at hS) e9) (jle hf) (hth.at hS) rfl (lw_V q2031 q2033 qs80 q123 q2034) pdX7_isSkin rfl rfl (Nat.le_of_ble_eq_true rfl) ⟨Nat.le_of_ble_eq_true rfl, Nat.le_of_ble_eq_true rfl⟩ dX7_scrapesNow_2 rfl (fun H locs cells slots hS => ?_)
  refine lv_if_eq (pc := 5) (tgt := 17) hx hb dX7_scrapesNow_5 (by decide) (fun hc => ?_) (fun hc => ?_)
  · have hf := jI_t hf hc
    exact wX7_scrapesNow_17 cx e1 e2 a0 hth _ _ _ _ _ _ hf hS (lv_sub hl [0] rfl)
  · have hf := jI_f hf hc
    refine lv_aload_n (pc := 8) hx hb dX7_scrapesNow_8 rfl (lv_at hl 0 rfl) ?_
    refine lv_iload_n (pc := 9) hx hb dX7_scrapesNow_9 rfl (lv_at hl 1 rfl) ?_
    refine lv_iload_n (pc := 10) hx hb dX7_scrapesNow_10 rfl (lv_at hl 2 rfl) ?_
    obtain ⟨y2, h1, e9, hf⟩ := jB_some hf
    refine j_callV (pc := 11) (st1 := [.int y2]) (As := [.int x1, .int x2]) (rest := []) cx hS rfl hl.1 hm (metX7_scrapedBy l _ _ _ _ _ _ _ (hth.at hS) e9) (jle hf) (hth.at hS) rfl (lw_V q2140 q2142 qs98 q123 q2143) pdX7_scrapedBy rfl rfl (Nat.le_of_ble_eq_true rfl) ⟨Nat.le_of_ble_eq_true rfl, Nat.le_of_ble_eq_true rfl⟩ dX7_scrapesNow_11 rfl (fun H locs cells slots hS => ?_)
    refine lv_if_ne (pc := 14) (tgt := 19) hx hb dX7_scrapesNow_14 (by decide) (fun hc => ?_) (fun hc => ?_)
    · have hf := jI_f hf hc
      refine lv_aload_n (pc := 19) hx hb dX7_scrapesNow_19 rfl (lv_at hl 0 rfl) ?_
      obtain ⟨_, h1, e9, hf⟩ := jB_some hf
      refine j_callV (pc := 20) (st1 := []) (As := []) (rest := []) cx hS rfl hl.1 hm (metX7_keeps l _ _ _ _ _ (hth.at hS) e9) (jle hf) (hth.at hS) rfl (lw_V q2121 q2123 qs95 q123 q2124) pdX7_keeps rfl rfl (Nat.le_of_ble_eq_true rfl) ⟨Nat.le_of_ble_eq_true rfl, Nat.le_of_ble_eq_true rfl⟩ dX7_scrapesNow_20 rfl (fun H locs cells slots hS => ?_)
      refine lv_aload_n (pc := 23) hx hb dX7_scrapesNow_23 rfl (lv_at hl 0 rfl) ?_
      refine lv_iload_n (pc := 24) hx hb dX7_scrapesNow_24 rfl (lv_at hl 1 rfl) ?_
      refine lv_iload_n (pc := 25) hx hb dX7_scrapesNow_25 rfl (lv_at hl 2 rfl) ?_
      obtain ⟨_, h1, e9, hf⟩ := jB_some hf
      refine j_callV (pc := 26) (st1 := []) (As := [.int x1, .int x2]) (rest := []) cx hS rfl hl.1 hm (metX7_scrapes l _ _ _ _ _ _ _ (hth.at hS) e9) (jle hf) (hth.at hS) rfl (lw_V q2144 q2146 qs99 q123 q2147) pdX7_scrapes rfl rfl (Nat.le_of_ble_eq_true rfl) ⟨Nat.le_of_ble_eq_true rfl, Nat.le_of_ble_eq_true rfl⟩ dX7_scrapesNow_26 rfl (fun H locs cells slots hS => ?_)
      refine lv_aload_n (pc := 29) hx hb dX7_scrapesNow_29 rfl (lv_at hl 0 rfl) ?_
      refine j_gR (pc := 30) cx hS hf fd_WornSkinModel_s q1732 dX7_scrapesNow_30 (fun y5 hf => ?_)
      refine lv_iconst (pc := 33) (v := 1) hx hb dX7_scrapesNow_33 rfl ?_
      refine lv_iload_n (pc := 34) hx hb dX7_scrapesNow_34 rfl (lv_at hl 1 rfl) ?_
      refine lv_iadd (pc := 35) hx hb dX7_scrapesNow_35 ?_
      refine j_aI (pc := 36) cx hS hf rfl dX7_scrapesNow_36 (fun y6 hf => ?_)
      exact j_iret (pc := 37) cx hS hf e1 e2 dX7_scrapesNow_37
    · have hf := jI_t hf hc
      exact wX7_scrapesNow_17 cx e1 e2 a0 hth _ _ _ _ _ _ hf hS (lv_sub hl [0] rfl)
theorem metX7_scrapesNow (l : Launch) (N : Nat) (a0 : Nat) (x1 : Int32) (x2 : Int32) (h h' : jH) (r : Int32) (hth : jcd h a0 = some 7) (hf : (fX7_scrapesNow N a0 x1 x2).1 h = some (r, h')) : jMet l yX7_scrapesNow (ws_ yX7_scrapesNow cX7_scrapesNow 3 (Option.some Jvm.ClassFile.FieldType.int)) (2) (50) [.ref a0, .int x1, .int x2] h h' (.returned (some (.int r))) := by
  refine jStart rfl (jle hf) (Nat.le_of_ble_eq_true rfl) ?_
  intro p e s m below meth c D dA H0 mc ms ls cx hnm e1 e2 hS hl
  have hth := jTh.mk hS hth
  exact wX7_scrapesNow_0 cx e1 e2 a0 hth _ _ _ _ _ _ _ _ hf hS hl
def fX7_scrape (N : Nat) (a0 : Nat) (x1 : Int32) : jM Int32 := jB (jpI [7] 0 (some a0) 0) fun _ => jB (fX7_scrapesNow N a0 x1 63) fun y1 => jR y1
theorem wX7_scrape_0 {N : Nat} {r : Int32} (cx : jCx p s m args meth c cX7_scrape "WornSkinModel" 2 (Option.some Jvm.ClassFile.FieldType.int) D dA H0 hs.2.2.2.2) (e1 : h'.2.2.1 = hs.2.2.1 + mc) (e2 : h'.2.2.2.1 = hs.2.2.2.1 + ms) (a0 : Nat) (hth : jTh hs a0 7) : ∀ (x1 : Int32), ∀ (h : jH) (H : Heap) (locs : List Loc) (cells slots : Nat) (ls : Array Slot), (fX7_scrape N a0 x1).1 h = some (r, h') → jS D dA H0 hs h H locs cells slots → lv_has ls 2 [(0, .ref a0), (1, .int x1)] → W p l e { frames := 3, cells := mc, slots := ms, locals := 72 } s m args below meth c H locs cells slots (jQ D dA H0 below s (.returned (some (.int r))) h' mc ms) (F0 m 0 ls []) := by
  have hx := cx.1
  have hb := cx.2.1
  have hown := cx.2.2.2.1
  have hts := cx.2.2.2.2.1
  have hm : h'.2.2.1 ≤ hs.2.2.1 + mc ∧ h'.2.2.2.1 ≤ hs.2.2.2.1 + ms := ⟨Nat.le_of_eq e1, Nat.le_of_eq e2⟩
  intro x1 h H locs cells slots ls hf hS hl
  unfold fX7_scrape at hf
  refine lv_aload_n (pc := 0) hx hb dX7_scrape_0 rfl (lv_at hl 0 rfl) ?_
  refine lv_iconst (pc := 1) (v := 0) hx hb dX7_scrape_1 rfl ?_
  refine j_pI (pc := 2) cx hS hf fp_WornSkinModel_thrown (Or.inl rfl) q1684 dX7_scrape_2 (fun h H locs hf hS => ?_)
  refine lv_aload_n (pc := 5) hx hb dX7_scrape_5 rfl (lv_at hl 0 rfl) ?_
  refine lv_iload_n (pc := 6) hx hb dX7_scrape_6 rfl (lv_at hl 1 rfl) ?_
  refine lv_bipush (pc := 7) (v := 63) hx hb dX7_scrape_7 rfl ?_
  obtain ⟨y1, h1, e9, hf⟩ := jB_some hf
  refine j_callV (pc := 9) (st1 := [.int y1]) (As := [.int x1, .int 63]) (rest := []) cx hS rfl hl.1 hm (metX7_scrapesNow l _ _ _ _ _ _ _ (hth.at hS) e9) (jle hf) (hth.at hS) rfl (lw_V q2136 q2138 qs97 q123 q2139) pdX7_scrapesNow rfl rfl (Nat.le_of_ble_eq_true rfl) ⟨Nat.le_of_ble_eq_true rfl, Nat.le_of_ble_eq_true rfl⟩ dX7_scrape_9 rfl (fun H locs cells slots hS => ?_)
  exact j_iret (pc := 12) cx hS hf e1 e2 dX7_scrape_12
theorem metX7_scrape (l : Launch) (N : Nat) (a0 : Nat) (x1 : Int32) (h h' : jH) (r : Int32) (hth : jcd h a0 = some 7) (hf : (fX7_scrape N a0 x1).1 h = some (r, h')) : jMet l yX7_scrape (ws_ yX7_scrape cX7_scrape 2 (Option.some Jvm.ClassFile.FieldType.int)) (3) (72) [.ref a0, .int x1] h h' (.returned (some (.int r))) := by
  refine jStart rfl (jle hf) (Nat.le_of_ble_eq_true rfl) ?_
  intro p e s m below meth c D dA H0 mc ms ls cx hnm e1 e2 hS hl
  have hth := jTh.mk hS hth
  exact wX7_scrape_0 cx e1 e2 a0 hth _ _ _ _ _ _ _ hf hS hl
def fX7_third (N : Nat) (a0 : Nat) (x1 : Int32) : jM Int32 := jB (jpI [7] 0 (some a0) 0) fun _ => jB (fX7_scrapesNow N a0 x1 9) fun y1 => jR y1
theorem wX7_third_0 {N : Nat} {r : Int32} (cx : jCx p s m args meth c cX7_third "WornSkinModel" 2 (Option.some Jvm.ClassFile.FieldType.int) D dA H0 hs.2.2.2.2) (e1 : h'.2.2.1 = hs.2.2.1 + mc) (e2 : h'.2.2.2.1 = hs.2.2.2.1 + ms) (a0 : Nat) (hth : jTh hs a0 7) : ∀ (x1 : Int32), ∀ (h : jH) (H : Heap) (locs : List Loc) (cells slots : Nat) (ls : Array Slot), (fX7_third N a0 x1).1 h = some (r, h') → jS D dA H0 hs h H locs cells slots → lv_has ls 2 [(0, .ref a0), (1, .int x1)] → W p l e { frames := 3, cells := mc, slots := ms, locals := 72 } s m args below meth c H locs cells slots (jQ D dA H0 below s (.returned (some (.int r))) h' mc ms) (F0 m 0 ls []) := by
  have hx := cx.1
  have hb := cx.2.1
  have hown := cx.2.2.2.1
  have hts := cx.2.2.2.2.1
  have hm : h'.2.2.1 ≤ hs.2.2.1 + mc ∧ h'.2.2.2.1 ≤ hs.2.2.2.1 + ms := ⟨Nat.le_of_eq e1, Nat.le_of_eq e2⟩
  intro x1 h H locs cells slots ls hf hS hl
  unfold fX7_third at hf
  refine lv_aload_n (pc := 0) hx hb dX7_third_0 rfl (lv_at hl 0 rfl) ?_
  refine lv_iconst (pc := 1) (v := 0) hx hb dX7_third_1 rfl ?_
  refine j_pI (pc := 2) cx hS hf fp_WornSkinModel_thrown (Or.inl rfl) q1684 dX7_third_2 (fun h H locs hf hS => ?_)
  refine lv_aload_n (pc := 5) hx hb dX7_third_5 rfl (lv_at hl 0 rfl) ?_
  refine lv_iload_n (pc := 6) hx hb dX7_third_6 rfl (lv_at hl 1 rfl) ?_
  refine lv_bipush (pc := 7) (v := 9) hx hb dX7_third_7 rfl ?_
  obtain ⟨y1, h1, e9, hf⟩ := jB_some hf
  refine j_callV (pc := 9) (st1 := [.int y1]) (As := [.int x1, .int 9]) (rest := []) cx hS rfl hl.1 hm (metX7_scrapesNow l _ _ _ _ _ _ _ (hth.at hS) e9) (jle hf) (hth.at hS) rfl (lw_V q2136 q2138 qs97 q123 q2139) pdX7_scrapesNow rfl rfl (Nat.le_of_ble_eq_true rfl) ⟨Nat.le_of_ble_eq_true rfl, Nat.le_of_ble_eq_true rfl⟩ dX7_third_9 rfl (fun H locs cells slots hS => ?_)
  exact j_iret (pc := 12) cx hS hf e1 e2 dX7_third_12
theorem metX7_third (l : Launch) (N : Nat) (a0 : Nat) (x1 : Int32) (h h' : jH) (r : Int32) (hth : jcd h a0 = some 7) (hf : (fX7_third N a0 x1).1 h = some (r, h')) : jMet l yX7_third (ws_ yX7_third cX7_third 2 (Option.some Jvm.ClassFile.FieldType.int)) (3) (72) [.ref a0, .int x1] h h' (.returned (some (.int r))) := by
  refine jStart rfl (jle hf) (Nat.le_of_ble_eq_true rfl) ?_
  intro p e s m below meth c D dA H0 mc ms ls cx hnm e1 e2 hS hl
  have hth := jTh.mk hS hth
  exact wX7_third_0 cx e1 e2 a0 hth _ _ _ _ _ _ _ hf hS hl
def fX7_week (N : Nat) (a0 : Nat) : jM Int32 := jB (jpI [7] 0 (some a0) 0) fun _ => jB (fX7_keeps N a0) fun _ => jB (jgR [7] 48 (some a0)) fun y2 => jB (jaI 0 y2 0) fun y3 => jB (jsI 0 y2 0 (y3 + 1)) fun _ => jB (jgR [7] 48 (some a0)) fun y4 => jB (jaI 0 y4 0) fun y5 => jR y5
theorem wX7_week_0 {N : Nat} {r : Int32} (cx : jCx p s m args meth c cX7_week "WornSkinModel" 1 (Option.some Jvm.ClassFile.FieldType.int) D dA H0 hs.2.2.2.2) (e1 : h'.2.2.1 = hs.2.2.1 + mc) (e2 : h'.2.2.2.1 = hs.2.2.2.1 + ms) (a0 : Nat) (hth : jTh hs a0 7) : ∀ (h : jH) (H : Heap) (locs : List Loc) (cells slots : Nat) (ls : Array Slot), (fX7_week N a0).1 h = some (r, h') → jS D dA H0 hs h H locs cells slots → lv_has ls 1 [(0, .ref a0)] → W p l e { frames := 2, cells := mc, slots := ms, locals := 45 } s m args below meth c H locs cells slots (jQ D dA H0 below s (.returned (some (.int r))) h' mc ms) (F0 m 0 ls []) := by
  have hx := cx.1
  have hb := cx.2.1
  have hown := cx.2.2.2.1
  have hts := cx.2.2.2.2.1
  have hm : h'.2.2.1 ≤ hs.2.2.1 + mc ∧ h'.2.2.2.1 ≤ hs.2.2.2.1 + ms := ⟨Nat.le_of_eq e1, Nat.le_of_eq e2⟩
  intro h H locs cells slots ls hf hS hl
  unfold fX7_week at hf
  refine lv_aload_n (pc := 0) hx hb dX7_week_0 rfl (lv_at hl 0 rfl) ?_
  refine lv_iconst (pc := 1) (v := 0) hx hb dX7_week_1 rfl ?_
  refine j_pI (pc := 2) cx hS hf fp_WornSkinModel_thrown (Or.inl rfl) q1684 dX7_week_2 (fun h H locs hf hS => ?_)
  refine lv_aload_n (pc := 5) hx hb dX7_week_5 rfl (lv_at hl 0 rfl) ?_
  obtain ⟨_, h1, e9, hf⟩ := jB_some hf
  refine j_callV (pc := 6) (st1 := []) (As := []) (rest := []) cx hS rfl hl.1 hm (metX7_keeps l _ _ _ _ _ (hth.at hS) e9) (jle hf) (hth.at hS) rfl (lw_V q2121 q2123 qs95 q123 q2124) pdX7_keeps rfl rfl (Nat.le_of_ble_eq_true rfl) ⟨Nat.le_of_ble_eq_true rfl, Nat.le_of_ble_eq_true rfl⟩ dX7_week_6 rfl (fun H locs cells slots hS => ?_)
  refine lv_aload_n (pc := 9) hx hb dX7_week_9 rfl (lv_at hl 0 rfl) ?_
  refine j_gR (pc := 10) cx hS hf fd_WornSkinModel_s q1732 dX7_week_10 (fun y2 hf => ?_)
  refine lv_iconst (pc := 13) (v := 0) hx hb dX7_week_13 rfl ?_
  refine lv_dup2_11 (pc := 14) hx hb dX7_week_14 rfl (jrfc _) ?_
  refine j_aI (pc := 15) cx hS hf rfl dX7_week_15 (fun y3 hf => ?_)
  refine lv_iconst (pc := 16) (v := 1) hx hb dX7_week_16 rfl ?_
  refine lv_iadd (pc := 17) hx hb dX7_week_17 ?_
  refine j_sI (pc := 18) cx hS hf rfl dX7_week_18 (fun h H locs hf hS => ?_)
  refine lv_aload_n (pc := 19) hx hb dX7_week_19 rfl (lv_at hl 0 rfl) ?_
  refine j_gR (pc := 20) cx hS hf fd_WornSkinModel_s q1732 dX7_week_20 (fun y4 hf => ?_)
  refine lv_iconst (pc := 23) (v := 0) hx hb dX7_week_23 rfl ?_
  refine j_aI (pc := 24) cx hS hf rfl dX7_week_24 (fun y5 hf => ?_)
  exact j_iret (pc := 25) cx hS hf e1 e2 dX7_week_25
theorem metX7_week (l : Launch) (N : Nat) (a0 : Nat) (h h' : jH) (r : Int32) (hth : jcd h a0 = some 7) (hf : (fX7_week N a0).1 h = some (r, h')) : jMet l yX7_week (ws_ yX7_week cX7_week 1 (Option.some Jvm.ClassFile.FieldType.int)) (2) (45) [.ref a0] h h' (.returned (some (.int r))) := by
  refine jStart rfl (jle hf) (Nat.le_of_ble_eq_true rfl) ?_
  intro p e s m below meth c D dA H0 mc ms ls cx hnm e1 e2 hS hl
  have hth := jTh.mk hS hth
  exact wX7_week_0 cx e1 e2 a0 hth  _ _ _ _ _ _ hf hS hl
def fX7_undo (N : Nat) (a0 : Nat) : jM Int32 := jB (jpI [7] 0 (some a0) 0) fun _ => jB (jgI [7] 54 (some a0)) fun y1 => if y1 = 0 then (jRn .boolean 0) else (jB (jgI [7] 54 (some a0)) fun y2 => jB (jpI [7] 54 (some a0) (y2 - 1)) fun _ => jB (jgR [7] 52 (some a0)) fun y3 => jB (jgI [7] 54 (some a0)) fun y4 => jB (jgR [7] 48 (some a0)) fun y5 => jB (fX7_copies N y3 (25 * y4) y5 0) fun _ => jRn .boolean 1)
theorem wX7_undo_0 {N : Nat} {r : Int32} (cx : jCx p s m args meth c cX7_undo "WornSkinModel" 1 (Option.some Jvm.ClassFile.FieldType.boolean) D dA H0 hs.2.2.2.2) (e1 : h'.2.2.1 = hs.2.2.1 + mc) (e2 : h'.2.2.2.1 = hs.2.2.2.1 + ms) (a0 : Nat) (hth : jTh hs a0 7) : ∀ (h : jH) (H : Heap) (locs : List Loc) (cells slots : Nat) (ls : Array Slot), (fX7_undo N a0).1 h = some (r, h') → jS D dA H0 hs h H locs cells slots → lv_has ls 1 [(0, .ref a0)] → W p l e { frames := 1, cells := mc, slots := ms, locals := 24 } s m args below meth c H locs cells slots (jQ D dA H0 below s (.returned (some (.int r))) h' mc ms) (F0 m 0 ls []) := by
  have hx := cx.1
  have hb := cx.2.1
  have hown := cx.2.2.2.1
  have hts := cx.2.2.2.2.1
  have hm : h'.2.2.1 ≤ hs.2.2.1 + mc ∧ h'.2.2.2.1 ≤ hs.2.2.2.1 + ms := ⟨Nat.le_of_eq e1, Nat.le_of_eq e2⟩
  intro h H locs cells slots ls hf hS hl
  unfold fX7_undo at hf
  refine lv_aload_n (pc := 0) hx hb dX7_undo_0 rfl (lv_at hl 0 rfl) ?_
  refine lv_iconst (pc := 1) (v := 0) hx hb dX7_undo_1 rfl ?_
  refine j_pI (pc := 2) cx hS hf fp_WornSkinModel_thrown (Or.inl rfl) q1684 dX7_undo_2 (fun h H locs hf hS => ?_)
  refine lv_aload_n (pc := 5) hx hb dX7_undo_5 rfl (lv_at hl 0 rfl) ?_
  refine j_gI (pc := 6) cx hS hf fd_WornSkinModel_done q1738 dX7_undo_6 (fun y1 hf => ?_)
  refine lv_if_ne (pc := 9) (tgt := 14) hx hb dX7_undo_9 (by decide) (fun hc => ?_) (fun hc => ?_)
  · have hf := jI_f hf hc
    refine lv_aload_n (pc := 14) hx hb dX7_undo_14 rfl (lv_at hl 0 rfl) ?_
    refine lv_dup (pc := 15) hx hb dX7_undo_15 rfl ?_
    refine j_gI (pc := 16) cx hS hf fd_WornSkinModel_done q1738 dX7_undo_16 (fun y2 hf => ?_)
    refine lv_iconst (pc := 19) (v := 1) hx hb dX7_undo_19 rfl ?_
    refine lv_isub (pc := 20) hx hb dX7_undo_20 ?_
    refine j_pI (pc := 21) cx hS hf fp_WornSkinModel_done (Or.inl rfl) q1738 dX7_undo_21 (fun h H locs hf hS => ?_)
    refine lv_aload_n (pc := 24) hx hb dX7_undo_24 rfl (lv_at hl 0 rfl) ?_
    refine j_gR (pc := 25) cx hS hf fd_WornSkinModel_undone q1736 dX7_undo_25 (fun y3 hf => ?_)
    refine lv_bipush (pc := 28) (v := 25) hx hb dX7_undo_28 rfl ?_
    refine lv_aload_n (pc := 30) hx hb dX7_undo_30 rfl (lv_at hl 0 rfl) ?_
    refine j_gI (pc := 31) cx hS hf fd_WornSkinModel_done q1738 dX7_undo_31 (fun y4 hf => ?_)
    refine lv_imul (pc := 34) hx hb dX7_undo_34 ?_
    refine lv_aload_n (pc := 35) hx hb dX7_undo_35 rfl (lv_at hl 0 rfl) ?_
    refine j_gR (pc := 36) cx hS hf fd_WornSkinModel_s q1732 dX7_undo_36 (fun y5 hf => ?_)
    refine lv_iconst (pc := 39) (v := 0) hx hb dX7_undo_39 rfl ?_
    obtain ⟨_, h1, e9, hf⟩ := jB_some hf
    refine j_callS (pc := 40) (st1 := []) (As := [va_rf y3, .int (25 * y4), va_rf y5, .int 0]) (rest := []) cx hS rfl hl.1 hm (metX7_copies l _ _ _ _ _ _ _ _ e9) (jle hf) (lw_S q2125 q2126 q123 q2127) pdX7_copies rfl rfl (Nat.le_of_ble_eq_true rfl) ⟨Nat.le_of_ble_eq_true rfl, Nat.le_of_ble_eq_true rfl⟩ dX7_undo_40 rfl (fun H locs cells slots hS => ?_)
    refine lv_iconst (pc := 43) (v := 1) hx hb dX7_undo_43 rfl ?_
    exact j_zret (pc := 44) cx (Or.inl rfl) hS hf e1 e2 dX7_undo_44
  · have hf := jI_t hf hc
    refine lv_iconst (pc := 12) (v := 0) hx hb dX7_undo_12 rfl ?_
    exact j_zret (pc := 13) cx (Or.inl rfl) hS hf e1 e2 dX7_undo_13
theorem metX7_undo (l : Launch) (N : Nat) (a0 : Nat) (h h' : jH) (r : Int32) (hth : jcd h a0 = some 7) (hf : (fX7_undo N a0).1 h = some (r, h')) : jMet l yX7_undo (ws_ yX7_undo cX7_undo 1 (Option.some Jvm.ClassFile.FieldType.boolean)) (1) (24) [.ref a0] h h' (.returned (some (.int r))) := by
  refine jStart rfl (jle hf) (Nat.le_of_ble_eq_true rfl) ?_
  intro p e s m below meth c D dA H0 mc ms ls cx hnm e1 e2 hS hl
  have hth := jTh.mk hS hth
  exact wX7_undo_0 cx e1 e2 a0 hth  _ _ _ _ _ _ hf hS hl
def fX7_gones_41 (N : Nat) (a0 : Nat) (x1 : Int32) : jM Int32 := jR x1
def fX7_gones_33 (N : Nat) (k4 : Int32 → Int32 → jM Int32) (a0 : Nat) (x2 : Int32) (v0 : Int32) (v1 : Int32) : jM Int32 := k4 (v0 ||| v1) (x2 + 1)
def fX7_gones_4 (N : Nat) (a0 : Nat) : Nat → Int32 → Int32 → jM Int32
  | 0, _, _ => jE
  | n + 1, x1, x2 => jB (jgR [7] 10 (some a0)) fun y1 => jB (jaI 0 y1 0) fun y2 => if y2 ≤ x2 then (fX7_gones_41 N a0 x1) else (jB (jgR [7] 48 (some a0)) fun y3 => jB (jaI 0 y3 (1 + x2)) fun y4 => if y4 = 0 then (fX7_gones_33 N (fX7_gones_4 N a0 n) a0 x2 x1 (1 <<< (x2 &&& 31))) else (fX7_gones_33 N (fX7_gones_4 N a0 n) a0 x2 x1 0))
def fX7_gones (N : Nat) (a0 : Nat) : jM Int32 := fX7_gones_4 N a0 N 0 0
theorem wX7_gones_41 {N : Nat} {r : Int32} (cx : jCx p s m args meth c cX7_gones "WornSkinModel" 3 (Option.some Jvm.ClassFile.FieldType.int) D dA H0 hs.2.2.2.2) (e1 : h'.2.2.1 = hs.2.2.1 + mc) (e2 : h'.2.2.2.1 = hs.2.2.2.1 + ms) (a0 : Nat) (hth : jTh hs a0 7) : ∀ (x1 : Int32), ∀ (h : jH) (H : Heap) (locs : List Loc) (cells slots : Nat) (ls : Array Slot), (fX7_gones_41 N a0 x1).1 h = some (r, h') → jS D dA H0 hs h H locs cells slots → lv_has ls 3 [(0, .ref a0), (1, .int x1)] → W p l e { frames := 0, cells := mc, slots := ms, locals := 0 } s m args below meth c H locs cells slots (jQ D dA H0 below s (.returned (some (.int r))) h' mc ms) (F0 m 41 ls []) := by
  have hx := cx.1
  have hb := cx.2.1
  have hown := cx.2.2.2.1
  have hts := cx.2.2.2.2.1
  have hm : h'.2.2.1 ≤ hs.2.2.1 + mc ∧ h'.2.2.2.1 ≤ hs.2.2.2.1 + ms := ⟨Nat.le_of_eq e1, Nat.le_of_eq e2⟩
  intro x1 h H locs cells slots ls hf hS hl
  unfold fX7_gones_41 at hf
  refine lv_iload_n (pc := 41) hx hb dX7_gones_41 rfl (lv_at hl 1 rfl) ?_
  exact j_iret (pc := 42) cx hS hf e1 e2 dX7_gones_42
theorem wX7_gones_33 {N : Nat} {k4 : Int32 → Int32 → jM Int32} {r : Int32} (cx : jCx p s m args meth c cX7_gones "WornSkinModel" 3 (Option.some Jvm.ClassFile.FieldType.int) D dA H0 hs.2.2.2.2) (e1 : h'.2.2.1 = hs.2.2.1 + mc) (e2 : h'.2.2.2.1 = hs.2.2.2.1 + ms) (a0 : Nat) (hth : jTh hs a0 7) (hk4 : ∀ (x1 : Int32) (x2 : Int32), ∀ (h : jH) (H : Heap) (locs : List Loc) (cells slots : Nat) (ls : Array Slot), (k4 x1 x2).1 h = some (r, h') → jS D dA H0 hs h H locs cells slots → lv_has ls 3 [(0, .ref a0), (1, .int x1), (2, .int x2)] → W p l e { frames := 0, cells := mc, slots := ms, locals := 0 } s m args below meth c H locs cells slots (jQ D dA H0 below s (.returned (some (.int r))) h' mc ms) (F0 m 4 ls [])) : ∀ (x2 : Int32) (v0 : Int32) (v1 : Int32), ∀ (h : jH) (H : Heap) (locs : List Loc) (cells slots : Nat) (ls : Array Slot), (fX7_gones_33 N k4 a0 x2 v0 v1).1 h = some (r, h') → jS D dA H0 hs h H locs cells slots → lv_has ls 3 [(0, .ref a0), (2, .int x2)] → W p l e { frames := 0, cells := mc, slots := ms, locals := 0 } s m args below meth c H locs cells slots (jQ D dA H0 below s (.returned (some (.int r))) h' mc ms) (F0 m 33 ls [.int v1, .int v0]) := by
  have hx := cx.1
  have hb := cx.2.1
  have hown := cx.2.2.2.1
  have hts := cx.2.2.2.2.1
  have hm : h'.2.2.1 ≤ hs.2.2.1 + mc ∧ h'.2.2.2.1 ≤ hs.2.2.2.1 + ms := ⟨Nat.le_of_eq e1, Nat.le_of_eq e2⟩
  intro x2 v0 v1 h H locs cells slots ls hf hS hl
  unfold fX7_gones_33 at hf
  refine lv_ior (pc := 33) hx hb dX7_gones_33 ?_
  refine lv_istore_n (pc := 34) (i := 1) (lv' := [(1, .int (v0 ||| v1)), (0, .ref a0), (2, .int x2)]) hx hb dX7_gones_34 rfl hl (Nat.le_of_ble_eq_true rfl) rfl (fun ls hl => ?_)
  refine lv_iinc (pc := 35) (v := (x2 + 1)) (lv' := [(2, .int (x2 + 1)), (1, .int (v0 ||| v1)), (0, .ref a0)]) hx hb dX7_gones_35 hl (k := 2) rfl rfl (Nat.le_of_ble_eq_true rfl) rfl (fun ls hl => ?_)
  refine lv_goto (pc := 38) (tgt := 4) hx hb dX7_gones_38 (by decide) ?_
  exact hk4 _ _ _ _ _ _ _ _ hf hS (lv_sub hl [2, 1, 0] rfl)
theorem wX7_gones_4 {N : Nat} {r : Int32} (cx : jCx p s m args meth c cX7_gones "WornSkinModel" 3 (Option.some Jvm.ClassFile.FieldType.int) D dA H0 hs.2.2.2.2) (e1 : h'.2.2.1 = hs.2.2.1 + mc) (e2 : h'.2.2.2.1 = hs.2.2.2.1 + ms) (a0 : Nat) (hth : jTh hs a0 7) : ∀ (n : Nat) (x1 : Int32) (x2 : Int32), ∀ (h : jH) (H : Heap) (locs : List Loc) (cells slots : Nat) (ls : Array Slot), (fX7_gones_4 N a0 n x1 x2).1 h = some (r, h') → jS D dA H0 hs h H locs cells slots → lv_has ls 3 [(0, .ref a0), (1, .int x1), (2, .int x2)] → W p l e { frames := 0, cells := mc, slots := ms, locals := 0 } s m args below meth c H locs cells slots (jQ D dA H0 below s (.returned (some (.int r))) h' mc ms) (F0 m 4 ls []) := by
  have hx := cx.1
  have hb := cx.2.1
  have hown := cx.2.2.2.1
  have hts := cx.2.2.2.2.1
  have hm : h'.2.2.1 ≤ hs.2.2.1 + mc ∧ h'.2.2.2.1 ≤ hs.2.2.2.1 + ms := ⟨Nat.le_of_eq e1, Nat.le_of_eq e2⟩
  intro n
  induction n with
  | zero =>
    intro x1 x2 h H locs cells slots ls hf hS hl
    exact jE_f hf
  | succ n ih =>
    intro x1 x2 h H locs cells slots ls hf hS hl
    unfold fX7_gones_4 at hf
    refine lv_iload_n (pc := 4) hx hb dX7_gones_4 rfl (lv_at hl 2 rfl) ?_
    refine lv_aload_n (pc := 5) hx hb dX7_gones_5 rfl (lv_at hl 0 rfl) ?_
    refine j_gR (pc := 6) cx hS hf fd_WornSkinModel_library q1694 dX7_gones_6 (fun y1 hf => ?_)
    refine lv_iconst (pc := 9) (v := 0) hx hb dX7_gones_9 rfl ?_
    refine j_aI (pc := 10) cx hS hf rfl dX7_gones_10 (fun y2 hf => ?_)
    refine lv_icmp_ge (pc := 11) (tgt := 41) hx hb dX7_gones_11 (by decide) (fun hc => ?_) (fun hc => ?_)
    · have hf := jI_t hf hc
      exact wX7_gones_41 cx e1 e2 a0 hth _ _ _ _ _ _ _ hf hS (lv_sub hl [0, 1] rfl)
    · have hf := jI_f hf hc
      refine lv_iload_n (pc := 14) hx hb dX7_gones_14 rfl (lv_at hl 1 rfl) ?_
      refine lv_aload_n (pc := 15) hx hb dX7_gones_15 rfl (lv_at hl 0 rfl) ?_
      refine j_gR (pc := 16) cx hS hf fd_WornSkinModel_s q1732 dX7_gones_16 (fun y3 hf => ?_)
      refine lv_iconst (pc := 19) (v := 1) hx hb dX7_gones_19 rfl ?_
      refine lv_iload_n (pc := 20) hx hb dX7_gones_20 rfl (lv_at hl 2 rfl) ?_
      refine lv_iadd (pc := 21) hx hb dX7_gones_21 ?_
      refine j_aI (pc := 22) cx hS hf rfl dX7_gones_22 (fun y4 hf => ?_)
      refine lv_if_ne (pc := 23) (tgt := 32) hx hb dX7_gones_23 (by decide) (fun hc => ?_) (fun hc => ?_)
      · have hf := jI_f hf hc
        refine lv_iconst (pc := 32) (v := 0) hx hb dX7_gones_32 rfl ?_
        exact wX7_gones_33 cx e1 e2 a0 hth ih _ _ _ _ _ _ _ _ _ hf hS (lv_sub hl [0, 2] rfl)
      · have hf := jI_t hf hc
        refine lv_iconst (pc := 26) (v := 1) hx hb dX7_gones_26 rfl ?_
        refine lv_iload_n (pc := 27) hx hb dX7_gones_27 rfl (lv_at hl 2 rfl) ?_
        refine lv_ishl (pc := 28) hx hb dX7_gones_28 ?_
        refine lv_goto (pc := 29) (tgt := 33) hx hb dX7_gones_29 (by decide) ?_
        exact wX7_gones_33 cx e1 e2 a0 hth ih _ _ _ _ _ _ _ _ _ hf hS (lv_sub hl [0, 2] rfl)
theorem wX7_gones_0 {N : Nat} {r : Int32} (cx : jCx p s m args meth c cX7_gones "WornSkinModel" 3 (Option.some Jvm.ClassFile.FieldType.int) D dA H0 hs.2.2.2.2) (e1 : h'.2.2.1 = hs.2.2.1 + mc) (e2 : h'.2.2.2.1 = hs.2.2.2.1 + ms) (a0 : Nat) (hth : jTh hs a0 7) : ∀ (h : jH) (H : Heap) (locs : List Loc) (cells slots : Nat) (ls : Array Slot), (fX7_gones N a0).1 h = some (r, h') → jS D dA H0 hs h H locs cells slots → lv_has ls 3 [(0, .ref a0)] → W p l e { frames := 0, cells := mc, slots := ms, locals := 0 } s m args below meth c H locs cells slots (jQ D dA H0 below s (.returned (some (.int r))) h' mc ms) (F0 m 0 ls []) := by
  have hx := cx.1
  have hb := cx.2.1
  have hown := cx.2.2.2.1
  have hts := cx.2.2.2.2.1
  have hm : h'.2.2.1 ≤ hs.2.2.1 + mc ∧ h'.2.2.2.1 ≤ hs.2.2.2.1 + ms := ⟨Nat.le_of_eq e1, Nat.le_of_eq e2⟩
  intro h H locs cells slots ls hf hS hl
  unfold fX7_gones at hf
  refine lv_iconst (pc := 0) (v := 0) hx hb dX7_gones_0 rfl ?_
  refine lv_istore_n (pc := 1) (i := 1) (lv' := [(1, .int 0), (0, .ref a0)]) hx hb dX7_gones_1 rfl hl (Nat.le_of_ble_eq_true rfl) rfl (fun ls hl => ?_)
  refine lv_iconst (pc := 2) (v := 0) hx hb dX7_gones_2 rfl ?_
  refine lv_istore_n (pc := 3) (i := 2) (lv' := [(2, .int 0), (1, .int 0), (0, .ref a0)]) hx hb dX7_gones_3 rfl hl (Nat.le_of_ble_eq_true rfl) rfl (fun ls hl => ?_)
  exact wX7_gones_4 cx e1 e2 a0 hth N _ _ _ _ _ _ _ _ hf hS (lv_sub hl [2, 1, 0] rfl)
theorem metX7_gones (l : Launch) (N : Nat) (a0 : Nat) (h h' : jH) (r : Int32) (hth : jcd h a0 = some 7) (hf : (fX7_gones N a0).1 h = some (r, h')) : jMet l yX7_gones (ws_ yX7_gones cX7_gones 3 (Option.some Jvm.ClassFile.FieldType.int)) (0) (0) [.ref a0] h h' (.returned (some (.int r))) := by
  refine jStart rfl (jle hf) (Nat.le_of_ble_eq_true rfl) ?_
  intro p e s m below meth c D dA H0 mc ms ls cx hnm e1 e2 hS hl
  have hth := jTh.mk hS hth
  exact wX7_gones_0 cx e1 e2 a0 hth  _ _ _ _ _ _ hf hS hl
def fX7_goes_116 (N : Nat) (a0 : Nat) : jM Int32 := jRn .boolean 1
def fX7_goes_98 (N : Nat) (a0 : Nat) (x2 : Int32) (v0 : Int32) : jM Int32 := jB (fX7_scrapedBy N a0 x2 v0) fun y1 => if y1 = 0 then (jRn .boolean 0) else (jB (fX7_scrapes N a0 x2 v0) fun _ => fX7_goes_116 N a0)
def fX7_goes (N : Nat) (a0 : Nat) (x1 : Int32) : jM Int32 := jB (jgR [7] 41 (some a0)) fun y1 => jB (jaI 0 y1 x1) fun y2 => jB (jgR [7] 39 (some a0)) fun y3 => jB (jaI 0 y3 x1) fun y4 => if y4 = 3 then (jB (jgR [7] 48 (some a0)) fun y19 => jB (jaI 0 y19 0) fun y20 => jB (jsI 0 y19 0 (y20 + 1)) fun _ => fX7_goes_116 N a0) else (jB (jgR [7] 39 (some a0)) fun y5 => jB (jaI 0 y5 x1) fun y6 => if y6 = 0 then (jB (jgR [7] 40 (some a0)) fun y9 => jB (jaI 0 y9 x1) fun y10 => jB (jgR [7] 42 (some a0)) fun y11 => jB (jaI 0 y11 x1) fun y12 => jB (fX7_canWrite N a0 y10 y2 y12) fun y13 => if y13 = 0 then (jRn .boolean 0) else (jB (jgR [7] 40 (some a0)) fun y14 => jB (jaI 0 y14 x1) fun y15 => jB (jgR [7] 42 (some a0)) fun y16 => jB (jaI 0 y16 x1) fun y17 => jB (fX7_writes N a0 y15 y2 y17) fun _ => fX7_goes_116 N a0)) else (jB (jgR [7] 39 (some a0)) fun y7 => jB (jaI 0 y7 x1) fun y8 => if y8 = 1 then (fX7_goes_98 N a0 y2 63) else (fX7_goes_98 N a0 y2 9)))
theorem wX7_goes_116 {N : Nat} {r : Int32} (cx : jCx p s m args meth c cX7_goes "WornSkinModel" 4 (Option.some Jvm.ClassFile.FieldType.boolean) D dA H0 hs.2.2.2.2) (e1 : h'.2.2.1 = hs.2.2.1 + mc) (e2 : h'.2.2.2.1 = hs.2.2.2.1 + ms) (a0 : Nat) (hth : jTh hs a0 7) : ∀ (h : jH) (H : Heap) (locs : List Loc) (cells slots : Nat) (ls : Array Slot), (fX7_goes_116 N a0).1 h = some (r, h') → jS D dA H0 hs h H locs cells slots → lv_has ls 4 [(0, .ref a0)] → W p l e { frames := 2, cells := mc, slots := ms, locals := 50 } s m args below meth c H locs cells slots (jQ D dA H0 below s (.returned (some (.int r))) h' mc ms) (F0 m 116 ls []) := by
  have hx := cx.1
  have hb := cx.2.1
  have hown := cx.2.2.2.1
  have hts := cx.2.2.2.2.1
  have hm : h'.2.2.1 ≤ hs.2.2.1 + mc ∧ h'.2.2.2.1 ≤ hs.2.2.2.1 + ms := ⟨Nat.le_of_eq e1, Nat.le_of_eq e2⟩
  intro h H locs cells slots ls hf hS hl
  unfold fX7_goes_116 at hf
  refine lv_iconst (pc := 116) (v := 1) hx hb dX7_goes_116 rfl ?_
  exact j_zret (pc := 117) cx (Or.inl rfl) hS hf e1 e2 dX7_goes_117
theorem wX7_goes_98 {N : Nat} {r : Int32} (cx : jCx p s m args meth c cX7_goes "WornSkinModel" 4 (Option.some Jvm.ClassFile.FieldType.boolean) D dA H0 hs.2.2.2.2) (e1 : h'.2.2.1 = hs.2.2.1 + mc) (e2 : h'.2.2.2.1 = hs.2.2.2.1 + ms) (a0 : Nat) (hth : jTh hs a0 7) : ∀ (x2 : Int32) (v0 : Int32), ∀ (h : jH) (H : Heap) (locs : List Loc) (cells slots : Nat) (ls : Array Slot), (fX7_goes_98 N a0 x2 v0).1 h = some (r, h') → jS D dA H0 hs h H locs cells slots → lv_has ls 4 [(0, .ref a0), (2, .int x2)] → W p l e { frames := 2, cells := mc, slots := ms, locals := 50 } s m args below meth c H locs cells slots (jQ D dA H0 below s (.returned (some (.int r))) h' mc ms) (F0 m 98 ls [.int v0]) := by
  have hx := cx.1
  have hb := cx.2.1
  have hown := cx.2.2.2.1
  have hts := cx.2.2.2.2.1
  have hm : h'.2.2.1 ≤ hs.2.2.1 + mc ∧ h'.2.2.2.1 ≤ hs.2.2.2.1 + ms := ⟨Nat.le_of_eq e1, Nat.le_of_eq e2⟩
  intro x2 v0 h H locs cells slots ls hf hS hl
  unfold fX7_goes_98 at hf
  refine lv_istore_n (pc := 98) (i := 3) (lv' := [(3, .int v0), (0, .ref a0), (2, .int x2)]) hx hb dX7_goes_98 rfl hl (Nat.le_of_ble_eq_true rfl) rfl (fun ls hl => ?_)
  refine lv_aload_n (pc := 99) hx hb dX7_goes_99 rfl (lv_at hl 1 rfl) ?_
  refine lv_iload_n (pc := 100) hx hb dX7_goes_100 rfl (lv_at hl 2 rfl) ?_
  refine lv_iload_n (pc := 101) hx hb dX7_goes_101 rfl (lv_at hl 0 rfl) ?_
  obtain ⟨y1, h1, e9, hf⟩ := jB_some hf
  refine j_callV (pc := 102) (st1 := [.int y1]) (As := [.int x2, .int v0]) (rest := []) cx hS rfl hl.1 hm (metX7_scrapedBy l _ _ _ _ _ _ _ (hth.at hS) e9) (jle hf) (hth.at hS) rfl (lw_V q2140 q2142 qs98 q123 q2143) pdX7_scrapedBy rfl rfl (Nat.le_of_ble_eq_true rfl) ⟨Nat.le_of_ble_eq_true rfl, Nat.le_of_ble_eq_true rfl⟩ dX7_goes_102 rfl (fun H locs cells slots hS => ?_)
  refine lv_if_ne (pc := 105) (tgt := 110) hx hb dX7_goes_105 (by decide) (fun hc => ?_) (fun hc => ?_)
  · have hf := jI_f hf hc
    refine lv_aload_n (pc := 110) hx hb dX7_goes_110 rfl (lv_at hl 1 rfl) ?_
    refine lv_iload_n (pc := 111) hx hb dX7_goes_111 rfl (lv_at hl 2 rfl) ?_
    refine lv_iload_n (pc := 112) hx hb dX7_goes_112 rfl (lv_at hl 0 rfl) ?_
    obtain ⟨_, h1, e9, hf⟩ := jB_some hf
    refine j_callV (pc := 113) (st1 := []) (As := [.int x2, .int v0]) (rest := []) cx hS rfl hl.1 hm (metX7_scrapes l _ _ _ _ _ _ _ (hth.at hS) e9) (jle hf) (hth.at hS) rfl (lw_V q2144 q2146 qs99 q123 q2147) pdX7_scrapes rfl rfl (Nat.le_of_ble_eq_true rfl) ⟨Nat.le_of_ble_eq_true rfl, Nat.le_of_ble_eq_true rfl⟩ dX7_goes_113 rfl (fun H locs cells slots hS => ?_)
    exact wX7_goes_116 cx e1 e2 a0 hth _ _ _ _ _ _ hf hS (lv_sub hl [1] rfl)
  · have hf := jI_t hf hc
    refine lv_iconst (pc := 108) (v := 0) hx hb dX7_goes_108 rfl ?_
    exact j_zret (pc := 109) cx (Or.inl rfl) hS hf e1 e2 dX7_goes_109
theorem wX7_goes_0 {N : Nat} {r : Int32} (cx : jCx p s m args meth c cX7_goes "WornSkinModel" 4 (Option.some Jvm.ClassFile.FieldType.boolean) D dA H0 hs.2.2.2.2) (e1 : h'.2.2.1 = hs.2.2.1 + mc) (e2 : h'.2.2.2.1 = hs.2.2.2.1 + ms) (a0 : Nat) (hth : jTh hs a0 7) : ∀ (x1 : Int32), ∀ (h : jH) (H : Heap) (locs : List Loc) (cells slots : Nat) (ls : Array Slot), (fX7_goes N a0 x1).1 h = some (r, h') → jS D dA H0 hs h H locs cells slots → lv_has ls 4 [(0, .ref a0), (1, .int x1)] → W p l e { frames := 2, cells := mc, slots := ms, locals := 50 } s m args below meth c H locs cells slots (jQ D dA H0 below s (.returned (some (.int r))) h' mc ms) (F0 m 0 ls []) := by
  have hx := cx.1
  have hb := cx.2.1
  have hown := cx.2.2.2.1
  have hts := cx.2.2.2.2.1
  have hm : h'.2.2.1 ≤ hs.2.2.1 + mc ∧ h'.2.2.2.1 ≤ hs.2.2.2.1 + ms := ⟨Nat.le_of_eq e1, Nat.le_of_eq e2⟩
  intro x1 h H locs cells slots ls hf hS hl
  unfold fX7_goes at hf
  refine lv_aload_n (pc := 0) hx hb dX7_goes_0 rfl (lv_at hl 0 rfl) ?_
  refine j_gR (pc := 1) cx hS hf fd_WornSkinModel_lineB q1725 dX7_goes_1 (fun y1 hf => ?_)
  refine lv_iload_n (pc := 4) hx hb dX7_goes_4 rfl (lv_at hl 1 rfl) ?_
  refine j_aI (pc := 5) cx hS hf rfl dX7_goes_5 (fun y2 hf => ?_)
  refine lv_istore_n (pc := 6) (i := 2) (lv' := [(2, .int y2), (0, .ref a0), (1, .int x1)]) hx hb dX7_goes_6 rfl hl (Nat.le_of_ble_eq_true rfl) rfl (fun ls hl => ?_)
  refine lv_aload_n (pc := 7) hx hb dX7_goes_7 rfl (lv_at hl 1 rfl) ?_
  refine j_gR (pc := 8) cx hS hf fd_WornSkinModel_lineWhat q1723 dX7_goes_8 (fun y3 hf => ?_)
  refine lv_iload_n (pc := 11) hx hb dX7_goes_11 rfl (lv_at hl 2 rfl) ?_
  refine j_aI (pc := 12) cx hS hf rfl dX7_goes_12 (fun y4 hf => ?_)
  refine lv_iconst (pc := 13) (v := 3) hx hb dX7_goes_13 rfl ?_
  refine lv_icmp_ne (pc := 14) (tgt := 30) hx hb dX7_goes_14 (by decide) (fun hc => ?_) (fun hc => ?_)
  · have hf := jI_f hf hc
    refine lv_aload_n (pc := 30) hx hb dX7_goes_30 rfl (lv_at hl 1 rfl) ?_
    refine j_gR (pc := 31) cx hS hf fd_WornSkinModel_lineWhat q1723 dX7_goes_31 (fun y5 hf => ?_)
    refine lv_iload_n (pc := 34) hx hb dX7_goes_34 rfl (lv_at hl 2 rfl) ?_
    refine j_aI (pc := 35) cx hS hf rfl dX7_goes_35 (fun y6 hf => ?_)
    refine lv_if_ne (pc := 36) (tgt := 81) hx hb dX7_goes_36 (by decide) (fun hc => ?_) (fun hc => ?_)
    · have hf := jI_f hf hc
      refine lv_aload_n (pc := 81) hx hb dX7_goes_81 rfl (lv_at hl 1 rfl) ?_
      refine j_gR (pc := 82) cx hS hf fd_WornSkinModel_lineWhat q1723 dX7_goes_82 (fun y7 hf => ?_)
      refine lv_iload_n (pc := 85) hx hb dX7_goes_85 rfl (lv_at hl 2 rfl) ?_
      refine j_aI (pc := 86) cx hS hf rfl dX7_goes_86 (fun y8 hf => ?_)
      refine lv_iconst (pc := 87) (v := 1) hx hb dX7_goes_87 rfl ?_
      refine lv_icmp_ne (pc := 88) (tgt := 96) hx hb dX7_goes_88 (by decide) (fun hc => ?_) (fun hc => ?_)
      · have hf := jI_f hf hc
        refine lv_bipush (pc := 96) (v := 9) hx hb dX7_goes_96 rfl ?_
        exact wX7_goes_98 cx e1 e2 a0 hth _ _ _ _ _ _ _ _ hf hS (lv_sub hl [1, 0] rfl)
      · have hf := jI_t hf hc
        refine lv_bipush (pc := 91) (v := 63) hx hb dX7_goes_91 rfl ?_
        refine lv_goto (pc := 93) (tgt := 98) hx hb dX7_goes_93 (by decide) ?_
        exact wX7_goes_98 cx e1 e2 a0 hth _ _ _ _ _ _ _ _ hf hS (lv_sub hl [1, 0] rfl)
    · have hf := jI_t hf hc
      refine lv_aload_n (pc := 39) hx hb dX7_goes_39 rfl (lv_at hl 1 rfl) ?_
      refine lv_aload_n (pc := 40) hx hb dX7_goes_40 rfl (lv_at hl 1 rfl) ?_
      refine j_gR (pc := 41) cx hS hf fd_WornSkinModel_lineA q1724 dX7_goes_41 (fun y9 hf => ?_)
      refine lv_iload_n (pc := 44) hx hb dX7_goes_44 rfl (lv_at hl 2 rfl) ?_
      refine j_aI (pc := 45) cx hS hf rfl dX7_goes_45 (fun y10 hf => ?_)
      refine lv_iload_n (pc := 46) hx hb dX7_goes_46 rfl (lv_at hl 0 rfl) ?_
      refine lv_aload_n (pc := 47) hx hb dX7_goes_47 rfl (lv_at hl 1 rfl) ?_
      refine j_gR (pc := 48) cx hS hf fd_WornSkinModel_lineC q1726 dX7_goes_48 (fun y11 hf => ?_)
      refine lv_iload_n (pc := 51) hx hb dX7_goes_51 rfl (lv_at hl 2 rfl) ?_
      refine j_aI (pc := 52) cx hS hf rfl dX7_goes_52 (fun y12 hf => ?_)
      obtain ⟨y13, h1, e9, hf⟩ := jB_some hf
      refine j_callV (pc := 53) (st1 := [.int y13]) (As := [.int y10, .int y2, .int y12]) (rest := []) cx hS rfl hl.1 hm (metX7_canWrite l _ _ _ _ _ _ _ _ (hth.at hS) e9) (jle hf) (hth.at hS) rfl (lw_V q2116 q2118 qs94 q123 q2119) pdX7_canWrite rfl rfl (Nat.le_of_ble_eq_true rfl) ⟨Nat.le_of_ble_eq_true rfl, Nat.le_of_ble_eq_true rfl⟩ dX7_goes_53 rfl (fun H locs cells slots hS => ?_)
      refine lv_if_ne (pc := 56) (tgt := 61) hx hb dX7_goes_56 (by decide) (fun hc => ?_) (fun hc => ?_)
      · have hf := jI_f hf hc
        refine lv_aload_n (pc := 61) hx hb dX7_goes_61 rfl (lv_at hl 1 rfl) ?_
        refine lv_aload_n (pc := 62) hx hb dX7_goes_62 rfl (lv_at hl 1 rfl) ?_
        refine j_gR (pc := 63) cx hS hf fd_WornSkinModel_lineA q1724 dX7_goes_63 (fun y14 hf => ?_)
        refine lv_iload_n (pc := 66) hx hb dX7_goes_66 rfl (lv_at hl 2 rfl) ?_
        refine j_aI (pc := 67) cx hS hf rfl dX7_goes_67 (fun y15 hf => ?_)
        refine lv_iload_n (pc := 68) hx hb dX7_goes_68 rfl (lv_at hl 0 rfl) ?_
        refine lv_aload_n (pc := 69) hx hb dX7_goes_69 rfl (lv_at hl 1 rfl) ?_
        refine j_gR (pc := 70) cx hS hf fd_WornSkinModel_lineC q1726 dX7_goes_70 (fun y16 hf => ?_)
        refine lv_iload_n (pc := 73) hx hb dX7_goes_73 rfl (lv_at hl 2 rfl) ?_
        refine j_aI (pc := 74) cx hS hf rfl dX7_goes_74 (fun y17 hf => ?_)
        obtain ⟨_, h1, e9, hf⟩ := jB_some hf
        refine j_callV (pc := 75) (st1 := []) (As := [.int y15, .int y2, .int y17]) (rest := []) cx hS rfl hl.1 hm (metX7_writes l _ _ _ _ _ _ _ _ (hth.at hS) e9) (jle hf) (hth.at hS) rfl (lw_V q2128 q2130 qs96 q123 q2131) pdX7_writes rfl rfl (Nat.le_of_ble_eq_true rfl) ⟨Nat.le_of_ble_eq_true rfl, Nat.le_of_ble_eq_true rfl⟩ dX7_goes_75 rfl (fun H locs cells slots hS => ?_)
        refine lv_goto (pc := 78) (tgt := 116) hx hb dX7_goes_78 (by decide) ?_
        exact wX7_goes_116 cx e1 e2 a0 hth _ _ _ _ _ _ hf hS (lv_sub hl [1] rfl)
      · have hf := jI_t hf hc
        refine lv_iconst (pc := 59) (v := 0) hx hb dX7_goes_59 rfl ?_
        exact j_zret (pc := 60) cx (Or.inl rfl) hS hf e1 e2 dX7_goes_60
  · have hf := jI_t hf hc
    refine lv_aload_n (pc := 17) hx hb dX7_goes_17 rfl (lv_at hl 1 rfl) ?_
    refine j_gR (pc := 18) cx hS hf fd_WornSkinModel_s q1732 dX7_goes_18 (fun y19 hf => ?_)
    refine lv_iconst (pc := 21) (v := 0) hx hb dX7_goes_21 rfl ?_
    refine lv_dup2_11 (pc := 22) hx hb dX7_goes_22 rfl (jrfc _) ?_
    refine j_aI (pc := 23) cx hS hf rfl dX7_goes_23 (fun y20 hf => ?_)
    refine lv_iconst (pc := 24) (v := 1) hx hb dX7_goes_24 rfl ?_
    refine lv_iadd (pc := 25) hx hb dX7_goes_25 ?_
    refine j_sI (pc := 26) cx hS hf rfl dX7_goes_26 (fun h H locs hf hS => ?_)
    refine lv_goto (pc := 27) (tgt := 116) hx hb dX7_goes_27 (by decide) ?_
    exact wX7_goes_116 cx e1 e2 a0 hth _ _ _ _ _ _ hf hS (lv_sub hl [1] rfl)
theorem metX7_goes (l : Launch) (N : Nat) (a0 : Nat) (x1 : Int32) (h h' : jH) (r : Int32) (hth : jcd h a0 = some 7) (hf : (fX7_goes N a0 x1).1 h = some (r, h')) : jMet l yX7_goes (ws_ yX7_goes cX7_goes 4 (Option.some Jvm.ClassFile.FieldType.boolean)) (2) (50) [.ref a0, .int x1] h h' (.returned (some (.int r))) := by
  refine jStart rfl (jle hf) (Nat.le_of_ble_eq_true rfl) ?_
  intro p e s m below meth c D dA H0 mc ms ls cx hnm e1 e2 hS hl
  have hth := jTh.mk hS hth
  exact wX7_goes_0 cx e1 e2 a0 hth _ _ _ _ _ _ _ hf hS hl
def fX7_judged_137 (N : Nat) (a0 : Nat) (v0 : Int32) : jM Int32 := jR v0
def fX7_judged_96 (N : Nat) (a0 : Nat) (x1 : Int32) (x2 : Int32) (x3 : Int32) : jM Int32 := jB (fX7_wholeNow N a0) fun y1 => jB (fX7_bits N y1) fun y2 => jB (jgR [7] 49 (some a0)) fun y3 => jB (jgR [7] 48 (some a0)) fun y4 => jB (fX7_copies N y3 0 y4 0) fun _ => if x1 = 0 then (fX7_judged_137 N a0 x2) else (if x1 = 1 then (fX7_judged_137 N a0 x3) else (fX7_judged_137 N a0 y2))
def fX7_judged_90 (N : Nat) (k41 : Int32 → Int32 → Int32 → Int32 → jM Int32) (a0 : Nat) (x1 : Int32) (x2 : Int32) (x3 : Int32) (x4 : Int32) : jM Int32 := k41 x1 x2 x3 (x4 + 1)
def fX7_judged_74 (N : Nat) (k41 : Int32 → Int32 → Int32 → Int32 → jM Int32) (a0 : Nat) (x1 : Int32) (x2 : Int32) (x3 : Int32) (x4 : Int32) (x5 : Int32) : jM Int32 := jB (fX7_gones N a0) fun y1 => if y1 = x5 then (fX7_judged_90 N k41 a0 x1 x2 x3 x4) else (if 0 ≤ x3 then (fX7_judged_90 N k41 a0 x1 x2 x3 x4) else (fX7_judged_90 N k41 a0 x1 x2 x4 x4))
def fX7_judged_41 (N : Nat) (a0 : Nat) : Nat → Int32 → Int32 → Int32 → Int32 → jM Int32
  | 0, _, _, _, _ => jE
  | n + 1, x1, x2, x3, x4 => jB (jgR [7] 38 (some a0)) fun y1 => jB (jaI 0 y1 0) fun y2 => if y2 ≤ x4 then (fX7_judged_96 N a0 x1 x2 x3) else (jB (fX7_gones N a0) fun y3 => jB (fX7_goes N a0 x4) fun y4 => if y4 = 0 then (if 0 ≤ x2 then (fX7_judged_74 N (fX7_judged_41 N a0 n) a0 x1 x2 x3 x4 y3) else (fX7_judged_74 N (fX7_judged_41 N a0 n) a0 x1 x4 x3 x4 y3)) else (fX7_judged_74 N (fX7_judged_41 N a0 n) a0 x1 x2 x3 x4 y3))
def fX7_judged (N : Nat) (a0 : Nat) (x1 : Int32) : jM Int32 := jB (jpI [7] 0 (some a0) 0) fun _ => jB (fX7_within x1 0 2) fun y1 => if y1 = 0 then (jR (-2)) else (jB (jgR [7] 48 (some a0)) fun y2 => jB (jgR [7] 49 (some a0)) fun y3 => jB (fX7_copies N y2 0 y3 0) fun _ => jB (fX7_fresh0 N a0) fun _ => fX7_judged_41 N a0 N x1 (-1) (-1) 0)
theorem wX7_judged_137 {N : Nat} {r : Int32} (cx : jCx p s m args meth c cX7_judged "WornSkinModel" 6 (Option.some Jvm.ClassFile.FieldType.int) D dA H0 hs.2.2.2.2) (e1 : h'.2.2.1 = hs.2.2.1 + mc) (e2 : h'.2.2.2.1 = hs.2.2.2.1 + ms) (a0 : Nat) (hth : jTh hs a0 7) : ∀ (v0 : Int32), ∀ (h : jH) (H : Heap) (locs : List Loc) (cells slots : Nat) (ls : Array Slot), (fX7_judged_137 N a0 v0).1 h = some (r, h') → jS D dA H0 hs h H locs cells slots → lv_has ls 6 [(0, .ref a0)] → W p l e { frames := 7, cells := mc, slots := ms, locals := 167 } s m args below meth c H locs cells slots (jQ D dA H0 below s (.returned (some (.int r))) h' mc ms) (F0 m 137 ls [.int v0]) := by
  have hx := cx.1
  have hb := cx.2.1
  have hown := cx.2.2.2.1
  have hts := cx.2.2.2.2.1
  have hm : h'.2.2.1 ≤ hs.2.2.1 + mc ∧ h'.2.2.2.1 ≤ hs.2.2.2.1 + ms := ⟨Nat.le_of_eq e1, Nat.le_of_eq e2⟩
  intro v0 h H locs cells slots ls hf hS hl
  unfold fX7_judged_137 at hf
  exact j_iret (pc := 137) cx hS hf e1 e2 dX7_judged_137
theorem wX7_judged_96 {N : Nat} {r : Int32} (cx : jCx p s m args meth c cX7_judged "WornSkinModel" 6 (Option.some Jvm.ClassFile.FieldType.int) D dA H0 hs.2.2.2.2) (e1 : h'.2.2.1 = hs.2.2.1 + mc) (e2 : h'.2.2.2.1 = hs.2.2.2.1 + ms) (a0 : Nat) (hth : jTh hs a0 7) : ∀ (x1 : Int32) (x2 : Int32) (x3 : Int32), ∀ (h : jH) (H : Heap) (locs : List Loc) (cells slots : Nat) (ls : Array Slot), (fX7_judged_96 N a0 x1 x2 x3).1 h = some (r, h') → jS D dA H0 hs h H locs cells slots → lv_has ls 6 [(0, .ref a0), (1, .int x1), (2, .int x2), (3, .int x3)] → W p l e { frames := 7, cells := mc, slots := ms, locals := 167 } s m args below meth c H locs cells slots (jQ D dA H0 below s (.returned (some (.int r))) h' mc ms) (F0 m 96 ls []) := by
  have hx := cx.1
  have hb := cx.2.1
  have hown := cx.2.2.2.1
  have hts := cx.2.2.2.2.1
  have hm : h'.2.2.1 ≤ hs.2.2.1 + mc ∧ h'.2.2.2.1 ≤ hs.2.2.2.1 + ms := ⟨Nat.le_of_eq e1, Nat.le_of_eq e2⟩
  intro x1 x2 x3 h H locs cells slots ls hf hS hl
  unfold fX7_judged_96 at hf
  refine lv_aload_n (pc := 96) hx hb dX7_judged_96 rfl (lv_at hl 0 rfl) ?_
  obtain ⟨y1, h1, e9, hf⟩ := jB_some hf
  refine j_callV (pc := 97) (st1 := [.int y1]) (As := []) (rest := []) cx hS rfl hl.1 hm (metX7_wholeNow l _ _ _ _ _ (hth.at hS) e9) (jle hf) (hth.at hS) rfl (lw_V q2075 q2077 qs90 q123 q2078) pdX7_wholeNow rfl rfl (Nat.le_of_ble_eq_true rfl) ⟨Nat.le_of_ble_eq_true rfl, Nat.le_of_ble_eq_true rfl⟩ dX7_judged_97 rfl (fun H locs cells slots hS => ?_)
  obtain ⟨y2, h1, e9, hf⟩ := jB_some hf
  refine j_callS (pc := 100) (st1 := [.int y2]) (As := [.int y1]) (rest := []) cx hS rfl hl.1 hm (metX7_bits l _ _ _ _ _ e9) (jle hf) (lw_S q2087 q2088 q123 q2089) pdX7_bits rfl rfl (Nat.le_of_ble_eq_true rfl) ⟨Nat.le_of_ble_eq_true rfl, Nat.le_of_ble_eq_true rfl⟩ dX7_judged_100 rfl (fun H locs cells slots hS => ?_)
  refine lv_istore (pc := 103) (i := 4) (lv' := [(4, .int y2), (0, .ref a0), (1, .int x1), (2, .int x2), (3, .int x3)]) hx hb dX7_judged_103 hl (Nat.le_of_ble_eq_true rfl) rfl (fun ls hl => ?_)
  refine lv_aload_n (pc := 105) hx hb dX7_judged_105 rfl (lv_at hl 1 rfl) ?_
  refine j_gR (pc := 106) cx hS hf fd_WornSkinModel_aside q1733 dX7_judged_106 (fun y3 hf => ?_)
  refine lv_iconst (pc := 109) (v := 0) hx hb dX7_judged_109 rfl ?_
  refine lv_aload_n (pc := 110) hx hb dX7_judged_110 rfl (lv_at hl 1 rfl) ?_
  refine j_gR (pc := 111) cx hS hf fd_WornSkinModel_s q1732 dX7_judged_111 (fun y4 hf => ?_)
  refine lv_iconst (pc := 114) (v := 0) hx hb dX7_judged_114 rfl ?_
  obtain ⟨_, h1, e9, hf⟩ := jB_some hf
  refine j_callS (pc := 115) (st1 := []) (As := [va_rf y3, .int 0, va_rf y4, .int 0]) (rest := []) cx hS rfl hl.1 hm (metX7_copies l _ _ _ _ _ _ _ _ e9) (jle hf) (lw_S q2125 q2126 q123 q2127) pdX7_copies rfl rfl (Nat.le_of_ble_eq_true rfl) ⟨Nat.le_of_ble_eq_true rfl, Nat.le_of_ble_eq_true rfl⟩ dX7_judged_115 rfl (fun H locs cells slots hS => ?_)
  refine lv_iload_n (pc := 118) hx hb dX7_judged_118 rfl (lv_at hl 2 rfl) ?_
  refine lv_if_ne (pc := 119) (tgt := 126) hx hb dX7_judged_119 (by decide) (fun hc => ?_) (fun hc => ?_)
  · have hf := jI_f hf hc
    refine lv_iload_n (pc := 126) hx hb dX7_judged_126 rfl (lv_at hl 2 rfl) ?_
    refine lv_iconst (pc := 127) (v := 1) hx hb dX7_judged_127 rfl ?_
    refine lv_icmp_ne (pc := 128) (tgt := 135) hx hb dX7_judged_128 (by decide) (fun hc => ?_) (fun hc => ?_)
    · have hf := jI_f hf hc
      refine lv_iload (pc := 135) hx hb dX7_judged_135 (lv_at hl 0 rfl) ?_
      exact wX7_judged_137 cx e1 e2 a0 hth _ _ _ _ _ _ _ hf hS (lv_sub hl [1] rfl)
    · have hf := jI_t hf hc
      refine lv_iload_n (pc := 131) hx hb dX7_judged_131 rfl (lv_at hl 4 rfl) ?_
      refine lv_goto (pc := 132) (tgt := 137) hx hb dX7_judged_132 (by decide) ?_
      exact wX7_judged_137 cx e1 e2 a0 hth _ _ _ _ _ _ _ hf hS (lv_sub hl [1] rfl)
  · have hf := jI_t hf hc
    refine lv_iload_n (pc := 122) hx hb dX7_judged_122 rfl (lv_at hl 3 rfl) ?_
    refine lv_goto (pc := 123) (tgt := 137) hx hb dX7_judged_123 (by decide) ?_
    exact wX7_judged_137 cx e1 e2 a0 hth _ _ _ _ _ _ _ hf hS (lv_sub hl [1] rfl)
theorem wX7_judged_90 {N : Nat} {k41 : Int32 → Int32 → Int32 → Int32 → jM Int32} {r : Int32} (cx : jCx p s m args meth c cX7_judged "WornSkinModel" 6 (Option.some Jvm.ClassFile.FieldType.int) D dA H0 hs.2.2.2.2) (e1 : h'.2.2.1 = hs.2.2.1 + mc) (e2 : h'.2.2.2.1 = hs.2.2.2.1 + ms) (a0 : Nat) (hth : jTh hs a0 7) (hk41 : ∀ (x1 : Int32) (x2 : Int32) (x3 : Int32) (x4 : Int32), ∀ (h : jH) (H : Heap) (locs : List Loc) (cells slots : Nat) (ls : Array Slot), (k41 x1 x2 x3 x4).1 h = some (r, h') → jS D dA H0 hs h H locs cells slots → lv_has ls 6 [(0, .ref a0), (1, .int x1), (2, .int x2), (3, .int x3), (4, .int x4)] → W p l e { frames := 7, cells := mc, slots := ms, locals := 167 } s m args below meth c H locs cells slots (jQ D dA H0 below s (.returned (some (.int r))) h' mc ms) (F0 m 41 ls [])) : ∀ (x1 : Int32) (x2 : Int32) (x3 : Int32) (x4 : Int32), ∀ (h : jH) (H : Heap) (locs : List Loc) (cells slots : Nat) (ls : Array Slot), (fX7_judged_90 N k41 a0 x1 x2 x3 x4).1 h = some (r, h') → jS D dA H0 hs h H locs cells slots → lv_has ls 6 [(0, .ref a0), (1, .int x1), (2, .int x2), (3, .int x3), (4, .int x4)] → W p l e { frames := 7, cells := mc, slots := ms, locals := 167 } s m args below meth c H locs cells slots (jQ D dA H0 below s (.returned (some (.int r))) h' mc ms) (F0 m 90 ls []) := by
  have hx := cx.1
  have hb := cx.2.1
  have hown := cx.2.2.2.1
  have hts := cx.2.2.2.2.1
  have hm : h'.2.2.1 ≤ hs.2.2.1 + mc ∧ h'.2.2.2.1 ≤ hs.2.2.2.1 + ms := ⟨Nat.le_of_eq e1, Nat.le_of_eq e2⟩
  intro x1 x2 x3 x4 h H locs cells slots ls hf hS hl
  unfold fX7_judged_90 at hf
  refine lv_iinc (pc := 90) (v := (x4 + 1)) (lv' := [(4, .int (x4 + 1)), (0, .ref a0), (1, .int x1), (2, .int x2), (3, .int x3)]) hx hb dX7_judged_90 hl (k := 4) rfl rfl (Nat.le_of_ble_eq_true rfl) rfl (fun ls hl => ?_)
  refine lv_goto (pc := 93) (tgt := 41) hx hb dX7_judged_93 (by decide) ?_
  exact hk41 _ _ _ _ _ _ _ _ _ _ hf hS (lv_sub hl [1, 2, 3, 4, 0] rfl)
theorem wX7_judged_74 {N : Nat} {k41 : Int32 → Int32 → Int32 → Int32 → jM Int32} {r : Int32} (cx : jCx p s m args meth c cX7_judged "WornSkinModel" 6 (Option.some Jvm.ClassFile.FieldType.int) D dA H0 hs.2.2.2.2) (e1 : h'.2.2.1 = hs.2.2.1 + mc) (e2 : h'.2.2.2.1 = hs.2.2.2.1 + ms) (a0 : Nat) (hth : jTh hs a0 7) (hk41 : ∀ (x1 : Int32) (x2 : Int32) (x3 : Int32) (x4 : Int32), ∀ (h : jH) (H : Heap) (locs : List Loc) (cells slots : Nat) (ls : Array Slot), (k41 x1 x2 x3 x4).1 h = some (r, h') → jS D dA H0 hs h H locs cells slots → lv_has ls 6 [(0, .ref a0), (1, .int x1), (2, .int x2), (3, .int x3), (4, .int x4)] → W p l e { frames := 7, cells := mc, slots := ms, locals := 167 } s m args below meth c H locs cells slots (jQ D dA H0 below s (.returned (some (.int r))) h' mc ms) (F0 m 41 ls [])) : ∀ (x1 : Int32) (x2 : Int32) (x3 : Int32) (x4 : Int32) (x5 : Int32), ∀ (h : jH) (H : Heap) (locs : List Loc) (cells slots : Nat) (ls : Array Slot), (fX7_judged_74 N k41 a0 x1 x2 x3 x4 x5).1 h = some (r, h') → jS D dA H0 hs h H locs cells slots → lv_has ls 6 [(0, .ref a0), (1, .int x1), (2, .int x2), (3, .int x3), (4, .int x4), (5, .int x5)] → W p l e { frames := 7, cells := mc, slots := ms, locals := 167 } s m args below meth c H locs cells slots (jQ D dA H0 below s (.returned (some (.int r))) h' mc ms) (F0 m 74 ls []) := by
  have hx := cx.1
  have hb := cx.2.1
  have hown := cx.2.2.2.1
  have hts := cx.2.2.2.2.1
  have hm : h'.2.2.1 ≤ hs.2.2.1 + mc ∧ h'.2.2.2.1 ≤ hs.2.2.2.1 + ms := ⟨Nat.le_of_eq e1, Nat.le_of_eq e2⟩
  intro x1 x2 x3 x4 x5 h H locs cells slots ls hf hS hl
  unfold fX7_judged_74 at hf
  refine lv_aload_n (pc := 74) hx hb dX7_judged_74 rfl (lv_at hl 0 rfl) ?_
  obtain ⟨y1, h1, e9, hf⟩ := jB_some hf
  refine j_callV (pc := 75) (st1 := [.int y1]) (As := []) (rest := []) cx hS rfl hl.1 hm (metX7_gones l _ _ _ _ _ (hth.at hS) e9) (jle hf) (hth.at hS) rfl (lw_V q2164 q2166 qs100 q123 q2167) pdX7_gones rfl rfl (Nat.le_of_ble_eq_true rfl) ⟨Nat.le_of_ble_eq_true rfl, Nat.le_of_ble_eq_true rfl⟩ dX7_judged_75 rfl (fun H locs cells slots hS => ?_)
  refine lv_iload (pc := 78) hx hb dX7_judged_78 (lv_at hl 5 rfl) ?_
  refine lv_icmp_eq (pc := 80) (tgt := 90) hx hb dX7_judged_80 (by decide) (fun hc => ?_) (fun hc => ?_)
  · have hf := jI_t hf hc
    exact wX7_judged_90 cx e1 e2 a0 hth hk41 _ _ _ _ _ _ _ _ _ _ hf hS (lv_sub hl [0, 1, 2, 3, 4] rfl)
  · have hf := jI_f hf hc
    refine lv_iload_n (pc := 83) hx hb dX7_judged_83 rfl (lv_at hl 3 rfl) ?_
    refine lv_if_ge (pc := 84) (tgt := 90) hx hb dX7_judged_84 (by decide) (fun hc => ?_) (fun hc => ?_)
    · have hf := jI_t hf hc
      exact wX7_judged_90 cx e1 e2 a0 hth hk41 _ _ _ _ _ _ _ _ _ _ hf hS (lv_sub hl [0, 1, 2, 3, 4] rfl)
    · have hf := jI_f hf hc
      refine lv_iload (pc := 87) hx hb dX7_judged_87 (lv_at hl 4 rfl) ?_
      refine lv_istore_n (pc := 89) (i := 3) (lv' := [(3, .int x4), (0, .ref a0), (1, .int x1), (2, .int x2), (4, .int x4), (5, .int x5)]) hx hb dX7_judged_89 rfl hl (Nat.le_of_ble_eq_true rfl) rfl (fun ls hl => ?_)
      exact wX7_judged_90 cx e1 e2 a0 hth hk41 _ _ _ _ _ _ _ _ _ _ hf hS (lv_sub hl [1, 2, 3, 0, 4] rfl)
theorem wX7_judged_41 {N : Nat} {r : Int32} (cx : jCx p s m args meth c cX7_judged "WornSkinModel" 6 (Option.some Jvm.ClassFile.FieldType.int) D dA H0 hs.2.2.2.2) (e1 : h'.2.2.1 = hs.2.2.1 + mc) (e2 : h'.2.2.2.1 = hs.2.2.2.1 + ms) (a0 : Nat) (hth : jTh hs a0 7) : ∀ (n : Nat) (x1 : Int32) (x2 : Int32) (x3 : Int32) (x4 : Int32), ∀ (h : jH) (H : Heap) (locs : List Loc) (cells slots : Nat) (ls : Array Slot), (fX7_judged_41 N a0 n x1 x2 x3 x4).1 h = some (r, h') → jS D dA H0 hs h H locs cells slots → lv_has ls 6 [(0, .ref a0), (1, .int x1), (2, .int x2), (3, .int x3), (4, .int x4)] → W p l e { frames := 7, cells := mc, slots := ms, locals := 167 } s m args below meth c H locs cells slots (jQ D dA H0 below s (.returned (some (.int r))) h' mc ms) (F0 m 41 ls []) := by
  have hx := cx.1
  have hb := cx.2.1
  have hown := cx.2.2.2.1
  have hts := cx.2.2.2.2.1
  have hm : h'.2.2.1 ≤ hs.2.2.1 + mc ∧ h'.2.2.2.1 ≤ hs.2.2.2.1 + ms := ⟨Nat.le_of_eq e1, Nat.le_of_eq e2⟩
  intro n
  induction n with
  | zero =>
    intro x1 x2 x3 x4 h H locs cells slots ls hf hS hl
    exact jE_f hf
  | succ n ih =>
    intro x1 x2 x3 x4 h H locs cells slots ls hf hS hl
    unfold fX7_judged_41 at hf
    refine lv_iload (pc := 41) hx hb dX7_judged_41 (lv_at hl 4 rfl) ?_
    refine lv_aload_n (pc := 43) hx hb dX7_judged_43 rfl (lv_at hl 0 rfl) ?_
    refine j_gR (pc := 44) cx hS hf fd_WornSkinModel_lines q1722 dX7_judged_44 (fun y1 hf => ?_)
    refine lv_iconst (pc := 47) (v := 0) hx hb dX7_judged_47 rfl ?_
    refine j_aI (pc := 48) cx hS hf rfl dX7_judged_48 (fun y2 hf => ?_)
    refine lv_icmp_ge (pc := 49) (tgt := 96) hx hb dX7_judged_49 (by decide) (fun hc => ?_) (fun hc => ?_)
    · have hf := jI_t hf hc
      exact wX7_judged_96 cx e1 e2 a0 hth _ _ _ _ _ _ _ _ _ hf hS (lv_sub hl [0, 1, 2, 3] rfl)
    · have hf := jI_f hf hc
      refine lv_aload_n (pc := 52) hx hb dX7_judged_52 rfl (lv_at hl 0 rfl) ?_
      obtain ⟨y3, h1, e9, hf⟩ := jB_some hf
      refine j_callV (pc := 53) (st1 := [.int y3]) (As := []) (rest := []) cx hS rfl hl.1 hm (metX7_gones l _ _ _ _ _ (hth.at hS) e9) (jle hf) (hth.at hS) rfl (lw_V q2164 q2166 qs100 q123 q2167) pdX7_gones rfl rfl (Nat.le_of_ble_eq_true rfl) ⟨Nat.le_of_ble_eq_true rfl, Nat.le_of_ble_eq_true rfl⟩ dX7_judged_53 rfl (fun H locs cells slots hS => ?_)
      refine lv_istore (pc := 56) (i := 5) (lv' := [(5, .int y3), (0, .ref a0), (1, .int x1), (2, .int x2), (3, .int x3), (4, .int x4)]) hx hb dX7_judged_56 hl (Nat.le_of_ble_eq_true rfl) rfl (fun ls hl => ?_)
      refine lv_aload_n (pc := 58) hx hb dX7_judged_58 rfl (lv_at hl 1 rfl) ?_
      refine lv_iload (pc := 59) hx hb dX7_judged_59 (lv_at hl 5 rfl) ?_
      obtain ⟨y4, h1, e9, hf⟩ := jB_some hf
      refine j_callV (pc := 61) (st1 := [.int y4]) (As := [.int x4]) (rest := []) cx hS rfl hl.1 hm (metX7_goes l _ _ _ _ _ _ (hth.at hS) e9) (jle hf) (hth.at hS) rfl (lw_V q2168 q2170 qs101 q123 q2171) pdX7_goes rfl rfl (Nat.le_of_ble_eq_true rfl) ⟨Nat.le_of_ble_eq_true rfl, Nat.le_of_ble_eq_true rfl⟩ dX7_judged_61 rfl (fun H locs cells slots hS => ?_)
      refine lv_if_ne (pc := 64) (tgt := 74) hx hb dX7_judged_64 (by decide) (fun hc => ?_) (fun hc => ?_)
      · have hf := jI_f hf hc
        exact wX7_judged_74 cx e1 e2 a0 hth ih _ _ _ _ _ _ _ _ _ _ _ hf hS (lv_sub hl [1, 2, 3, 4, 5, 0] rfl)
      · have hf := jI_t hf hc
        refine lv_iload_n (pc := 67) hx hb dX7_judged_67 rfl (lv_at hl 3 rfl) ?_
        refine lv_if_ge (pc := 68) (tgt := 74) hx hb dX7_judged_68 (by decide) (fun hc => ?_) (fun hc => ?_)
        · have hf := jI_t hf hc
          exact wX7_judged_74 cx e1 e2 a0 hth ih _ _ _ _ _ _ _ _ _ _ _ hf hS (lv_sub hl [1, 2, 3, 4, 5, 0] rfl)
        · have hf := jI_f hf hc
          refine lv_iload (pc := 71) hx hb dX7_judged_71 (lv_at hl 5 rfl) ?_
          refine lv_istore_n (pc := 73) (i := 2) (lv' := [(2, .int x4), (5, .int y3), (0, .ref a0), (1, .int x1), (3, .int x3), (4, .int x4)]) hx hb dX7_judged_73 rfl hl (Nat.le_of_ble_eq_true rfl) rfl (fun ls hl => ?_)
          exact wX7_judged_74 cx e1 e2 a0 hth ih _ _ _ _ _ _ _ _ _ _ _ hf hS (lv_sub hl [2, 3, 0, 4, 5, 1] rfl)
theorem wX7_judged_0 {N : Nat} {r : Int32} (cx : jCx p s m args meth c cX7_judged "WornSkinModel" 6 (Option.some Jvm.ClassFile.FieldType.int) D dA H0 hs.2.2.2.2) (e1 : h'.2.2.1 = hs.2.2.1 + mc) (e2 : h'.2.2.2.1 = hs.2.2.2.1 + ms) (a0 : Nat) (hth : jTh hs a0 7) : ∀ (x1 : Int32), ∀ (h : jH) (H : Heap) (locs : List Loc) (cells slots : Nat) (ls : Array Slot), (fX7_judged N a0 x1).1 h = some (r, h') → jS D dA H0 hs h H locs cells slots → lv_has ls 6 [(0, .ref a0), (1, .int x1)] → W p l e { frames := 7, cells := mc, slots := ms, locals := 167 } s m args below meth c H locs cells slots (jQ D dA H0 below s (.returned (some (.int r))) h' mc ms) (F0 m 0 ls []) := by
  have hx := cx.1
  have hb := cx.2.1
  have hown := cx.2.2.2.1
  have hts := cx.2.2.2.2.1
  have hm : h'.2.2.1 ≤ hs.2.2.1 + mc ∧ h'.2.2.2.1 ≤ hs.2.2.2.1 + ms := ⟨Nat.le_of_eq e1, Nat.le_of_eq e2⟩
  intro x1 h H locs cells slots ls hf hS hl
  unfold fX7_judged at hf
  refine lv_aload_n (pc := 0) hx hb dX7_judged_0 rfl (lv_at hl 0 rfl) ?_
  refine lv_iconst (pc := 1) (v := 0) hx hb dX7_judged_1 rfl ?_
  refine j_pI (pc := 2) cx hS hf fp_WornSkinModel_thrown (Or.inl rfl) q1684 dX7_judged_2 (fun h H locs hf hS => ?_)
  refine lv_iload_n (pc := 5) hx hb dX7_judged_5 rfl (lv_at hl 1 rfl) ?_
  refine lv_iconst (pc := 6) (v := 0) hx hb dX7_judged_6 rfl ?_
  refine lv_iconst (pc := 7) (v := 2) hx hb dX7_judged_7 rfl ?_
  obtain ⟨y1, h1, e9, hf⟩ := jB_some hf
  refine j_callS (pc := 8) (st1 := [.int y1]) (As := [.int x1, .int 0, .int 2]) (rest := []) cx hS rfl hl.1 hm (metX7_within l _ _ _ _ _ _ e9) (jle hf) (lw_S q1950 q1951 q123 q1952) pdX7_within rfl rfl (Nat.le_of_ble_eq_true rfl) ⟨Nat.le_of_ble_eq_true rfl, Nat.le_of_ble_eq_true rfl⟩ dX7_judged_8 rfl (fun H locs cells slots hS => ?_)
  refine lv_if_ne (pc := 11) (tgt := 17) hx hb dX7_judged_11 (by decide) (fun hc => ?_) (fun hc => ?_)
  · have hf := jI_f hf hc
    refine lv_aload_n (pc := 17) hx hb dX7_judged_17 rfl (lv_at hl 0 rfl) ?_
    refine j_gR (pc := 18) cx hS hf fd_WornSkinModel_s q1732 dX7_judged_18 (fun y2 hf => ?_)
    refine lv_iconst (pc := 21) (v := 0) hx hb dX7_judged_21 rfl ?_
    refine lv_aload_n (pc := 22) hx hb dX7_judged_22 rfl (lv_at hl 0 rfl) ?_
    refine j_gR (pc := 23) cx hS hf fd_WornSkinModel_aside q1733 dX7_judged_23 (fun y3 hf => ?_)
    refine lv_iconst (pc := 26) (v := 0) hx hb dX7_judged_26 rfl ?_
    obtain ⟨_, h1, e9, hf⟩ := jB_some hf
    refine j_callS (pc := 27) (st1 := []) (As := [va_rf y2, .int 0, va_rf y3, .int 0]) (rest := []) cx hS rfl hl.1 hm (metX7_copies l _ _ _ _ _ _ _ _ e9) (jle hf) (lw_S q2125 q2126 q123 q2127) pdX7_copies rfl rfl (Nat.le_of_ble_eq_true rfl) ⟨Nat.le_of_ble_eq_true rfl, Nat.le_of_ble_eq_true rfl⟩ dX7_judged_27 rfl (fun H locs cells slots hS => ?_)
    refine lv_aload_n (pc := 30) hx hb dX7_judged_30 rfl (lv_at hl 0 rfl) ?_
    obtain ⟨_, h1, e9, hf⟩ := jB_some hf
    refine j_callV (pc := 31) (st1 := []) (As := []) (rest := []) cx hS rfl hl.1 hm (metX7_fresh0 l _ _ _ _ _ (hth.at hS) e9) (jle hf) (hth.at hS) rfl (lw_V q2007 q2009 qs76 q123 q2010) pdX7_fresh0 rfl rfl (Nat.le_of_ble_eq_true rfl) ⟨Nat.le_of_ble_eq_true rfl, Nat.le_of_ble_eq_true rfl⟩ dX7_judged_31 rfl (fun H locs cells slots hS => ?_)
    refine lv_iconst (pc := 34) (v := (-1)) hx hb dX7_judged_34 rfl ?_
    refine lv_istore_n (pc := 35) (i := 2) (lv' := [(2, .int (-1)), (0, .ref a0), (1, .int x1)]) hx hb dX7_judged_35 rfl hl (Nat.le_of_ble_eq_true rfl) rfl (fun ls hl => ?_)
    refine lv_iconst (pc := 36) (v := (-1)) hx hb dX7_judged_36 rfl ?_
    refine lv_istore_n (pc := 37) (i := 3) (lv' := [(3, .int (-1)), (2, .int (-1)), (0, .ref a0), (1, .int x1)]) hx hb dX7_judged_37 rfl hl (Nat.le_of_ble_eq_true rfl) rfl (fun ls hl => ?_)
    refine lv_iconst (pc := 38) (v := 0) hx hb dX7_judged_38 rfl ?_
    refine lv_istore (pc := 39) (i := 4) (lv' := [(4, .int 0), (3, .int (-1)), (2, .int (-1)), (0, .ref a0), (1, .int x1)]) hx hb dX7_judged_39 hl (Nat.le_of_ble_eq_true rfl) rfl (fun ls hl => ?_)
    exact wX7_judged_41 cx e1 e2 a0 hth N _ _ _ _ _ _ _ _ _ _ hf hS (lv_sub hl [3, 4, 2, 1, 0] rfl)
  · have hf := jI_t hf hc
    refine lv_bipush (pc := 14) (v := (-2)) hx hb dX7_judged_14 rfl ?_
    exact j_iret (pc := 16) cx hS hf e1 e2 dX7_judged_16
theorem metX7_judged (l : Launch) (N : Nat) (a0 : Nat) (x1 : Int32) (h h' : jH) (r : Int32) (hth : jcd h a0 = some 7) (hf : (fX7_judged N a0 x1).1 h = some (r, h')) : jMet l yX7_judged (ws_ yX7_judged cX7_judged 6 (Option.some Jvm.ClassFile.FieldType.int)) (7) (167) [.ref a0, .int x1] h h' (.returned (some (.int r))) := by
  refine jStart rfl (jle hf) (Nat.le_of_ble_eq_true rfl) ?_
  intro p e s m below meth c D dA H0 mc ms ls cx hnm e1 e2 hS hl
  have hth := jTh.mk hS hth
  exact wX7_judged_0 cx e1 e2 a0 hth _ _ _ _ _ _ _ hf hS hl
def fX7_later_46 (N : Nat) (a0 : Nat) (v0 : Int32) : jM Int32 := jR v0
def fX7_later_45 (N : Nat) (a0 : Nat) : jM Int32 := fX7_later_46 N a0 (-1)
def fX7_later (N : Nat) (a0 : Nat) (x1 : Int32) (x2 : Int32) (x3 : Int32) : jM Int32 := jB (jpI [7] 0 (some a0) 0) fun _ => jB (fX7_isLine a0 x1 x2) fun y1 => if y1 = 0 then (fX7_later_45 N a0) else (jB (fX7_within x3 0 40) fun y2 => if y2 = 0 then (fX7_later_45 N a0) else (jB (jgR [7] 48 (some a0)) fun y3 => jB (jaI 0 y3 0) fun y4 => jB (fX7_dampOf a0 (y4 + x3)) fun y5 => jB (fX7_readBy N a0 x1 x2 y5) fun y6 => fX7_later_46 N a0 y6))
theorem wX7_later_46 {N : Nat} {r : Int32} (cx : jCx p s m args meth c cX7_later "WornSkinModel" 4 (Option.some Jvm.ClassFile.FieldType.int) D dA H0 hs.2.2.2.2) (e1 : h'.2.2.1 = hs.2.2.1 + mc) (e2 : h'.2.2.2.1 = hs.2.2.2.1 + ms) (a0 : Nat) (hth : jTh hs a0 7) : ∀ (v0 : Int32), ∀ (h : jH) (H : Heap) (locs : List Loc) (cells slots : Nat) (ls : Array Slot), (fX7_later_46 N a0 v0).1 h = some (r, h') → jS D dA H0 hs h H locs cells slots → lv_has ls 4 [(0, .ref a0)] → W p l e { frames := 5, cells := mc, slots := ms, locals := 120 } s m args below meth c H locs cells slots (jQ D dA H0 below s (.returned (some (.int r))) h' mc ms) (F0 m 46 ls [.int v0]) := by
  have hx := cx.1
  have hb := cx.2.1
  have hown := cx.2.2.2.1
  have hts := cx.2.2.2.2.1
  have hm : h'.2.2.1 ≤ hs.2.2.1 + mc ∧ h'.2.2.2.1 ≤ hs.2.2.2.1 + ms := ⟨Nat.le_of_eq e1, Nat.le_of_eq e2⟩
  intro v0 h H locs cells slots ls hf hS hl
  unfold fX7_later_46 at hf
  exact j_iret (pc := 46) cx hS hf e1 e2 dX7_later_46
theorem wX7_later_45 {N : Nat} {r : Int32} (cx : jCx p s m args meth c cX7_later "WornSkinModel" 4 (Option.some Jvm.ClassFile.FieldType.int) D dA H0 hs.2.2.2.2) (e1 : h'.2.2.1 = hs.2.2.1 + mc) (e2 : h'.2.2.2.1 = hs.2.2.2.1 + ms) (a0 : Nat) (hth : jTh hs a0 7) : ∀ (h : jH) (H : Heap) (locs : List Loc) (cells slots : Nat) (ls : Array Slot), (fX7_later_45 N a0).1 h = some (r, h') → jS D dA H0 hs h H locs cells slots → lv_has ls 4 [(0, .ref a0)] → W p l e { frames := 5, cells := mc, slots := ms, locals := 120 } s m args below meth c H locs cells slots (jQ D dA H0 below s (.returned (some (.int r))) h' mc ms) (F0 m 45 ls []) := by
  have hx := cx.1
  have hb := cx.2.1
  have hown := cx.2.2.2.1
  have hts := cx.2.2.2.2.1
  have hm : h'.2.2.1 ≤ hs.2.2.1 + mc ∧ h'.2.2.2.1 ≤ hs.2.2.2.1 + ms := ⟨Nat.le_of_eq e1, Nat.le_of_eq e2⟩
  intro h H locs cells slots ls hf hS hl
  unfold fX7_later_45 at hf
  refine lv_iconst (pc := 45) (v := (-1)) hx hb dX7_later_45 rfl ?_
  exact wX7_later_46 cx e1 e2 a0 hth _ _ _ _ _ _ _ hf hS hl
theorem wX7_later_0 {N : Nat} {r : Int32} (cx : jCx p s m args meth c cX7_later "WornSkinModel" 4 (Option.some Jvm.ClassFile.FieldType.int) D dA H0 hs.2.2.2.2) (e1 : h'.2.2.1 = hs.2.2.1 + mc) (e2 : h'.2.2.2.1 = hs.2.2.2.1 + ms) (a0 : Nat) (hth : jTh hs a0 7) : ∀ (x1 : Int32) (x2 : Int32) (x3 : Int32), ∀ (h : jH) (H : Heap) (locs : List Loc) (cells slots : Nat) (ls : Array Slot), (fX7_later N a0 x1 x2 x3).1 h = some (r, h') → jS D dA H0 hs h H locs cells slots → lv_has ls 4 [(0, .ref a0), (1, .int x1), (2, .int x2), (3, .int x3)] → W p l e { frames := 5, cells := mc, slots := ms, locals := 120 } s m args below meth c H locs cells slots (jQ D dA H0 below s (.returned (some (.int r))) h' mc ms) (F0 m 0 ls []) := by
  have hx := cx.1
  have hb := cx.2.1
  have hown := cx.2.2.2.1
  have hts := cx.2.2.2.2.1
  have hm : h'.2.2.1 ≤ hs.2.2.1 + mc ∧ h'.2.2.2.1 ≤ hs.2.2.2.1 + ms := ⟨Nat.le_of_eq e1, Nat.le_of_eq e2⟩
  intro x1 x2 x3 h H locs cells slots ls hf hS hl
  unfold fX7_later at hf
  refine lv_aload_n (pc := 0) hx hb dX7_later_0 rfl (lv_at hl 0 rfl) ?_
  refine lv_iconst (pc := 1) (v := 0) hx hb dX7_later_1 rfl ?_
  refine j_pI (pc := 2) cx hS hf fp_WornSkinModel_thrown (Or.inl rfl) q1684 dX7_later_2 (fun h H locs hf hS => ?_)
  refine lv_aload_n (pc := 5) hx hb dX7_later_5 rfl (lv_at hl 0 rfl) ?_
  refine lv_iload_n (pc := 6) hx hb dX7_later_6 rfl (lv_at hl 1 rfl) ?_
  refine lv_iload_n (pc := 7) hx hb dX7_later_7 rfl (lv_at hl 2 rfl) ?_
  obtain ⟨y1, h1, e9, hf⟩ := jB_some hf
  refine j_callV (pc := 8) (st1 := [.int y1]) (As := [.int x1, .int x2]) (rest := []) cx hS rfl hl.1 hm (metX7_isLine l _ _ _ _ _ _ (hth.at hS) e9) (jle hf) (hth.at hS) rfl (lw_V q2094 q2096 qs93 q123 q2097) pdX7_isLine rfl rfl (Nat.le_of_ble_eq_true rfl) ⟨Nat.le_of_ble_eq_true rfl, Nat.le_of_ble_eq_true rfl⟩ dX7_later_8 rfl (fun H locs cells slots hS => ?_)
  refine lv_if_eq (pc := 11) (tgt := 45) hx hb dX7_later_11 (by decide) (fun hc => ?_) (fun hc => ?_)
  · have hf := jI_t hf hc
    exact wX7_later_45 cx e1 e2 a0 hth _ _ _ _ _ _ hf hS (lv_sub hl [0] rfl)
  · have hf := jI_f hf hc
    refine lv_iload_n (pc := 14) hx hb dX7_later_14 rfl (lv_at hl 3 rfl) ?_
    refine lv_iconst (pc := 15) (v := 0) hx hb dX7_later_15 rfl ?_
    refine lv_bipush (pc := 16) (v := 40) hx hb dX7_later_16 rfl ?_
    obtain ⟨y2, h1, e9, hf⟩ := jB_some hf
    refine j_callS (pc := 18) (st1 := [.int y2]) (As := [.int x3, .int 0, .int 40]) (rest := []) cx hS rfl hl.1 hm (metX7_within l _ _ _ _ _ _ e9) (jle hf) (lw_S q1950 q1951 q123 q1952) pdX7_within rfl rfl (Nat.le_of_ble_eq_true rfl) ⟨Nat.le_of_ble_eq_true rfl, Nat.le_of_ble_eq_true rfl⟩ dX7_later_18 rfl (fun H locs cells slots hS => ?_)
    refine lv_if_eq (pc := 21) (tgt := 45) hx hb dX7_later_21 (by decide) (fun hc => ?_) (fun hc => ?_)
    · have hf := jI_t hf hc
      exact wX7_later_45 cx e1 e2 a0 hth _ _ _ _ _ _ hf hS (lv_sub hl [0] rfl)
    · have hf := jI_f hf hc
      refine lv_aload_n (pc := 24) hx hb dX7_later_24 rfl (lv_at hl 0 rfl) ?_
      refine lv_iload_n (pc := 25) hx hb dX7_later_25 rfl (lv_at hl 1 rfl) ?_
      refine lv_iload_n (pc := 26) hx hb dX7_later_26 rfl (lv_at hl 2 rfl) ?_
      refine lv_aload_n (pc := 27) hx hb dX7_later_27 rfl (lv_at hl 0 rfl) ?_
      refine lv_aload_n (pc := 28) hx hb dX7_later_28 rfl (lv_at hl 0 rfl) ?_
      refine j_gR (pc := 29) cx hS hf fd_WornSkinModel_s q1732 dX7_later_29 (fun y3 hf => ?_)
      refine lv_iconst (pc := 32) (v := 0) hx hb dX7_later_32 rfl ?_
      refine j_aI (pc := 33) cx hS hf rfl dX7_later_33 (fun y4 hf => ?_)
      refine lv_iload_n (pc := 34) hx hb dX7_later_34 rfl (lv_at hl 3 rfl) ?_
      refine lv_iadd (pc := 35) hx hb dX7_later_35 ?_
      obtain ⟨y5, h1, e9, hf⟩ := jB_some hf
      refine j_callV (pc := 36) (st1 := [.int y5, .int x2, .int x1, .ref a0]) (As := [.int (y4 + x3)]) (rest := [.int x2, .int x1, .ref a0]) cx hS rfl hl.1 hm (metX7_dampOf l _ _ _ _ _ (hth.at hS) e9) (jle hf) (hth.at hS) rfl (lw_V q2039 q2041 qs82 q123 q2042) pdX7_dampOf rfl rfl (Nat.le_of_ble_eq_true rfl) ⟨Nat.le_of_ble_eq_true rfl, Nat.le_of_ble_eq_true rfl⟩ dX7_later_36 rfl (fun H locs cells slots hS => ?_)
      obtain ⟨y6, h1, e9, hf⟩ := jB_some hf
      refine j_callV (pc := 39) (st1 := [.int y6]) (As := [.int x1, .int x2, .int y5]) (rest := []) cx hS rfl hl.1 hm (metX7_readBy l _ _ _ _ _ _ _ _ (hth.at hS) e9) (jle hf) (hth.at hS) rfl (lw_V q2043 q2045 qs83 q123 q2046) pdX7_readBy rfl rfl (Nat.le_of_ble_eq_true rfl) ⟨Nat.le_of_ble_eq_true rfl, Nat.le_of_ble_eq_true rfl⟩ dX7_later_39 rfl (fun H locs cells slots hS => ?_)
      refine lv_goto (pc := 42) (tgt := 46) hx hb dX7_later_42 (by decide) ?_
      exact wX7_later_46 cx e1 e2 a0 hth _ _ _ _ _ _ _ hf hS (lv_sub hl [0] rfl)
theorem metX7_later (l : Launch) (N : Nat) (a0 : Nat) (x1 : Int32) (x2 : Int32) (x3 : Int32) (h h' : jH) (r : Int32) (hth : jcd h a0 = some 7) (hf : (fX7_later N a0 x1 x2 x3).1 h = some (r, h')) : jMet l yX7_later (ws_ yX7_later cX7_later 4 (Option.some Jvm.ClassFile.FieldType.int)) (5) (120) [.ref a0, .int x1, .int x2, .int x3] h h' (.returned (some (.int r))) := by
  refine jStart rfl (jle hf) (Nat.le_of_ble_eq_true rfl) ?_
  intro p e s m below meth c D dA H0 mc ms ls cx hnm e1 e2 hS hl
  have hth := jTh.mk hS hth
  exact wX7_later_0 cx e1 e2 a0 hth _ _ _ _ _ _ _ _ _ hf hS hl
def fX7_when_55 (N : Nat) (a0 : Nat) : jM Int32 := jR (-1)
def fX7_when_47 (N : Nat) (a0 : Nat) (x2 : Int32) : jM Int32 := jR x2
def fX7_when_17 (N : Nat) (a0 : Nat) : Nat → Int32 → Int32 → jM Int32
  | 0, _, _ => jE
  | n + 1, x1, x2 => if 40 < x2 then (fX7_when_55 N a0) else (jB (jgR [7] 48 (some a0)) fun y1 => jB (jaI 0 y1 0) fun y2 => jB (fX7_dampOf a0 (y2 + x2)) fun y3 => jB (fX7_wholeBy N a0 y3) fun y4 => if ((y4 >>> (x1 &&& 31)) &&& 1) = 1 then (fX7_when_47 N a0 x2) else (fX7_when_17 N a0 n x1 (x2 + 1)))
def fX7_when (N : Nat) (a0 : Nat) (x1 : Int32) : jM Int32 := jB (jpI [7] 0 (some a0) 0) fun _ => jB (fX7_isText a0 x1) fun y1 => if y1 = 0 then (jR (-1)) else (fX7_when_17 N a0 N x1 0)
theorem wX7_when_55 {N : Nat} {r : Int32} (cx : jCx p s m args meth c cX7_when "WornSkinModel" 3 (Option.some Jvm.ClassFile.FieldType.int) D dA H0 hs.2.2.2.2) (e1 : h'.2.2.1 = hs.2.2.1 + mc) (e2 : h'.2.2.2.1 = hs.2.2.2.1 + ms) (a0 : Nat) (hth : jTh hs a0 7) : ∀ (h : jH) (H : Heap) (locs : List Loc) (cells slots : Nat) (ls : Array Slot), (fX7_when_55 N a0).1 h = some (r, h') → jS D dA H0 hs h H locs cells slots → lv_has ls 3 [(0, .ref a0)] → W p l e { frames := 6, cells := mc, slots := ms, locals := 147 } s m args below meth c H locs cells slots (jQ D dA H0 below s (.returned (some (.int r))) h' mc ms) (F0 m 55 ls []) := by
  have hx := cx.1
  have hb := cx.2.1
  have hown := cx.2.2.2.1
  have hts := cx.2.2.2.2.1
  have hm : h'.2.2.1 ≤ hs.2.2.1 + mc ∧ h'.2.2.2.1 ≤ hs.2.2.2.1 + ms := ⟨Nat.le_of_eq e1, Nat.le_of_eq e2⟩
  intro h H locs cells slots ls hf hS hl
  unfold fX7_when_55 at hf
  refine lv_iconst (pc := 55) (v := (-1)) hx hb dX7_when_55 rfl ?_
  exact j_iret (pc := 56) cx hS hf e1 e2 dX7_when_56
theorem wX7_when_47 {N : Nat} {r : Int32} (cx : jCx p s m args meth c cX7_when "WornSkinModel" 3 (Option.some Jvm.ClassFile.FieldType.int) D dA H0 hs.2.2.2.2) (e1 : h'.2.2.1 = hs.2.2.1 + mc) (e2 : h'.2.2.2.1 = hs.2.2.2.1 + ms) (a0 : Nat) (hth : jTh hs a0 7) : ∀ (x2 : Int32), ∀ (h : jH) (H : Heap) (locs : List Loc) (cells slots : Nat) (ls : Array Slot), (fX7_when_47 N a0 x2).1 h = some (r, h') → jS D dA H0 hs h H locs cells slots → lv_has ls 3 [(0, .ref a0), (2, .int x2)] → W p l e { frames := 6, cells := mc, slots := ms, locals := 147 } s m args below meth c H locs cells slots (jQ D dA H0 below s (.returned (some (.int r))) h' mc ms) (F0 m 47 ls []) := by
  have hx := cx.1
  have hb := cx.2.1
  have hown := cx.2.2.2.1
  have hts := cx.2.2.2.2.1
  have hm : h'.2.2.1 ≤ hs.2.2.1 + mc ∧ h'.2.2.2.1 ≤ hs.2.2.2.1 + ms := ⟨Nat.le_of_eq e1, Nat.le_of_eq e2⟩
  intro x2 h H locs cells slots ls hf hS hl
  unfold fX7_when_47 at hf
  refine lv_iload_n (pc := 47) hx hb dX7_when_47 rfl (lv_at hl 1 rfl) ?_
  exact j_iret (pc := 48) cx hS hf e1 e2 dX7_when_48
theorem wX7_when_17 {N : Nat} {r : Int32} (cx : jCx p s m args meth c cX7_when "WornSkinModel" 3 (Option.some Jvm.ClassFile.FieldType.int) D dA H0 hs.2.2.2.2) (e1 : h'.2.2.1 = hs.2.2.1 + mc) (e2 : h'.2.2.2.1 = hs.2.2.2.1 + ms) (a0 : Nat) (hth : jTh hs a0 7) : ∀ (n : Nat) (x1 : Int32) (x2 : Int32), ∀ (h : jH) (H : Heap) (locs : List Loc) (cells slots : Nat) (ls : Array Slot), (fX7_when_17 N a0 n x1 x2).1 h = some (r, h') → jS D dA H0 hs h H locs cells slots → lv_has ls 3 [(0, .ref a0), (1, .int x1), (2, .int x2)] → W p l e { frames := 6, cells := mc, slots := ms, locals := 147 } s m args below meth c H locs cells slots (jQ D dA H0 below s (.returned (some (.int r))) h' mc ms) (F0 m 17 ls []) := by
  have hx := cx.1
  have hb := cx.2.1
  have hown := cx.2.2.2.1
  have hts := cx.2.2.2.2.1
  have hm : h'.2.2.1 ≤ hs.2.2.1 + mc ∧ h'.2.2.2.1 ≤ hs.2.2.2.1 + ms := ⟨Nat.le_of_eq e1, Nat.le_of_eq e2⟩
  intro n
  induction n with
  | zero =>
    intro x1 x2 h H locs cells slots ls hf hS hl
    exact jE_f hf
  | succ n ih =>
    intro x1 x2 h H locs cells slots ls hf hS hl
    unfold fX7_when_17 at hf
    refine lv_iload_n (pc := 17) hx hb dX7_when_17 rfl (lv_at hl 2 rfl) ?_
    refine lv_bipush (pc := 18) (v := 40) hx hb dX7_when_18 rfl ?_
    refine lv_icmp_gt (pc := 20) (tgt := 55) hx hb dX7_when_20 (by decide) (fun hc => ?_) (fun hc => ?_)
    · have hf := jI_t hf hc
      exact wX7_when_55 cx e1 e2 a0 hth _ _ _ _ _ _ hf hS (lv_sub hl [0] rfl)
    · have hf := jI_f hf hc
      refine lv_aload_n (pc := 23) hx hb dX7_when_23 rfl (lv_at hl 0 rfl) ?_
      refine lv_aload_n (pc := 24) hx hb dX7_when_24 rfl (lv_at hl 0 rfl) ?_
      refine lv_aload_n (pc := 25) hx hb dX7_when_25 rfl (lv_at hl 0 rfl) ?_
      refine j_gR (pc := 26) cx hS hf fd_WornSkinModel_s q1732 dX7_when_26 (fun y1 hf => ?_)
      refine lv_iconst (pc := 29) (v := 0) hx hb dX7_when_29 rfl ?_
      refine j_aI (pc := 30) cx hS hf rfl dX7_when_30 (fun y2 hf => ?_)
      refine lv_iload_n (pc := 31) hx hb dX7_when_31 rfl (lv_at hl 2 rfl) ?_
      refine lv_iadd (pc := 32) hx hb dX7_when_32 ?_
      obtain ⟨y3, h1, e9, hf⟩ := jB_some hf
      refine j_callV (pc := 33) (st1 := [.int y3, .ref a0]) (As := [.int (y2 + x2)]) (rest := [.ref a0]) cx hS rfl hl.1 hm (metX7_dampOf l _ _ _ _ _ (hth.at hS) e9) (jle hf) (hth.at hS) rfl (lw_V q2039 q2041 qs82 q123 q2042) pdX7_dampOf rfl rfl (Nat.le_of_ble_eq_true rfl) ⟨Nat.le_of_ble_eq_true rfl, Nat.le_of_ble_eq_true rfl⟩ dX7_when_33 rfl (fun H locs cells slots hS => ?_)
      obtain ⟨y4, h1, e9, hf⟩ := jB_some hf
      refine j_callV (pc := 36) (st1 := [.int y4]) (As := [.int y3]) (rest := []) cx hS rfl hl.1 hm (metX7_wholeBy l _ _ _ _ _ _ (hth.at hS) e9) (jle hf) (hth.at hS) rfl (lw_V q2079 q2081 qs91 q123 q2082) pdX7_wholeBy rfl rfl (Nat.le_of_ble_eq_true rfl) ⟨Nat.le_of_ble_eq_true rfl, Nat.le_of_ble_eq_true rfl⟩ dX7_when_36 rfl (fun H locs cells slots hS => ?_)
      refine lv_iload_n (pc := 39) hx hb dX7_when_39 rfl (lv_at hl 1 rfl) ?_
      refine lv_ishr (pc := 40) hx hb dX7_when_40 ?_
      refine lv_iconst (pc := 41) (v := 1) hx hb dX7_when_41 rfl ?_
      refine lv_iand (pc := 42) hx hb dX7_when_42 ?_
      refine lv_iconst (pc := 43) (v := 1) hx hb dX7_when_43 rfl ?_
      refine lv_icmp_ne (pc := 44) (tgt := 49) hx hb dX7_when_44 (by decide) (fun hc => ?_) (fun hc => ?_)
      · have hf := jI_f hf hc
        refine lv_iinc (pc := 49) (v := (x2 + 1)) (lv' := [(2, .int (x2 + 1)), (0, .ref a0), (1, .int x1)]) hx hb dX7_when_49 hl (k := 2) rfl rfl (Nat.le_of_ble_eq_true rfl) rfl (fun ls hl => ?_)
        refine lv_goto (pc := 52) (tgt := 17) hx hb dX7_when_52 (by decide) ?_
        exact ih _ _ _ _ _ _ _ _ hf hS (lv_sub hl [1, 2, 0] rfl)
      · have hf := jI_t hf hc
        exact wX7_when_47 cx e1 e2 a0 hth _ _ _ _ _ _ _ hf hS (lv_sub hl [0, 2] rfl)
theorem wX7_when_0 {N : Nat} {r : Int32} (cx : jCx p s m args meth c cX7_when "WornSkinModel" 3 (Option.some Jvm.ClassFile.FieldType.int) D dA H0 hs.2.2.2.2) (e1 : h'.2.2.1 = hs.2.2.1 + mc) (e2 : h'.2.2.2.1 = hs.2.2.2.1 + ms) (a0 : Nat) (hth : jTh hs a0 7) : ∀ (x1 : Int32), ∀ (h : jH) (H : Heap) (locs : List Loc) (cells slots : Nat) (ls : Array Slot), (fX7_when N a0 x1).1 h = some (r, h') → jS D dA H0 hs h H locs cells slots → lv_has ls 3 [(0, .ref a0), (1, .int x1)] → W p l e { frames := 6, cells := mc, slots := ms, locals := 147 } s m args below meth c H locs cells slots (jQ D dA H0 below s (.returned (some (.int r))) h' mc ms) (F0 m 0 ls []) := by
  have hx := cx.1
  have hb := cx.2.1
  have hown := cx.2.2.2.1
  have hts := cx.2.2.2.2.1
  have hm : h'.2.2.1 ≤ hs.2.2.1 + mc ∧ h'.2.2.2.1 ≤ hs.2.2.2.1 + ms := ⟨Nat.le_of_eq e1, Nat.le_of_eq e2⟩
  intro x1 h H locs cells slots ls hf hS hl
  unfold fX7_when at hf
  refine lv_aload_n (pc := 0) hx hb dX7_when_0 rfl (lv_at hl 0 rfl) ?_
  refine lv_iconst (pc := 1) (v := 0) hx hb dX7_when_1 rfl ?_
  refine j_pI (pc := 2) cx hS hf fp_WornSkinModel_thrown (Or.inl rfl) q1684 dX7_when_2 (fun h H locs hf hS => ?_)
  refine lv_aload_n (pc := 5) hx hb dX7_when_5 rfl (lv_at hl 0 rfl) ?_
  refine lv_iload_n (pc := 6) hx hb dX7_when_6 rfl (lv_at hl 1 rfl) ?_
  obtain ⟨y1, h1, e9, hf⟩ := jB_some hf
  refine j_callV (pc := 7) (st1 := [.int y1]) (As := [.int x1]) (rest := []) cx hS rfl hl.1 hm (metX7_isText l _ _ _ _ _ (hth.at hS) e9) (jle hf) (hth.at hS) rfl (lw_V q2071 q2073 qs89 q123 q2074) pdX7_isText rfl rfl (Nat.le_of_ble_eq_true rfl) ⟨Nat.le_of_ble_eq_true rfl, Nat.le_of_ble_eq_true rfl⟩ dX7_when_7 rfl (fun H locs cells slots hS => ?_)
  refine lv_if_ne (pc := 10) (tgt := 15) hx hb dX7_when_10 (by decide) (fun hc => ?_) (fun hc => ?_)
  · have hf := jI_f hf hc
    refine lv_iconst (pc := 15) (v := 0) hx hb dX7_when_15 rfl ?_
    refine lv_istore_n (pc := 16) (i := 2) (lv' := [(2, .int 0), (0, .ref a0), (1, .int x1)]) hx hb dX7_when_16 rfl hl (Nat.le_of_ble_eq_true rfl) rfl (fun ls hl => ?_)
    exact wX7_when_17 cx e1 e2 a0 hth N _ _ _ _ _ _ _ _ hf hS (lv_sub hl [1, 2, 0] rfl)
  · have hf := jI_t hf hc
    refine lv_iconst (pc := 13) (v := (-1)) hx hb dX7_when_13 rfl ?_
    exact j_iret (pc := 14) cx hS hf e1 e2 dX7_when_14
theorem metX7_when (l : Launch) (N : Nat) (a0 : Nat) (x1 : Int32) (h h' : jH) (r : Int32) (hth : jcd h a0 = some 7) (hf : (fX7_when N a0 x1).1 h = some (r, h')) : jMet l yX7_when (ws_ yX7_when cX7_when 3 (Option.some Jvm.ClassFile.FieldType.int)) (6) (147) [.ref a0, .int x1] h h' (.returned (some (.int r))) := by
  refine jStart rfl (jle hf) (Nat.le_of_ble_eq_true rfl) ?_
  intro p e s m below meth c D dA H0 mc ms ls cx hnm e1 e2 hS hl
  have hth := jTh.mk hS hth
  exact wX7_when_0 cx e1 e2 a0 hth _ _ _ _ _ _ _ hf hS hl
def fX7_need_44 (N : Nat) (a0 : Nat) : jM Int32 := jR (-1)
def fX7_need_36 (N : Nat) (a0 : Nat) (x2 : Int32) : jM Int32 := jR x2
def fX7_need_17 (N : Nat) (a0 : Nat) : Nat → Int32 → Int32 → jM Int32
  | 0, _, _ => jE
  | n + 1, x1, x2 => if 10 ≤ x2 then (fX7_need_44 N a0) else (jB (fX7_wholeBy N a0 x2) fun y1 => if ((y1 >>> (x1 &&& 31)) &&& 1) = 1 then (fX7_need_36 N a0 x2) else (fX7_need_17 N a0 n x1 (x2 + 1)))
def fX7_need (N : Nat) (a0 : Nat) (x1 : Int32) : jM Int32 := jB (jpI [7] 0 (some a0) 0) fun _ => jB (fX7_isText a0 x1) fun y1 => if y1 = 0 then (jR (-1)) else (fX7_need_17 N a0 N x1 0)
theorem wX7_need_44 {N : Nat} {r : Int32} (cx : jCx p s m args meth c cX7_need "WornSkinModel" 3 (Option.some Jvm.ClassFile.FieldType.int) D dA H0 hs.2.2.2.2) (e1 : h'.2.2.1 = hs.2.2.1 + mc) (e2 : h'.2.2.2.1 = hs.2.2.2.1 + ms) (a0 : Nat) (hth : jTh hs a0 7) : ∀ (h : jH) (H : Heap) (locs : List Loc) (cells slots : Nat) (ls : Array Slot), (fX7_need_44 N a0).1 h = some (r, h') → jS D dA H0 hs h H locs cells slots → lv_has ls 3 [(0, .ref a0)] → W p l e { frames := 6, cells := mc, slots := ms, locals := 147 } s m args below meth c H locs cells slots (jQ D dA H0 below s (.returned (some (.int r))) h' mc ms) (F0 m 44 ls []) := by
  have hx := cx.1
  have hb := cx.2.1
  have hown := cx.2.2.2.1
  have hts := cx.2.2.2.2.1
  have hm : h'.2.2.1 ≤ hs.2.2.1 + mc ∧ h'.2.2.2.1 ≤ hs.2.2.2.1 + ms := ⟨Nat.le_of_eq e1, Nat.le_of_eq e2⟩
  intro h H locs cells slots ls hf hS hl
  unfold fX7_need_44 at hf
  refine lv_iconst (pc := 44) (v := (-1)) hx hb dX7_need_44 rfl ?_
  exact j_iret (pc := 45) cx hS hf e1 e2 dX7_need_45
theorem wX7_need_36 {N : Nat} {r : Int32} (cx : jCx p s m args meth c cX7_need "WornSkinModel" 3 (Option.some Jvm.ClassFile.FieldType.int) D dA H0 hs.2.2.2.2) (e1 : h'.2.2.1 = hs.2.2.1 + mc) (e2 : h'.2.2.2.1 = hs.2.2.2.1 + ms) (a0 : Nat) (hth : jTh hs a0 7) : ∀ (x2 : Int32), ∀ (h : jH) (H : Heap) (locs : List Loc) (cells slots : Nat) (ls : Array Slot), (fX7_need_36 N a0 x2).1 h = some (r, h') → jS D dA H0 hs h H locs cells slots → lv_has ls 3 [(0, .ref a0), (2, .int x2)] → W p l e { frames := 6, cells := mc, slots := ms, locals := 147 } s m args below meth c H locs cells slots (jQ D dA H0 below s (.returned (some (.int r))) h' mc ms) (F0 m 36 ls []) := by
  have hx := cx.1
  have hb := cx.2.1
  have hown := cx.2.2.2.1
  have hts := cx.2.2.2.2.1
  have hm : h'.2.2.1 ≤ hs.2.2.1 + mc ∧ h'.2.2.2.1 ≤ hs.2.2.2.1 + ms := ⟨Nat.le_of_eq e1, Nat.le_of_eq e2⟩
  intro x2 h H locs cells slots ls hf hS hl
  unfold fX7_need_36 at hf
  refine lv_iload_n (pc := 36) hx hb dX7_need_36 rfl (lv_at hl 1 rfl) ?_
  exact j_iret (pc := 37) cx hS hf e1 e2 dX7_need_37
theorem wX7_need_17 {N : Nat} {r : Int32} (cx : jCx p s m args meth c cX7_need "WornSkinModel" 3 (Option.some Jvm.ClassFile.FieldType.int) D dA H0 hs.2.2.2.2) (e1 : h'.2.2.1 = hs.2.2.1 + mc) (e2 : h'.2.2.2.1 = hs.2.2.2.1 + ms) (a0 : Nat) (hth : jTh hs a0 7) : ∀ (n : Nat) (x1 : Int32) (x2 : Int32), ∀ (h : jH) (H : Heap) (locs : List Loc) (cells slots : Nat) (ls : Array Slot), (fX7_need_17 N a0 n x1 x2).1 h = some (r, h') → jS D dA H0 hs h H locs cells slots → lv_has ls 3 [(0, .ref a0), (1, .int x1), (2, .int x2)] → W p l e { frames := 6, cells := mc, slots := ms, locals := 147 } s m args below meth c H locs cells slots (jQ D dA H0 below s (.returned (some (.int r))) h' mc ms) (F0 m 17 ls []) := by
  have hx := cx.1
  have hb := cx.2.1
  have hown := cx.2.2.2.1
  have hts := cx.2.2.2.2.1
  have hm : h'.2.2.1 ≤ hs.2.2.1 + mc ∧ h'.2.2.2.1 ≤ hs.2.2.2.1 + ms := ⟨Nat.le_of_eq e1, Nat.le_of_eq e2⟩
  intro n
  induction n with
  | zero =>
    intro x1 x2 h H locs cells slots ls hf hS hl
    exact jE_f hf
  | succ n ih =>
    intro x1 x2 h H locs cells slots ls hf hS hl
    unfold fX7_need_17 at hf
    refine lv_iload_n (pc := 17) hx hb dX7_need_17 rfl (lv_at hl 2 rfl) ?_
    refine lv_bipush (pc := 18) (v := 10) hx hb dX7_need_18 rfl ?_
    refine lv_icmp_ge (pc := 20) (tgt := 44) hx hb dX7_need_20 (by decide) (fun hc => ?_) (fun hc => ?_)
    · have hf := jI_t hf hc
      exact wX7_need_44 cx e1 e2 a0 hth _ _ _ _ _ _ hf hS (lv_sub hl [0] rfl)
    · have hf := jI_f hf hc
      refine lv_aload_n (pc := 23) hx hb dX7_need_23 rfl (lv_at hl 0 rfl) ?_
      refine lv_iload_n (pc := 24) hx hb dX7_need_24 rfl (lv_at hl 2 rfl) ?_
      obtain ⟨y1, h1, e9, hf⟩ := jB_some hf
      refine j_callV (pc := 25) (st1 := [.int y1]) (As := [.int x2]) (rest := []) cx hS rfl hl.1 hm (metX7_wholeBy l _ _ _ _ _ _ (hth.at hS) e9) (jle hf) (hth.at hS) rfl (lw_V q2079 q2081 qs91 q123 q2082) pdX7_wholeBy rfl rfl (Nat.le_of_ble_eq_true rfl) ⟨Nat.le_of_ble_eq_true rfl, Nat.le_of_ble_eq_true rfl⟩ dX7_need_25 rfl (fun H locs cells slots hS => ?_)
      refine lv_iload_n (pc := 28) hx hb dX7_need_28 rfl (lv_at hl 1 rfl) ?_
      refine lv_ishr (pc := 29) hx hb dX7_need_29 ?_
      refine lv_iconst (pc := 30) (v := 1) hx hb dX7_need_30 rfl ?_
      refine lv_iand (pc := 31) hx hb dX7_need_31 ?_
      refine lv_iconst (pc := 32) (v := 1) hx hb dX7_need_32 rfl ?_
      refine lv_icmp_ne (pc := 33) (tgt := 38) hx hb dX7_need_33 (by decide) (fun hc => ?_) (fun hc => ?_)
      · have hf := jI_f hf hc
        refine lv_iinc (pc := 38) (v := (x2 + 1)) (lv' := [(2, .int (x2 + 1)), (0, .ref a0), (1, .int x1)]) hx hb dX7_need_38 hl (k := 2) rfl rfl (Nat.le_of_ble_eq_true rfl) rfl (fun ls hl => ?_)
        refine lv_goto (pc := 41) (tgt := 17) hx hb dX7_need_41 (by decide) ?_
        exact ih _ _ _ _ _ _ _ _ hf hS (lv_sub hl [1, 2, 0] rfl)
      · have hf := jI_t hf hc
        exact wX7_need_36 cx e1 e2 a0 hth _ _ _ _ _ _ _ hf hS (lv_sub hl [0, 2] rfl)
theorem wX7_need_0 {N : Nat} {r : Int32} (cx : jCx p s m args meth c cX7_need "WornSkinModel" 3 (Option.some Jvm.ClassFile.FieldType.int) D dA H0 hs.2.2.2.2) (e1 : h'.2.2.1 = hs.2.2.1 + mc) (e2 : h'.2.2.2.1 = hs.2.2.2.1 + ms) (a0 : Nat) (hth : jTh hs a0 7) : ∀ (x1 : Int32), ∀ (h : jH) (H : Heap) (locs : List Loc) (cells slots : Nat) (ls : Array Slot), (fX7_need N a0 x1).1 h = some (r, h') → jS D dA H0 hs h H locs cells slots → lv_has ls 3 [(0, .ref a0), (1, .int x1)] → W p l e { frames := 6, cells := mc, slots := ms, locals := 147 } s m args below meth c H locs cells slots (jQ D dA H0 below s (.returned (some (.int r))) h' mc ms) (F0 m 0 ls []) := by
  have hx := cx.1
  have hb := cx.2.1
  have hown := cx.2.2.2.1
  have hts := cx.2.2.2.2.1
  have hm : h'.2.2.1 ≤ hs.2.2.1 + mc ∧ h'.2.2.2.1 ≤ hs.2.2.2.1 + ms := ⟨Nat.le_of_eq e1, Nat.le_of_eq e2⟩
  intro x1 h H locs cells slots ls hf hS hl
  unfold fX7_need at hf
  refine lv_aload_n (pc := 0) hx hb dX7_need_0 rfl (lv_at hl 0 rfl) ?_
  refine lv_iconst (pc := 1) (v := 0) hx hb dX7_need_1 rfl ?_
  refine j_pI (pc := 2) cx hS hf fp_WornSkinModel_thrown (Or.inl rfl) q1684 dX7_need_2 (fun h H locs hf hS => ?_)
  refine lv_aload_n (pc := 5) hx hb dX7_need_5 rfl (lv_at hl 0 rfl) ?_
  refine lv_iload_n (pc := 6) hx hb dX7_need_6 rfl (lv_at hl 1 rfl) ?_
  obtain ⟨y1, h1, e9, hf⟩ := jB_some hf
  refine j_callV (pc := 7) (st1 := [.int y1]) (As := [.int x1]) (rest := []) cx hS rfl hl.1 hm (metX7_isText l _ _ _ _ _ (hth.at hS) e9) (jle hf) (hth.at hS) rfl (lw_V q2071 q2073 qs89 q123 q2074) pdX7_isText rfl rfl (Nat.le_of_ble_eq_true rfl) ⟨Nat.le_of_ble_eq_true rfl, Nat.le_of_ble_eq_true rfl⟩ dX7_need_7 rfl (fun H locs cells slots hS => ?_)
  refine lv_if_ne (pc := 10) (tgt := 15) hx hb dX7_need_10 (by decide) (fun hc => ?_) (fun hc => ?_)
  · have hf := jI_f hf hc
    refine lv_iconst (pc := 15) (v := 0) hx hb dX7_need_15 rfl ?_
    refine lv_istore_n (pc := 16) (i := 2) (lv' := [(2, .int 0), (0, .ref a0), (1, .int x1)]) hx hb dX7_need_16 rfl hl (Nat.le_of_ble_eq_true rfl) rfl (fun ls hl => ?_)
    exact wX7_need_17 cx e1 e2 a0 hth N _ _ _ _ _ _ _ _ hf hS (lv_sub hl [1, 2, 0] rfl)
  · have hf := jI_t hf hc
    refine lv_iconst (pc := 13) (v := (-1)) hx hb dX7_need_13 rfl ?_
    exact j_iret (pc := 14) cx hS hf e1 e2 dX7_need_14
theorem metX7_need (l : Launch) (N : Nat) (a0 : Nat) (x1 : Int32) (h h' : jH) (r : Int32) (hth : jcd h a0 = some 7) (hf : (fX7_need N a0 x1).1 h = some (r, h')) : jMet l yX7_need (ws_ yX7_need cX7_need 3 (Option.some Jvm.ClassFile.FieldType.int)) (6) (147) [.ref a0, .int x1] h h' (.returned (some (.int r))) := by
  refine jStart rfl (jle hf) (Nat.le_of_ble_eq_true rfl) ?_
  intro p e s m below meth c D dA H0 mc ms ls cx hnm e1 e2 hS hl
  have hth := jTh.mk hS hth
  exact wX7_need_0 cx e1 e2 a0 hth _ _ _ _ _ _ _ hf hS hl
def fX7_psalter_43 (N : Nat) (a0 : Nat) (x2 : Int32) : jM Int32 := jR x2
def fX7_psalter_19 (N : Nat) (a0 : Nat) : Nat → Int32 → Int32 → Int32 → jM Int32
  | 0, _, _, _ => jE
  | n + 1, x1, x2, x3 => if 10 ≤ x3 then (fX7_psalter_43 N a0 x2) else (jB (fX7_wholeBy N a0 x3) fun y1 => fX7_psalter_19 N a0 n x1 (x2 + ((y1 >>> (x1 &&& 31)) &&& 1)) (x3 + 1))
def fX7_psalter (N : Nat) (a0 : Nat) (x1 : Int32) : jM Int32 := jB (jpI [7] 0 (some a0) 0) fun _ => jB (fX7_isText a0 x1) fun y1 => if y1 = 0 then (jR (-1)) else (fX7_psalter_19 N a0 N x1 0 0)
theorem wX7_psalter_43 {N : Nat} {r : Int32} (cx : jCx p s m args meth c cX7_psalter "WornSkinModel" 4 (Option.some Jvm.ClassFile.FieldType.int) D dA H0 hs.2.2.2.2) (e1 : h'.2.2.1 = hs.2.2.1 + mc) (e2 : h'.2.2.2.1 = hs.2.2.2.1 + ms) (a0 : Nat) (hth : jTh hs a0 7) : ∀ (x2 : Int32), ∀ (h : jH) (H : Heap) (locs : List Loc) (cells slots : Nat) (ls : Array Slot), (fX7_psalter_43 N a0 x2).1 h = some (r, h') → jS D dA H0 hs h H locs cells slots → lv_has ls 4 [(0, .ref a0), (2, .int x2)] → W p l e { frames := 6, cells := mc, slots := ms, locals := 147 } s m args below meth c H locs cells slots (jQ D dA H0 below s (.returned (some (.int r))) h' mc ms) (F0 m 43 ls []) := by
  have hx := cx.1
  have hb := cx.2.1
  have hown := cx.2.2.2.1
  have hts := cx.2.2.2.2.1
  have hm : h'.2.2.1 ≤ hs.2.2.1 + mc ∧ h'.2.2.2.1 ≤ hs.2.2.2.1 + ms := ⟨Nat.le_of_eq e1, Nat.le_of_eq e2⟩
  intro x2 h H locs cells slots ls hf hS hl
  unfold fX7_psalter_43 at hf
  refine lv_iload_n (pc := 43) hx hb dX7_psalter_43 rfl (lv_at hl 1 rfl) ?_
  exact j_iret (pc := 44) cx hS hf e1 e2 dX7_psalter_44
theorem wX7_psalter_19 {N : Nat} {r : Int32} (cx : jCx p s m args meth c cX7_psalter "WornSkinModel" 4 (Option.some Jvm.ClassFile.FieldType.int) D dA H0 hs.2.2.2.2) (e1 : h'.2.2.1 = hs.2.2.1 + mc) (e2 : h'.2.2.2.1 = hs.2.2.2.1 + ms) (a0 : Nat) (hth : jTh hs a0 7) : ∀ (n : Nat) (x1 : Int32) (x2 : Int32) (x3 : Int32), ∀ (h : jH) (H : Heap) (locs : List Loc) (cells slots : Nat) (ls : Array Slot), (fX7_psalter_19 N a0 n x1 x2 x3).1 h = some (r, h') → jS D dA H0 hs h H locs cells slots → lv_has ls 4 [(0, .ref a0), (1, .int x1), (2, .int x2), (3, .int x3)] → W p l e { frames := 6, cells := mc, slots := ms, locals := 147 } s m args below meth c H locs cells slots (jQ D dA H0 below s (.returned (some (.int r))) h' mc ms) (F0 m 19 ls []) := by
  have hx := cx.1
  have hb := cx.2.1
  have hown := cx.2.2.2.1
  have hts := cx.2.2.2.2.1
  have hm : h'.2.2.1 ≤ hs.2.2.1 + mc ∧ h'.2.2.2.1 ≤ hs.2.2.2.1 + ms := ⟨Nat.le_of_eq e1, Nat.le_of_eq e2⟩
  intro n
  induction n with
  | zero =>
    intro x1 x2 x3 h H locs cells slots ls hf hS hl
    exact jE_f hf
  | succ n ih =>
    intro x1 x2 x3 h H locs cells slots ls hf hS hl
    unfold fX7_psalter_19 at hf
    refine lv_iload_n (pc := 19) hx hb dX7_psalter_19 rfl (lv_at hl 3 rfl) ?_
    refine lv_bipush (pc := 20) (v := 10) hx hb dX7_psalter_20 rfl ?_
    refine lv_icmp_ge (pc := 22) (tgt := 43) hx hb dX7_psalter_22 (by decide) (fun hc => ?_) (fun hc => ?_)
    · have hf := jI_t hf hc
      exact wX7_psalter_43 cx e1 e2 a0 hth _ _ _ _ _ _ _ hf hS (lv_sub hl [0, 2] rfl)
    · have hf := jI_f hf hc
      refine lv_iload_n (pc := 25) hx hb dX7_psalter_25 rfl (lv_at hl 2 rfl) ?_
      refine lv_aload_n (pc := 26) hx hb dX7_psalter_26 rfl (lv_at hl 0 rfl) ?_
      refine lv_iload_n (pc := 27) hx hb dX7_psalter_27 rfl (lv_at hl 3 rfl) ?_
      obtain ⟨y1, h1, e9, hf⟩ := jB_some hf
      refine j_callV (pc := 28) (st1 := [.int y1, .int x2]) (As := [.int x3]) (rest := [.int x2]) cx hS rfl hl.1 hm (metX7_wholeBy l _ _ _ _ _ _ (hth.at hS) e9) (jle hf) (hth.at hS) rfl (lw_V q2079 q2081 qs91 q123 q2082) pdX7_wholeBy rfl rfl (Nat.le_of_ble_eq_true rfl) ⟨Nat.le_of_ble_eq_true rfl, Nat.le_of_ble_eq_true rfl⟩ dX7_psalter_28 rfl (fun H locs cells slots hS => ?_)
      refine lv_iload_n (pc := 31) hx hb dX7_psalter_31 rfl (lv_at hl 1 rfl) ?_
      refine lv_ishr (pc := 32) hx hb dX7_psalter_32 ?_
      refine lv_iconst (pc := 33) (v := 1) hx hb dX7_psalter_33 rfl ?_
      refine lv_iand (pc := 34) hx hb dX7_psalter_34 ?_
      refine lv_iadd (pc := 35) hx hb dX7_psalter_35 ?_
      refine lv_istore_n (pc := 36) (i := 2) (lv' := [(2, .int (x2 + ((y1 >>> (x1 &&& 31)) &&& 1))), (0, .ref a0), (1, .int x1), (3, .int x3)]) hx hb dX7_psalter_36 rfl hl (Nat.le_of_ble_eq_true rfl) rfl (fun ls hl => ?_)
      refine lv_iinc (pc := 37) (v := (x3 + 1)) (lv' := [(3, .int (x3 + 1)), (2, .int (x2 + ((y1 >>> (x1 &&& 31)) &&& 1))), (0, .ref a0), (1, .int x1)]) hx hb dX7_psalter_37 hl (k := 3) rfl rfl (Nat.le_of_ble_eq_true rfl) rfl (fun ls hl => ?_)
      refine lv_goto (pc := 40) (tgt := 19) hx hb dX7_psalter_40 (by decide) ?_
      exact ih _ _ _ _ _ _ _ _ _ hf hS (lv_sub hl [2, 3, 1, 0] rfl)
theorem wX7_psalter_0 {N : Nat} {r : Int32} (cx : jCx p s m args meth c cX7_psalter "WornSkinModel" 4 (Option.some Jvm.ClassFile.FieldType.int) D dA H0 hs.2.2.2.2) (e1 : h'.2.2.1 = hs.2.2.1 + mc) (e2 : h'.2.2.2.1 = hs.2.2.2.1 + ms) (a0 : Nat) (hth : jTh hs a0 7) : ∀ (x1 : Int32), ∀ (h : jH) (H : Heap) (locs : List Loc) (cells slots : Nat) (ls : Array Slot), (fX7_psalter N a0 x1).1 h = some (r, h') → jS D dA H0 hs h H locs cells slots → lv_has ls 4 [(0, .ref a0), (1, .int x1)] → W p l e { frames := 6, cells := mc, slots := ms, locals := 147 } s m args below meth c H locs cells slots (jQ D dA H0 below s (.returned (some (.int r))) h' mc ms) (F0 m 0 ls []) := by
  have hx := cx.1
  have hb := cx.2.1
  have hown := cx.2.2.2.1
  have hts := cx.2.2.2.2.1
  have hm : h'.2.2.1 ≤ hs.2.2.1 + mc ∧ h'.2.2.2.1 ≤ hs.2.2.2.1 + ms := ⟨Nat.le_of_eq e1, Nat.le_of_eq e2⟩
  intro x1 h H locs cells slots ls hf hS hl
  unfold fX7_psalter at hf
  refine lv_aload_n (pc := 0) hx hb dX7_psalter_0 rfl (lv_at hl 0 rfl) ?_
  refine lv_iconst (pc := 1) (v := 0) hx hb dX7_psalter_1 rfl ?_
  refine j_pI (pc := 2) cx hS hf fp_WornSkinModel_thrown (Or.inl rfl) q1684 dX7_psalter_2 (fun h H locs hf hS => ?_)
  refine lv_aload_n (pc := 5) hx hb dX7_psalter_5 rfl (lv_at hl 0 rfl) ?_
  refine lv_iload_n (pc := 6) hx hb dX7_psalter_6 rfl (lv_at hl 1 rfl) ?_
  obtain ⟨y1, h1, e9, hf⟩ := jB_some hf
  refine j_callV (pc := 7) (st1 := [.int y1]) (As := [.int x1]) (rest := []) cx hS rfl hl.1 hm (metX7_isText l _ _ _ _ _ (hth.at hS) e9) (jle hf) (hth.at hS) rfl (lw_V q2071 q2073 qs89 q123 q2074) pdX7_isText rfl rfl (Nat.le_of_ble_eq_true rfl) ⟨Nat.le_of_ble_eq_true rfl, Nat.le_of_ble_eq_true rfl⟩ dX7_psalter_7 rfl (fun H locs cells slots hS => ?_)
  refine lv_if_ne (pc := 10) (tgt := 15) hx hb dX7_psalter_10 (by decide) (fun hc => ?_) (fun hc => ?_)
  · have hf := jI_f hf hc
    refine lv_iconst (pc := 15) (v := 0) hx hb dX7_psalter_15 rfl ?_
    refine lv_istore_n (pc := 16) (i := 2) (lv' := [(2, .int 0), (0, .ref a0), (1, .int x1)]) hx hb dX7_psalter_16 rfl hl (Nat.le_of_ble_eq_true rfl) rfl (fun ls hl => ?_)
    refine lv_iconst (pc := 17) (v := 0) hx hb dX7_psalter_17 rfl ?_
    refine lv_istore_n (pc := 18) (i := 3) (lv' := [(3, .int 0), (2, .int 0), (0, .ref a0), (1, .int x1)]) hx hb dX7_psalter_18 rfl hl (Nat.le_of_ble_eq_true rfl) rfl (fun ls hl => ?_)
    exact wX7_psalter_19 cx e1 e2 a0 hth N _ _ _ _ _ _ _ _ _ hf hS (lv_sub hl [2, 3, 1, 0] rfl)
  · have hf := jI_t hf hc
    refine lv_iconst (pc := 13) (v := (-1)) hx hb dX7_psalter_13 rfl ?_
    exact j_iret (pc := 14) cx hS hf e1 e2 dX7_psalter_14
theorem metX7_psalter (l : Launch) (N : Nat) (a0 : Nat) (x1 : Int32) (h h' : jH) (r : Int32) (hth : jcd h a0 = some 7) (hf : (fX7_psalter N a0 x1).1 h = some (r, h')) : jMet l yX7_psalter (ws_ yX7_psalter cX7_psalter 4 (Option.some Jvm.ClassFile.FieldType.int)) (6) (147) [.ref a0, .int x1] h h' (.returned (some (.int r))) := by
  refine jStart rfl (jle hf) (Nat.le_of_ble_eq_true rfl) ?_
  intro p e s m below meth c D dA H0 mc ms ls cx hnm e1 e2 hS hl
  have hth := jTh.mk hS hth
  exact wX7_psalter_0 cx e1 e2 a0 hth _ _ _ _ _ _ _ hf hS hl
def fX7_lost_134 (N : Nat) (a0 : Nat) (x1 : Int32) (x2 : Int32) : jM Int32 := jR (x1 &&& (x2 ^^^ (-1)))
def fX7_lost_128 (N : Nat) (k11 : Int32 → Int32 → Int32 → jM Int32) (a0 : Nat) (x1 : Int32) (x2 : Int32) (x3 : Int32) : jM Int32 := k11 x1 x2 (x3 + 1)
def fX7_lost_122 (N : Nat) (k24 : Int32 → Int32 → Int32 → Int32 → jM Int32) (a0 : Nat) (x1 : Int32) (x2 : Int32) (x3 : Int32) (x4 : Int32) : jM Int32 := k24 x1 x2 x3 (x4 + 1)
def fX7_lost_114 (N : Nat) (k82 : Int32 → Int32 → Int32 → Int32 → Int32 → jM Int32) (a0 : Nat) (x1 : Int32) (x3 : Int32) (x4 : Int32) (x5 : Int32) (v0 : Int32) (v1 : Int32) : jM Int32 := k82 x1 (v0 ||| v1) x3 x4 (x5 + 1)
def fX7_lost_82 (N : Nat) (k24 : Int32 → Int32 → Int32 → Int32 → jM Int32) (a0 : Nat) : Nat → Int32 → Int32 → Int32 → Int32 → Int32 → jM Int32
  | 0, _, _, _, _, _ => jE
  | n + 1, x1, x2, x3, x4, x5 => if 10 ≤ x5 then (fX7_lost_122 N k24 a0 x1 x2 x3 x4) else (jB (fX7_readBy N a0 x3 x4 x5) fun y1 => if 0 ≤ y1 then (fX7_lost_114 N (fX7_lost_82 N k24 a0 n) a0 x1 x3 x4 x5 x2 (1 <<< (y1 &&& 31))) else (fX7_lost_114 N (fX7_lost_82 N k24 a0 n) a0 x1 x3 x4 x5 x2 0))
def fX7_lost_79 (N : Nat) (k24 : Int32 → Int32 → Int32 → Int32 → jM Int32) (a0 : Nat) (x1 : Int32) (x2 : Int32) (x3 : Int32) (x4 : Int32) : jM Int32 := fX7_lost_82 N k24 a0 N x1 x2 x3 x4 0
def fX7_lost_52 (N : Nat) (k24 : Int32 → Int32 → Int32 → Int32 → jM Int32) (a0 : Nat) : Nat → Int32 → Int32 → Int32 → Int32 → Int32 → jM Int32
  | 0, _, _, _, _, _ => jE
  | n + 1, x1, x2, x3, x4, x5 => if x5 ≤ 0 then (fX7_lost_79 N k24 a0 x1 x2 x3 x4) else (jB (jnz 7) fun _ => jB (jnz 7) fun _ => fX7_lost_52 N k24 a0 n (x1 ||| (1 <<< (((x5 - x5 / 7 * 7) - 1) &&& 31))) x2 x3 x4 (x5 / 7))
def fX7_lost_24 (N : Nat) (k11 : Int32 → Int32 → Int32 → jM Int32) (a0 : Nat) : Nat → Int32 → Int32 → Int32 → Int32 → jM Int32
  | 0, _, _, _, _ => jE
  | n + 1, x1, x2, x3, x4 => jB (jgR [7] 13 (some a0)) fun y1 => jB (jaI 0 y1 x3) fun y2 => if y2 ≤ x4 then (fX7_lost_128 N k11 a0 x1 x2 x3) else (jB (jgR [7] 48 (some a0)) fun y3 => jB (jaI 0 y3 ((7 + (6 * x3)) + x4)) fun y4 => fX7_lost_52 N (fX7_lost_24 N k11 a0 n) a0 N x1 x2 x3 x4 y4)
def fX7_lost_11 (N : Nat) (a0 : Nat) : Nat → Int32 → Int32 → Int32 → jM Int32
  | 0, _, _, _ => jE
  | n + 1, x1, x2, x3 => jB (jgR [7] 10 (some a0)) fun y1 => jB (jaI 0 y1 0) fun y2 => if y2 ≤ x3 then (fX7_lost_134 N a0 x1 x2) else (fX7_lost_24 N (fX7_lost_11 N a0 n) a0 N x1 x2 x3 0)
def fX7_lost (N : Nat) (a0 : Nat) : jM Int32 := jB (jpI [7] 0 (some a0) 0) fun _ => fX7_lost_11 N a0 N 0 0 0
theorem wX7_lost_134 {N : Nat} {r : Int32} (cx : jCx p s m args meth c cX7_lost "WornSkinModel" 7 (Option.some Jvm.ClassFile.FieldType.int) D dA H0 hs.2.2.2.2) (e1 : h'.2.2.1 = hs.2.2.1 + mc) (e2 : h'.2.2.2.1 = hs.2.2.2.1 + ms) (a0 : Nat) (hth : jTh hs a0 7) : ∀ (x1 : Int32) (x2 : Int32), ∀ (h : jH) (H : Heap) (locs : List Loc) (cells slots : Nat) (ls : Array Slot), (fX7_lost_134 N a0 x1 x2).1 h = some (r, h') → jS D dA H0 hs h H locs cells slots → lv_has ls 7 [(0, .ref a0), (1, .int x1), (2, .int x2)] → W p l e { frames := 5, cells := mc, slots := ms, locals := 120 } s m args below meth c H locs cells slots (jQ D dA H0 below s (.returned (some (.int r))) h' mc ms) (F0 m 134 ls []) := by
  have hx := cx.1
  have hb := cx.2.1
  have hown := cx.2.2.2.1
  have hts := cx.2.2.2.2.1
  have hm : h'.2.2.1 ≤ hs.2.2.1 + mc ∧ h'.2.2.2.1 ≤ hs.2.2.2.1 + ms := ⟨Nat.le_of_eq e1, Nat.le_of_eq e2⟩
  intro x1 x2 h H locs cells slots ls hf hS hl
  unfold fX7_lost_134 at hf
  refine lv_iload_n (pc := 134) hx hb dX7_lost_134 rfl (lv_at hl 1 rfl) ?_
  refine lv_iload_n (pc := 135) hx hb dX7_lost_135 rfl (lv_at hl 2 rfl) ?_
  refine lv_iconst (pc := 136) (v := (-1)) hx hb dX7_lost_136 rfl ?_
  refine lv_ixor (pc := 137) hx hb dX7_lost_137 ?_
  refine lv_iand (pc := 138) hx hb dX7_lost_138 ?_
  exact j_iret (pc := 139) cx hS hf e1 e2 dX7_lost_139
theorem wX7_lost_128 {N : Nat} {k11 : Int32 → Int32 → Int32 → jM Int32} {r : Int32} (cx : jCx p s m args meth c cX7_lost "WornSkinModel" 7 (Option.some Jvm.ClassFile.FieldType.int) D dA H0 hs.2.2.2.2) (e1 : h'.2.2.1 = hs.2.2.1 + mc) (e2 : h'.2.2.2.1 = hs.2.2.2.1 + ms) (a0 : Nat) (hth : jTh hs a0 7) (hk11 : ∀ (x1 : Int32) (x2 : Int32) (x3 : Int32), ∀ (h : jH) (H : Heap) (locs : List Loc) (cells slots : Nat) (ls : Array Slot), (k11 x1 x2 x3).1 h = some (r, h') → jS D dA H0 hs h H locs cells slots → lv_has ls 7 [(0, .ref a0), (1, .int x1), (2, .int x2), (3, .int x3)] → W p l e { frames := 5, cells := mc, slots := ms, locals := 120 } s m args below meth c H locs cells slots (jQ D dA H0 below s (.returned (some (.int r))) h' mc ms) (F0 m 11 ls [])) : ∀ (x1 : Int32) (x2 : Int32) (x3 : Int32), ∀ (h : jH) (H : Heap) (locs : List Loc) (cells slots : Nat) (ls : Array Slot), (fX7_lost_128 N k11 a0 x1 x2 x3).1 h = some (r, h') → jS D dA H0 hs h H locs cells slots → lv_has ls 7 [(0, .ref a0), (1, .int x1), (2, .int x2), (3, .int x3)] → W p l e { frames := 5, cells := mc, slots := ms, locals := 120 } s m args below meth c H locs cells slots (jQ D dA H0 below s (.returned (some (.int r))) h' mc ms) (F0 m 128 ls []) := by
  have hx := cx.1
  have hb := cx.2.1
  have hown := cx.2.2.2.1
  have hts := cx.2.2.2.2.1
  have hm : h'.2.2.1 ≤ hs.2.2.1 + mc ∧ h'.2.2.2.1 ≤ hs.2.2.2.1 + ms := ⟨Nat.le_of_eq e1, Nat.le_of_eq e2⟩
  intro x1 x2 x3 h H locs cells slots ls hf hS hl
  unfold fX7_lost_128 at hf
  refine lv_iinc (pc := 128) (v := (x3 + 1)) (lv' := [(3, .int (x3 + 1)), (0, .ref a0), (1, .int x1), (2, .int x2)]) hx hb dX7_lost_128 hl (k := 3) rfl rfl (Nat.le_of_ble_eq_true rfl) rfl (fun ls hl => ?_)
  refine lv_goto (pc := 131) (tgt := 11) hx hb dX7_lost_131 (by decide) ?_
  exact hk11 _ _ _ _ _ _ _ _ _ hf hS (lv_sub hl [1, 2, 3, 0] rfl)
theorem wX7_lost_122 {N : Nat} {k24 : Int32 → Int32 → Int32 → Int32 → jM Int32} {r : Int32} (cx : jCx p s m args meth c cX7_lost "WornSkinModel" 7 (Option.some Jvm.ClassFile.FieldType.int) D dA H0 hs.2.2.2.2) (e1 : h'.2.2.1 = hs.2.2.1 + mc) (e2 : h'.2.2.2.1 = hs.2.2.2.1 + ms) (a0 : Nat) (hth : jTh hs a0 7) (hk24 : ∀ (x1 : Int32) (x2 : Int32) (x3 : Int32) (x4 : Int32), ∀ (h : jH) (H : Heap) (locs : List Loc) (cells slots : Nat) (ls : Array Slot), (k24 x1 x2 x3 x4).1 h = some (r, h') → jS D dA H0 hs h H locs cells slots → lv_has ls 7 [(0, .ref a0), (1, .int x1), (2, .int x2), (3, .int x3), (4, .int x4)] → W p l e { frames := 5, cells := mc, slots := ms, locals := 120 } s m args below meth c H locs cells slots (jQ D dA H0 below s (.returned (some (.int r))) h' mc ms) (F0 m 24 ls [])) : ∀ (x1 : Int32) (x2 : Int32) (x3 : Int32) (x4 : Int32), ∀ (h : jH) (H : Heap) (locs : List Loc) (cells slots : Nat) (ls : Array Slot), (fX7_lost_122 N k24 a0 x1 x2 x3 x4).1 h = some (r, h') → jS D dA H0 hs h H locs cells slots → lv_has ls 7 [(0, .ref a0), (1, .int x1), (2, .int x2), (3, .int x3), (4, .int x4)] → W p l e { frames := 5, cells := mc, slots := ms, locals := 120 } s m args below meth c H locs cells slots (jQ D dA H0 below s (.returned (some (.int r))) h' mc ms) (F0 m 122 ls []) := by
  have hx := cx.1
  have hb := cx.2.1
  have hown := cx.2.2.2.1
  have hts := cx.2.2.2.2.1
  have hm : h'.2.2.1 ≤ hs.2.2.1 + mc ∧ h'.2.2.2.1 ≤ hs.2.2.2.1 + ms := ⟨Nat.le_of_eq e1, Nat.le_of_eq e2⟩
  intro x1 x2 x3 x4 h H locs cells slots ls hf hS hl
  unfold fX7_lost_122 at hf
  refine lv_iinc (pc := 122) (v := (x4 + 1)) (lv' := [(4, .int (x4 + 1)), (0, .ref a0), (1, .int x1), (2, .int x2), (3, .int x3)]) hx hb dX7_lost_122 hl (k := 4) rfl rfl (Nat.le_of_ble_eq_true rfl) rfl (fun ls hl => ?_)
  refine lv_goto (pc := 125) (tgt := 24) hx hb dX7_lost_125 (by decide) ?_
  exact hk24 _ _ _ _ _ _ _ _ _ _ hf hS (lv_sub hl [1, 2, 3, 4, 0] rfl)
theorem wX7_lost_114 {N : Nat} {k82 : Int32 → Int32 → Int32 → Int32 → Int32 → jM Int32} {r : Int32} (cx : jCx p s m args meth c cX7_lost "WornSkinModel" 7 (Option.some Jvm.ClassFile.FieldType.int) D dA H0 hs.2.2.2.2) (e1 : h'.2.2.1 = hs.2.2.1 + mc) (e2 : h'.2.2.2.1 = hs.2.2.2.1 + ms) (a0 : Nat) (hth : jTh hs a0 7) (hk82 : ∀ (x1 : Int32) (x2 : Int32) (x3 : Int32) (x4 : Int32) (x5 : Int32), ∀ (h : jH) (H : Heap) (locs : List Loc) (cells slots : Nat) (ls : Array Slot), (k82 x1 x2 x3 x4 x5).1 h = some (r, h') → jS D dA H0 hs h H locs cells slots → lv_has ls 7 [(0, .ref a0), (1, .int x1), (2, .int x2), (3, .int x3), (4, .int x4), (5, .int x5)] → W p l e { frames := 5, cells := mc, slots := ms, locals := 120 } s m args below meth c H locs cells slots (jQ D dA H0 below s (.returned (some (.int r))) h' mc ms) (F0 m 82 ls [])) : ∀ (x1 : Int32) (x3 : Int32) (x4 : Int32) (x5 : Int32) (v0 : Int32) (v1 : Int32), ∀ (h : jH) (H : Heap) (locs : List Loc) (cells slots : Nat) (ls : Array Slot), (fX7_lost_114 N k82 a0 x1 x3 x4 x5 v0 v1).1 h = some (r, h') → jS D dA H0 hs h H locs cells slots → lv_has ls 7 [(0, .ref a0), (1, .int x1), (3, .int x3), (4, .int x4), (5, .int x5)] → W p l e { frames := 5, cells := mc, slots := ms, locals := 120 } s m args below meth c H locs cells slots (jQ D dA H0 below s (.returned (some (.int r))) h' mc ms) (F0 m 114 ls [.int v1, .int v0]) := by
  have hx := cx.1
  have hb := cx.2.1
  have hown := cx.2.2.2.1
  have hts := cx.2.2.2.2.1
  have hm : h'.2.2.1 ≤ hs.2.2.1 + mc ∧ h'.2.2.2.1 ≤ hs.2.2.2.1 + ms := ⟨Nat.le_of_eq e1, Nat.le_of_eq e2⟩
  intro x1 x3 x4 x5 v0 v1 h H locs cells slots ls hf hS hl
  unfold fX7_lost_114 at hf
  refine lv_ior (pc := 114) hx hb dX7_lost_114 ?_
  refine lv_istore_n (pc := 115) (i := 2) (lv' := [(2, .int (v0 ||| v1)), (0, .ref a0), (1, .int x1), (3, .int x3), (4, .int x4), (5, .int x5)]) hx hb dX7_lost_115 rfl hl (Nat.le_of_ble_eq_true rfl) rfl (fun ls hl => ?_)
  refine lv_iinc (pc := 116) (v := (x5 + 1)) (lv' := [(5, .int (x5 + 1)), (2, .int (v0 ||| v1)), (0, .ref a0), (1, .int x1), (3, .int x3), (4, .int x4)]) hx hb dX7_lost_116 hl (k := 5) rfl rfl (Nat.le_of_ble_eq_true rfl) rfl (fun ls hl => ?_)
  refine lv_goto (pc := 119) (tgt := 82) hx hb dX7_lost_119 (by decide) ?_
  exact hk82 _ _ _ _ _ _ _ _ _ _ _ hf hS (lv_sub hl [2, 3, 1, 4, 5, 0] rfl)
theorem wX7_lost_82 {N : Nat} {k24 : Int32 → Int32 → Int32 → Int32 → jM Int32} {r : Int32} (cx : jCx p s m args meth c cX7_lost "WornSkinModel" 7 (Option.some Jvm.ClassFile.FieldType.int) D dA H0 hs.2.2.2.2) (e1 : h'.2.2.1 = hs.2.2.1 + mc) (e2 : h'.2.2.2.1 = hs.2.2.2.1 + ms) (a0 : Nat) (hth : jTh hs a0 7) (hk24 : ∀ (x1 : Int32) (x2 : Int32) (x3 : Int32) (x4 : Int32), ∀ (h : jH) (H : Heap) (locs : List Loc) (cells slots : Nat) (ls : Array Slot), (k24 x1 x2 x3 x4).1 h = some (r, h') → jS D dA H0 hs h H locs cells slots → lv_has ls 7 [(0, .ref a0), (1, .int x1), (2, .int x2), (3, .int x3), (4, .int x4)] → W p l e { frames := 5, cells := mc, slots := ms, locals := 120 } s m args below meth c H locs cells slots (jQ D dA H0 below s (.returned (some (.int r))) h' mc ms) (F0 m 24 ls [])) : ∀ (n : Nat) (x1 : Int32) (x2 : Int32) (x3 : Int32) (x4 : Int32) (x5 : Int32), ∀ (h : jH) (H : Heap) (locs : List Loc) (cells slots : Nat) (ls : Array Slot), (fX7_lost_82 N k24 a0 n x1 x2 x3 x4 x5).1 h = some (r, h') → jS D dA H0 hs h H locs cells slots → lv_has ls 7 [(0, .ref a0), (1, .int x1), (2, .int x2), (3, .int x3), (4, .int x4), (5, .int x5)] → W p l e { frames := 5, cells := mc, slots := ms, locals := 120 } s m args below meth c H locs cells slots (jQ D dA H0 below s (.returned (some (.int r))) h' mc ms) (F0 m 82 ls []) := by
  have hx := cx.1
  have hb := cx.2.1
  have hown := cx.2.2.2.1
  have hts := cx.2.2.2.2.1
  have hm : h'.2.2.1 ≤ hs.2.2.1 + mc ∧ h'.2.2.2.1 ≤ hs.2.2.2.1 + ms := ⟨Nat.le_of_eq e1, Nat.le_of_eq e2⟩
  intro n
  induction n with
  | zero =>
    intro x1 x2 x3 x4 x5 h H locs cells slots ls hf hS hl
    exact jE_f hf
  | succ n ih =>
    intro x1 x2 x3 x4 x5 h H locs cells slots ls hf hS hl
    unfold fX7_lost_82 at hf
    refine lv_iload (pc := 82) hx hb dX7_lost_82 (lv_at hl 5 rfl) ?_
    refine lv_bipush (pc := 84) (v := 10) hx hb dX7_lost_84 rfl ?_
    refine lv_icmp_ge (pc := 86) (tgt := 122) hx hb dX7_lost_86 (by decide) (fun hc => ?_) (fun hc => ?_)
    · have hf := jI_t hf hc
      exact wX7_lost_122 cx e1 e2 a0 hth hk24 _ _ _ _ _ _ _ _ _ _ hf hS (lv_sub hl [0, 1, 2, 3, 4] rfl)
    · have hf := jI_f hf hc
      refine lv_aload_n (pc := 89) hx hb dX7_lost_89 rfl (lv_at hl 0 rfl) ?_
      refine lv_iload_n (pc := 90) hx hb dX7_lost_90 rfl (lv_at hl 3 rfl) ?_
      refine lv_iload (pc := 91) hx hb dX7_lost_91 (lv_at hl 4 rfl) ?_
      refine lv_iload (pc := 93) hx hb dX7_lost_93 (lv_at hl 5 rfl) ?_
      obtain ⟨y1, h1, e9, hf⟩ := jB_some hf
      refine j_callV (pc := 95) (st1 := [.int y1]) (As := [.int x3, .int x4, .int x5]) (rest := []) cx hS rfl hl.1 hm (metX7_readBy l _ _ _ _ _ _ _ _ (hth.at hS) e9) (jle hf) (hth.at hS) rfl (lw_V q2043 q2045 qs83 q123 q2046) pdX7_readBy rfl rfl (Nat.le_of_ble_eq_true rfl) ⟨Nat.le_of_ble_eq_true rfl, Nat.le_of_ble_eq_true rfl⟩ dX7_lost_95 rfl (fun H locs cells slots hS => ?_)
      refine lv_istore (pc := 98) (i := 6) (lv' := [(6, .int y1), (0, .ref a0), (1, .int x1), (2, .int x2), (3, .int x3), (4, .int x4), (5, .int x5)]) hx hb dX7_lost_98 hl (Nat.le_of_ble_eq_true rfl) rfl (fun ls hl => ?_)
      refine lv_iload_n (pc := 100) hx hb dX7_lost_100 rfl (lv_at hl 3 rfl) ?_
      refine lv_iload (pc := 101) hx hb dX7_lost_101 (lv_at hl 0 rfl) ?_
      refine lv_if_ge (pc := 103) (tgt := 110) hx hb dX7_lost_103 (by decide) (fun hc => ?_) (fun hc => ?_)
      · have hf := jI_t hf hc
        refine lv_iconst (pc := 110) (v := 1) hx hb dX7_lost_110 rfl ?_
        refine lv_iload (pc := 111) hx hb dX7_lost_111 (lv_at hl 0 rfl) ?_
        refine lv_ishl (pc := 113) hx hb dX7_lost_113 ?_
        exact wX7_lost_114 cx e1 e2 a0 hth ih _ _ _ _ _ _ _ _ _ _ _ _ hf hS (lv_sub hl [1, 2, 4, 5, 6] rfl)
      · have hf := jI_f hf hc
        refine lv_iconst (pc := 106) (v := 0) hx hb dX7_lost_106 rfl ?_
        refine lv_goto (pc := 107) (tgt := 114) hx hb dX7_lost_107 (by decide) ?_
        exact wX7_lost_114 cx e1 e2 a0 hth ih _ _ _ _ _ _ _ _ _ _ _ _ hf hS (lv_sub hl [1, 2, 4, 5, 6] rfl)
theorem wX7_lost_79 {N : Nat} {k24 : Int32 → Int32 → Int32 → Int32 → jM Int32} {r : Int32} (cx : jCx p s m args meth c cX7_lost "WornSkinModel" 7 (Option.some Jvm.ClassFile.FieldType.int) D dA H0 hs.2.2.2.2) (e1 : h'.2.2.1 = hs.2.2.1 + mc) (e2 : h'.2.2.2.1 = hs.2.2.2.1 + ms) (a0 : Nat) (hth : jTh hs a0 7) (hk24 : ∀ (x1 : Int32) (x2 : Int32) (x3 : Int32) (x4 : Int32), ∀ (h : jH) (H : Heap) (locs : List Loc) (cells slots : Nat) (ls : Array Slot), (k24 x1 x2 x3 x4).1 h = some (r, h') → jS D dA H0 hs h H locs cells slots → lv_has ls 7 [(0, .ref a0), (1, .int x1), (2, .int x2), (3, .int x3), (4, .int x4)] → W p l e { frames := 5, cells := mc, slots := ms, locals := 120 } s m args below meth c H locs cells slots (jQ D dA H0 below s (.returned (some (.int r))) h' mc ms) (F0 m 24 ls [])) : ∀ (x1 : Int32) (x2 : Int32) (x3 : Int32) (x4 : Int32), ∀ (h : jH) (H : Heap) (locs : List Loc) (cells slots : Nat) (ls : Array Slot), (fX7_lost_79 N k24 a0 x1 x2 x3 x4).1 h = some (r, h') → jS D dA H0 hs h H locs cells slots → lv_has ls 7 [(0, .ref a0), (1, .int x1), (2, .int x2), (3, .int x3), (4, .int x4)] → W p l e { frames := 5, cells := mc, slots := ms, locals := 120 } s m args below meth c H locs cells slots (jQ D dA H0 below s (.returned (some (.int r))) h' mc ms) (F0 m 79 ls []) := by
  have hx := cx.1
  have hb := cx.2.1
  have hown := cx.2.2.2.1
  have hts := cx.2.2.2.2.1
  have hm : h'.2.2.1 ≤ hs.2.2.1 + mc ∧ h'.2.2.2.1 ≤ hs.2.2.2.1 + ms := ⟨Nat.le_of_eq e1, Nat.le_of_eq e2⟩
  intro x1 x2 x3 x4 h H locs cells slots ls hf hS hl
  unfold fX7_lost_79 at hf
  refine lv_iconst (pc := 79) (v := 0) hx hb dX7_lost_79 rfl ?_
  refine lv_istore (pc := 80) (i := 5) (lv' := [(5, .int 0), (0, .ref a0), (1, .int x1), (2, .int x2), (3, .int x3), (4, .int x4)]) hx hb dX7_lost_80 hl (Nat.le_of_ble_eq_true rfl) rfl (fun ls hl => ?_)
  exact wX7_lost_82 cx e1 e2 a0 hth hk24 N _ _ _ _ _ _ _ _ _ _ _ hf hS (lv_sub hl [1, 2, 3, 4, 5, 0] rfl)
theorem wX7_lost_52 {N : Nat} {k24 : Int32 → Int32 → Int32 → Int32 → jM Int32} {r : Int32} (cx : jCx p s m args meth c cX7_lost "WornSkinModel" 7 (Option.some Jvm.ClassFile.FieldType.int) D dA H0 hs.2.2.2.2) (e1 : h'.2.2.1 = hs.2.2.1 + mc) (e2 : h'.2.2.2.1 = hs.2.2.2.1 + ms) (a0 : Nat) (hth : jTh hs a0 7) (hk24 : ∀ (x1 : Int32) (x2 : Int32) (x3 : Int32) (x4 : Int32), ∀ (h : jH) (H : Heap) (locs : List Loc) (cells slots : Nat) (ls : Array Slot), (k24 x1 x2 x3 x4).1 h = some (r, h') → jS D dA H0 hs h H locs cells slots → lv_has ls 7 [(0, .ref a0), (1, .int x1), (2, .int x2), (3, .int x3), (4, .int x4)] → W p l e { frames := 5, cells := mc, slots := ms, locals := 120 } s m args below meth c H locs cells slots (jQ D dA H0 below s (.returned (some (.int r))) h' mc ms) (F0 m 24 ls [])) : ∀ (n : Nat) (x1 : Int32) (x2 : Int32) (x3 : Int32) (x4 : Int32) (x5 : Int32), ∀ (h : jH) (H : Heap) (locs : List Loc) (cells slots : Nat) (ls : Array Slot), (fX7_lost_52 N k24 a0 n x1 x2 x3 x4 x5).1 h = some (r, h') → jS D dA H0 hs h H locs cells slots → lv_has ls 7 [(0, .ref a0), (1, .int x1), (2, .int x2), (3, .int x3), (4, .int x4), (5, .int x5)] → W p l e { frames := 5, cells := mc, slots := ms, locals := 120 } s m args below meth c H locs cells slots (jQ D dA H0 below s (.returned (some (.int r))) h' mc ms) (F0 m 52 ls []) := by
  have hx := cx.1
  have hb := cx.2.1
  have hown := cx.2.2.2.1
  have hts := cx.2.2.2.2.1
  have hm : h'.2.2.1 ≤ hs.2.2.1 + mc ∧ h'.2.2.2.1 ≤ hs.2.2.2.1 + ms := ⟨Nat.le_of_eq e1, Nat.le_of_eq e2⟩
  intro n
  induction n with
  | zero =>
    intro x1 x2 x3 x4 x5 h H locs cells slots ls hf hS hl
    exact jE_f hf
  | succ n ih =>
    intro x1 x2 x3 x4 x5 h H locs cells slots ls hf hS hl
    unfold fX7_lost_52 at hf
    refine lv_iload (pc := 52) hx hb dX7_lost_52 (lv_at hl 5 rfl) ?_
    refine lv_if_le (pc := 54) (tgt := 79) hx hb dX7_lost_54 (by decide) (fun hc => ?_) (fun hc => ?_)
    · have hf := jI_t hf hc
      exact wX7_lost_79 cx e1 e2 a0 hth hk24 _ _ _ _ _ _ _ _ _ _ hf hS (lv_sub hl [0, 1, 2, 3, 4] rfl)
    · have hf := jI_f hf hc
      refine lv_iload_n (pc := 57) hx hb dX7_lost_57 rfl (lv_at hl 1 rfl) ?_
      refine lv_iconst (pc := 58) (v := 1) hx hb dX7_lost_58 rfl ?_
      refine lv_iload (pc := 59) hx hb dX7_lost_59 (lv_at hl 5 rfl) ?_
      refine lv_bipush (pc := 61) (v := 7) hx hb dX7_lost_61 rfl ?_
      obtain ⟨hne, hf⟩ := jnz_s hf
      refine lv_irem (pc := 63) hx hb dX7_lost_63 hne ?_
      refine lv_iconst (pc := 64) (v := 1) hx hb dX7_lost_64 rfl ?_
      refine lv_isub (pc := 65) hx hb dX7_lost_65 ?_
      refine lv_ishl (pc := 66) hx hb dX7_lost_66 ?_
      refine lv_ior (pc := 67) hx hb dX7_lost_67 ?_
      refine lv_istore_n (pc := 68) (i := 1) (lv' := [(1, .int (x1 ||| (1 <<< (((x5 - x5 / 7 * 7) - 1) &&& 31)))), (0, .ref a0), (2, .int x2), (3, .int x3), (4, .int x4), (5, .int x5)]) hx hb dX7_lost_68 rfl hl (Nat.le_of_ble_eq_true rfl) rfl (fun ls hl => ?_)
      refine lv_iload (pc := 69) hx hb dX7_lost_69 (lv_at hl 5 rfl) ?_
      refine lv_bipush (pc := 71) (v := 7) hx hb dX7_lost_71 rfl ?_
      obtain ⟨hne, hf⟩ := jnz_s hf
      refine lv_idiv (pc := 73) hx hb dX7_lost_73 hne ?_
      refine lv_istore (pc := 74) (i := 5) (lv' := [(5, .int (x5 / 7)), (1, .int (x1 ||| (1 <<< (((x5 - x5 / 7 * 7) - 1) &&& 31)))), (0, .ref a0), (2, .int x2), (3, .int x3), (4, .int x4)]) hx hb dX7_lost_74 hl (Nat.le_of_ble_eq_true rfl) rfl (fun ls hl => ?_)
      refine lv_goto (pc := 76) (tgt := 52) hx hb dX7_lost_76 (by decide) ?_
      exact ih _ _ _ _ _ _ _ _ _ _ _ hf hS (lv_sub hl [2, 1, 3, 4, 5, 0] rfl)
theorem wX7_lost_24 {N : Nat} {k11 : Int32 → Int32 → Int32 → jM Int32} {r : Int32} (cx : jCx p s m args meth c cX7_lost "WornSkinModel" 7 (Option.some Jvm.ClassFile.FieldType.int) D dA H0 hs.2.2.2.2) (e1 : h'.2.2.1 = hs.2.2.1 + mc) (e2 : h'.2.2.2.1 = hs.2.2.2.1 + ms) (a0 : Nat) (hth : jTh hs a0 7) (hk11 : ∀ (x1 : Int32) (x2 : Int32) (x3 : Int32), ∀ (h : jH) (H : Heap) (locs : List Loc) (cells slots : Nat) (ls : Array Slot), (k11 x1 x2 x3).1 h = some (r, h') → jS D dA H0 hs h H locs cells slots → lv_has ls 7 [(0, .ref a0), (1, .int x1), (2, .int x2), (3, .int x3)] → W p l e { frames := 5, cells := mc, slots := ms, locals := 120 } s m args below meth c H locs cells slots (jQ D dA H0 below s (.returned (some (.int r))) h' mc ms) (F0 m 11 ls [])) : ∀ (n : Nat) (x1 : Int32) (x2 : Int32) (x3 : Int32) (x4 : Int32), ∀ (h : jH) (H : Heap) (locs : List Loc) (cells slots : Nat) (ls : Array Slot), (fX7_lost_24 N k11 a0 n x1 x2 x3 x4).1 h = some (r, h') → jS D dA H0 hs h H locs cells slots → lv_has ls 7 [(0, .ref a0), (1, .int x1), (2, .int x2), (3, .int x3), (4, .int x4)] → W p l e { frames := 5, cells := mc, slots := ms, locals := 120 } s m args below meth c H locs cells slots (jQ D dA H0 below s (.returned (some (.int r))) h' mc ms) (F0 m 24 ls []) := by
  have hx := cx.1
  have hb := cx.2.1
  have hown := cx.2.2.2.1
  have hts := cx.2.2.2.2.1
  have hm : h'.2.2.1 ≤ hs.2.2.1 + mc ∧ h'.2.2.2.1 ≤ hs.2.2.2.1 + ms := ⟨Nat.le_of_eq e1, Nat.le_of_eq e2⟩
  intro n
  induction n with
  | zero =>
    intro x1 x2 x3 x4 h H locs cells slots ls hf hS hl
    exact jE_f hf
  | succ n ih =>
    intro x1 x2 x3 x4 h H locs cells slots ls hf hS hl
    unfold fX7_lost_24 at hf
    refine lv_iload (pc := 24) hx hb dX7_lost_24 (lv_at hl 4 rfl) ?_
    refine lv_aload_n (pc := 26) hx hb dX7_lost_26 rfl (lv_at hl 0 rfl) ?_
    refine j_gR (pc := 27) cx hS hf fd_WornSkinModel_linesOf q1697 dX7_lost_27 (fun y1 hf => ?_)
    refine lv_iload_n (pc := 30) hx hb dX7_lost_30 rfl (lv_at hl 3 rfl) ?_
    refine j_aI (pc := 31) cx hS hf rfl dX7_lost_31 (fun y2 hf => ?_)
    refine lv_icmp_ge (pc := 32) (tgt := 128) hx hb dX7_lost_32 (by decide) (fun hc => ?_) (fun hc => ?_)
    · have hf := jI_t hf hc
      exact wX7_lost_128 cx e1 e2 a0 hth hk11 _ _ _ _ _ _ _ _ _ hf hS (lv_sub hl [0, 1, 2, 3] rfl)
    · have hf := jI_f hf hc
      refine lv_aload_n (pc := 35) hx hb dX7_lost_35 rfl (lv_at hl 0 rfl) ?_
      refine j_gR (pc := 36) cx hS hf fd_WornSkinModel_s q1732 dX7_lost_36 (fun y3 hf => ?_)
      refine lv_bipush (pc := 39) (v := 7) hx hb dX7_lost_39 rfl ?_
      refine lv_bipush (pc := 41) (v := 6) hx hb dX7_lost_41 rfl ?_
      refine lv_iload_n (pc := 43) hx hb dX7_lost_43 rfl (lv_at hl 3 rfl) ?_
      refine lv_imul (pc := 44) hx hb dX7_lost_44 ?_
      refine lv_iadd (pc := 45) hx hb dX7_lost_45 ?_
      refine lv_iload (pc := 46) hx hb dX7_lost_46 (lv_at hl 4 rfl) ?_
      refine lv_iadd (pc := 48) hx hb dX7_lost_48 ?_
      refine j_aI (pc := 49) cx hS hf rfl dX7_lost_49 (fun y4 hf => ?_)
      refine lv_istore (pc := 50) (i := 5) (lv' := [(5, .int y4), (0, .ref a0), (1, .int x1), (2, .int x2), (3, .int x3), (4, .int x4)]) hx hb dX7_lost_50 hl (Nat.le_of_ble_eq_true rfl) rfl (fun ls hl => ?_)
      exact wX7_lost_52 cx e1 e2 a0 hth ih N _ _ _ _ _ _ _ _ _ _ _ hf hS (lv_sub hl [1, 2, 3, 4, 5, 0] rfl)
theorem wX7_lost_11 {N : Nat} {r : Int32} (cx : jCx p s m args meth c cX7_lost "WornSkinModel" 7 (Option.some Jvm.ClassFile.FieldType.int) D dA H0 hs.2.2.2.2) (e1 : h'.2.2.1 = hs.2.2.1 + mc) (e2 : h'.2.2.2.1 = hs.2.2.2.1 + ms) (a0 : Nat) (hth : jTh hs a0 7) : ∀ (n : Nat) (x1 : Int32) (x2 : Int32) (x3 : Int32), ∀ (h : jH) (H : Heap) (locs : List Loc) (cells slots : Nat) (ls : Array Slot), (fX7_lost_11 N a0 n x1 x2 x3).1 h = some (r, h') → jS D dA H0 hs h H locs cells slots → lv_has ls 7 [(0, .ref a0), (1, .int x1), (2, .int x2), (3, .int x3)] → W p l e { frames := 5, cells := mc, slots := ms, locals := 120 } s m args below meth c H locs cells slots (jQ D dA H0 below s (.returned (some (.int r))) h' mc ms) (F0 m 11 ls []) := by
  have hx := cx.1
  have hb := cx.2.1
  have hown := cx.2.2.2.1
  have hts := cx.2.2.2.2.1
  have hm : h'.2.2.1 ≤ hs.2.2.1 + mc ∧ h'.2.2.2.1 ≤ hs.2.2.2.1 + ms := ⟨Nat.le_of_eq e1, Nat.le_of_eq e2⟩
  intro n
  induction n with
  | zero =>
    intro x1 x2 x3 h H locs cells slots ls hf hS hl
    exact jE_f hf
  | succ n ih =>
    intro x1 x2 x3 h H locs cells slots ls hf hS hl
    unfold fX7_lost_11 at hf
    refine lv_iload_n (pc := 11) hx hb dX7_lost_11 rfl (lv_at hl 3 rfl) ?_
    refine lv_aload_n (pc := 12) hx hb dX7_lost_12 rfl (lv_at hl 0 rfl) ?_
    refine j_gR (pc := 13) cx hS hf fd_WornSkinModel_library q1694 dX7_lost_13 (fun y1 hf => ?_)
    refine lv_iconst (pc := 16) (v := 0) hx hb dX7_lost_16 rfl ?_
    refine j_aI (pc := 17) cx hS hf rfl dX7_lost_17 (fun y2 hf => ?_)
    refine lv_icmp_ge (pc := 18) (tgt := 134) hx hb dX7_lost_18 (by decide) (fun hc => ?_) (fun hc => ?_)
    · have hf := jI_t hf hc
      exact wX7_lost_134 cx e1 e2 a0 hth _ _ _ _ _ _ _ _ hf hS (lv_sub hl [0, 1, 2] rfl)
    · have hf := jI_f hf hc
      refine lv_iconst (pc := 21) (v := 0) hx hb dX7_lost_21 rfl ?_
      refine lv_istore (pc := 22) (i := 4) (lv' := [(4, .int 0), (0, .ref a0), (1, .int x1), (2, .int x2), (3, .int x3)]) hx hb dX7_lost_22 hl (Nat.le_of_ble_eq_true rfl) rfl (fun ls hl => ?_)
      exact wX7_lost_24 cx e1 e2 a0 hth ih N _ _ _ _ _ _ _ _ _ _ hf hS (lv_sub hl [1, 2, 3, 4, 0] rfl)
theorem wX7_lost_0 {N : Nat} {r : Int32} (cx : jCx p s m args meth c cX7_lost "WornSkinModel" 7 (Option.some Jvm.ClassFile.FieldType.int) D dA H0 hs.2.2.2.2) (e1 : h'.2.2.1 = hs.2.2.1 + mc) (e2 : h'.2.2.2.1 = hs.2.2.2.1 + ms) (a0 : Nat) (hth : jTh hs a0 7) : ∀ (h : jH) (H : Heap) (locs : List Loc) (cells slots : Nat) (ls : Array Slot), (fX7_lost N a0).1 h = some (r, h') → jS D dA H0 hs h H locs cells slots → lv_has ls 7 [(0, .ref a0)] → W p l e { frames := 5, cells := mc, slots := ms, locals := 120 } s m args below meth c H locs cells slots (jQ D dA H0 below s (.returned (some (.int r))) h' mc ms) (F0 m 0 ls []) := by
  have hx := cx.1
  have hb := cx.2.1
  have hown := cx.2.2.2.1
  have hts := cx.2.2.2.2.1
  have hm : h'.2.2.1 ≤ hs.2.2.1 + mc ∧ h'.2.2.2.1 ≤ hs.2.2.2.1 + ms := ⟨Nat.le_of_eq e1, Nat.le_of_eq e2⟩
  intro h H locs cells slots ls hf hS hl
  unfold fX7_lost at hf
  refine lv_aload_n (pc := 0) hx hb dX7_lost_0 rfl (lv_at hl 0 rfl) ?_
  refine lv_iconst (pc := 1) (v := 0) hx hb dX7_lost_1 rfl ?_
  refine j_pI (pc := 2) cx hS hf fp_WornSkinModel_thrown (Or.inl rfl) q1684 dX7_lost_2 (fun h H locs hf hS => ?_)
  refine lv_iconst (pc := 5) (v := 0) hx hb dX7_lost_5 rfl ?_
  refine lv_istore_n (pc := 6) (i := 1) (lv' := [(1, .int 0), (0, .ref a0)]) hx hb dX7_lost_6 rfl hl (Nat.le_of_ble_eq_true rfl) rfl (fun ls hl => ?_)
  refine lv_iconst (pc := 7) (v := 0) hx hb dX7_lost_7 rfl ?_
  refine lv_istore_n (pc := 8) (i := 2) (lv' := [(2, .int 0), (1, .int 0), (0, .ref a0)]) hx hb dX7_lost_8 rfl hl (Nat.le_of_ble_eq_true rfl) rfl (fun ls hl => ?_)
  refine lv_iconst (pc := 9) (v := 0) hx hb dX7_lost_9 rfl ?_
  refine lv_istore_n (pc := 10) (i := 3) (lv' := [(3, .int 0), (2, .int 0), (1, .int 0), (0, .ref a0)]) hx hb dX7_lost_10 rfl hl (Nat.le_of_ble_eq_true rfl) rfl (fun ls hl => ?_)
  exact wX7_lost_11 cx e1 e2 a0 hth N _ _ _ _ _ _ _ _ _ hf hS (lv_sub hl [3, 2, 1, 0] rfl)
theorem metX7_lost (l : Launch) (N : Nat) (a0 : Nat) (h h' : jH) (r : Int32) (hth : jcd h a0 = some 7) (hf : (fX7_lost N a0).1 h = some (r, h')) : jMet l yX7_lost (ws_ yX7_lost cX7_lost 7 (Option.some Jvm.ClassFile.FieldType.int)) (5) (120) [.ref a0] h h' (.returned (some (.int r))) := by
  refine jStart rfl (jle hf) (Nat.le_of_ble_eq_true rfl) ?_
  intro p e s m below meth c D dA H0 mc ms ls cx hnm e1 e2 hS hl
  have hth := jTh.mk hS hth
  exact wX7_lost_0 cx e1 e2 a0 hth  _ _ _ _ _ _ hf hS hl
def fX7_placeOf_30 (N : Nat) (a0 : Nat) : jM Int32 := jR (-1)
def fX7_placeOf_22 (N : Nat) (a0 : Nat) (x3 : Int32) : jM Int32 := jR x3
def fX7_placeOf_2 (N : Nat) (a0 : Nat) : Nat → Int32 → Int32 → Int32 → jM Int32
  | 0, _, _, _ => jE
  | n + 1, x1, x2, x3 => jB (jgR [7] 13 (some a0)) fun y1 => jB (jaI 0 y1 x2) fun y2 => if y2 ≤ x3 then (fX7_placeOf_30 N a0) else (jB (fX7_canWrite N a0 x1 x2 x3) fun y3 => if y3 = 0 then (fX7_placeOf_2 N a0 n x1 x2 (x3 + 1)) else (fX7_placeOf_22 N a0 x3))
def fX7_placeOf (N : Nat) (a0 : Nat) (x1 : Int32) (x2 : Int32) : jM Int32 := fX7_placeOf_2 N a0 N x1 x2 0
theorem wX7_placeOf_30 {N : Nat} {r : Int32} (cx : jCx p s m args meth c cX7_placeOf "WornSkinModel" 4 (Option.some Jvm.ClassFile.FieldType.int) D dA H0 hs.2.2.2.2) (e1 : h'.2.2.1 = hs.2.2.1 + mc) (e2 : h'.2.2.2.1 = hs.2.2.2.1 + ms) (a0 : Nat) (hth : jTh hs a0 7) : ∀ (h : jH) (H : Heap) (locs : List Loc) (cells slots : Nat) (ls : Array Slot), (fX7_placeOf_30 N a0).1 h = some (r, h') → jS D dA H0 hs h H locs cells slots → lv_has ls 4 [(0, .ref a0)] → W p l e { frames := 1, cells := mc, slots := ms, locals := 24 } s m args below meth c H locs cells slots (jQ D dA H0 below s (.returned (some (.int r))) h' mc ms) (F0 m 30 ls []) := by
  have hx := cx.1
  have hb := cx.2.1
  have hown := cx.2.2.2.1
  have hts := cx.2.2.2.2.1
  have hm : h'.2.2.1 ≤ hs.2.2.1 + mc ∧ h'.2.2.2.1 ≤ hs.2.2.2.1 + ms := ⟨Nat.le_of_eq e1, Nat.le_of_eq e2⟩
  intro h H locs cells slots ls hf hS hl
  unfold fX7_placeOf_30 at hf
  refine lv_iconst (pc := 30) (v := (-1)) hx hb dX7_placeOf_30 rfl ?_
  exact j_iret (pc := 31) cx hS hf e1 e2 dX7_placeOf_31
theorem wX7_placeOf_22 {N : Nat} {r : Int32} (cx : jCx p s m args meth c cX7_placeOf "WornSkinModel" 4 (Option.some Jvm.ClassFile.FieldType.int) D dA H0 hs.2.2.2.2) (e1 : h'.2.2.1 = hs.2.2.1 + mc) (e2 : h'.2.2.2.1 = hs.2.2.2.1 + ms) (a0 : Nat) (hth : jTh hs a0 7) : ∀ (x3 : Int32), ∀ (h : jH) (H : Heap) (locs : List Loc) (cells slots : Nat) (ls : Array Slot), (fX7_placeOf_22 N a0 x3).1 h = some (r, h') → jS D dA H0 hs h H locs cells slots → lv_has ls 4 [(0, .ref a0), (3, .int x3)] → W p l e { frames := 1, cells := mc, slots := ms, locals := 24 } s m args below meth c H locs cells slots (jQ D dA H0 below s (.returned (some (.int r))) h' mc ms) (F0 m 22 ls []) := by
  have hx := cx.1
  have hb := cx.2.1
  have hown := cx.2.2.2.1
  have hts := cx.2.2.2.2.1
  have hm : h'.2.2.1 ≤ hs.2.2.1 + mc ∧ h'.2.2.2.1 ≤ hs.2.2.2.1 + ms := ⟨Nat.le_of_eq e1, Nat.le_of_eq e2⟩
  intro x3 h H locs cells slots ls hf hS hl
  unfold fX7_placeOf_22 at hf
  refine lv_iload_n (pc := 22) hx hb dX7_placeOf_22 rfl (lv_at hl 1 rfl) ?_
  exact j_iret (pc := 23) cx hS hf e1 e2 dX7_placeOf_23
theorem wX7_placeOf_2 {N : Nat} {r : Int32} (cx : jCx p s m args meth c cX7_placeOf "WornSkinModel" 4 (Option.some Jvm.ClassFile.FieldType.int) D dA H0 hs.2.2.2.2) (e1 : h'.2.2.1 = hs.2.2.1 + mc) (e2 : h'.2.2.2.1 = hs.2.2.2.1 + ms) (a0 : Nat) (hth : jTh hs a0 7) : ∀ (n : Nat) (x1 : Int32) (x2 : Int32) (x3 : Int32), ∀ (h : jH) (H : Heap) (locs : List Loc) (cells slots : Nat) (ls : Array Slot), (fX7_placeOf_2 N a0 n x1 x2 x3).1 h = some (r, h') → jS D dA H0 hs h H locs cells slots → lv_has ls 4 [(0, .ref a0), (1, .int x1), (2, .int x2), (3, .int x3)] → W p l e { frames := 1, cells := mc, slots := ms, locals := 24 } s m args below meth c H locs cells slots (jQ D dA H0 below s (.returned (some (.int r))) h' mc ms) (F0 m 2 ls []) := by
  have hx := cx.1
  have hb := cx.2.1
  have hown := cx.2.2.2.1
  have hts := cx.2.2.2.2.1
  have hm : h'.2.2.1 ≤ hs.2.2.1 + mc ∧ h'.2.2.2.1 ≤ hs.2.2.2.1 + ms := ⟨Nat.le_of_eq e1, Nat.le_of_eq e2⟩
  intro n
  induction n with
  | zero =>
    intro x1 x2 x3 h H locs cells slots ls hf hS hl
    exact jE_f hf
  | succ n ih =>
    intro x1 x2 x3 h H locs cells slots ls hf hS hl
    unfold fX7_placeOf_2 at hf
    refine lv_iload_n (pc := 2) hx hb dX7_placeOf_2 rfl (lv_at hl 3 rfl) ?_
    refine lv_aload_n (pc := 3) hx hb dX7_placeOf_3 rfl (lv_at hl 0 rfl) ?_
    refine j_gR (pc := 4) cx hS hf fd_WornSkinModel_linesOf q1697 dX7_placeOf_4 (fun y1 hf => ?_)
    refine lv_iload_n (pc := 7) hx hb dX7_placeOf_7 rfl (lv_at hl 2 rfl) ?_
    refine j_aI (pc := 8) cx hS hf rfl dX7_placeOf_8 (fun y2 hf => ?_)
    refine lv_icmp_ge (pc := 9) (tgt := 30) hx hb dX7_placeOf_9 (by decide) (fun hc => ?_) (fun hc => ?_)
    · have hf := jI_t hf hc
      exact wX7_placeOf_30 cx e1 e2 a0 hth _ _ _ _ _ _ hf hS (lv_sub hl [0] rfl)
    · have hf := jI_f hf hc
      refine lv_aload_n (pc := 12) hx hb dX7_placeOf_12 rfl (lv_at hl 0 rfl) ?_
      refine lv_iload_n (pc := 13) hx hb dX7_placeOf_13 rfl (lv_at hl 1 rfl) ?_
      refine lv_iload_n (pc := 14) hx hb dX7_placeOf_14 rfl (lv_at hl 2 rfl) ?_
      refine lv_iload_n (pc := 15) hx hb dX7_placeOf_15 rfl (lv_at hl 3 rfl) ?_
      obtain ⟨y3, h1, e9, hf⟩ := jB_some hf
      refine j_callV (pc := 16) (st1 := [.int y3]) (As := [.int x1, .int x2, .int x3]) (rest := []) cx hS rfl hl.1 hm (metX7_canWrite l _ _ _ _ _ _ _ _ (hth.at hS) e9) (jle hf) (hth.at hS) rfl (lw_V q2116 q2118 qs94 q123 q2119) pdX7_canWrite rfl rfl (Nat.le_of_ble_eq_true rfl) ⟨Nat.le_of_ble_eq_true rfl, Nat.le_of_ble_eq_true rfl⟩ dX7_placeOf_16 rfl (fun H locs cells slots hS => ?_)
      refine lv_if_eq (pc := 19) (tgt := 24) hx hb dX7_placeOf_19 (by decide) (fun hc => ?_) (fun hc => ?_)
      · have hf := jI_t hf hc
        refine lv_iinc (pc := 24) (v := (x3 + 1)) (lv' := [(3, .int (x3 + 1)), (0, .ref a0), (1, .int x1), (2, .int x2)]) hx hb dX7_placeOf_24 hl (k := 3) rfl rfl (Nat.le_of_ble_eq_true rfl) rfl (fun ls hl => ?_)
        refine lv_goto (pc := 27) (tgt := 2) hx hb dX7_placeOf_27 (by decide) ?_
        exact ih _ _ _ _ _ _ _ _ _ hf hS (lv_sub hl [1, 2, 3, 0] rfl)
      · have hf := jI_f hf hc
        exact wX7_placeOf_22 cx e1 e2 a0 hth _ _ _ _ _ _ _ hf hS (lv_sub hl [0, 3] rfl)
theorem wX7_placeOf_0 {N : Nat} {r : Int32} (cx : jCx p s m args meth c cX7_placeOf "WornSkinModel" 4 (Option.some Jvm.ClassFile.FieldType.int) D dA H0 hs.2.2.2.2) (e1 : h'.2.2.1 = hs.2.2.1 + mc) (e2 : h'.2.2.2.1 = hs.2.2.2.1 + ms) (a0 : Nat) (hth : jTh hs a0 7) : ∀ (x1 : Int32) (x2 : Int32), ∀ (h : jH) (H : Heap) (locs : List Loc) (cells slots : Nat) (ls : Array Slot), (fX7_placeOf N a0 x1 x2).1 h = some (r, h') → jS D dA H0 hs h H locs cells slots → lv_has ls 4 [(0, .ref a0), (1, .int x1), (2, .int x2)] → W p l e { frames := 1, cells := mc, slots := ms, locals := 24 } s m args below meth c H locs cells slots (jQ D dA H0 below s (.returned (some (.int r))) h' mc ms) (F0 m 0 ls []) := by
  have hx := cx.1
  have hb := cx.2.1
  have hown := cx.2.2.2.1
  have hts := cx.2.2.2.2.1
  have hm : h'.2.2.1 ≤ hs.2.2.1 + mc ∧ h'.2.2.2.1 ≤ hs.2.2.2.1 + ms := ⟨Nat.le_of_eq e1, Nat.le_of_eq e2⟩
  intro x1 x2 h H locs cells slots ls hf hS hl
  unfold fX7_placeOf at hf
  refine lv_iconst (pc := 0) (v := 0) hx hb dX7_placeOf_0 rfl ?_
  refine lv_istore_n (pc := 1) (i := 3) (lv' := [(3, .int 0), (0, .ref a0), (1, .int x1), (2, .int x2)]) hx hb dX7_placeOf_1 rfl hl (Nat.le_of_ble_eq_true rfl) rfl (fun ls hl => ?_)
  exact wX7_placeOf_2 cx e1 e2 a0 hth N _ _ _ _ _ _ _ _ _ hf hS (lv_sub hl [1, 2, 3, 0] rfl)
theorem metX7_placeOf (l : Launch) (N : Nat) (a0 : Nat) (x1 : Int32) (x2 : Int32) (h h' : jH) (r : Int32) (hth : jcd h a0 = some 7) (hf : (fX7_placeOf N a0 x1 x2).1 h = some (r, h')) : jMet l yX7_placeOf (ws_ yX7_placeOf cX7_placeOf 4 (Option.some Jvm.ClassFile.FieldType.int)) (1) (24) [.ref a0, .int x1, .int x2] h h' (.returned (some (.int r))) := by
  refine jStart rfl (jle hf) (Nat.le_of_ble_eq_true rfl) ?_
  intro p e s m below meth c D dA H0 mc ms ls cx hnm e1 e2 hS hl
  have hth := jTh.mk hS hth
  exact wX7_placeOf_0 cx e1 e2 a0 hth _ _ _ _ _ _ _ _ hf hS hl
def fX7_place_31 (N : Nat) (a0 : Nat) (v0 : Int32) : jM Int32 := jR v0
def fX7_place_30 (N : Nat) (a0 : Nat) : jM Int32 := fX7_place_31 N a0 (-1)
def fX7_place (N : Nat) (a0 : Nat) (x1 : Int32) (x2 : Int32) : jM Int32 := jB (jpI [7] 0 (some a0) 0) fun _ => jB (fX7_isText a0 x1) fun y1 => if y1 = 0 then (fX7_place_30 N a0) else (jB (fX7_isSkin a0 x2) fun y2 => if y2 = 0 then (fX7_place_30 N a0) else (jB (fX7_placeOf N a0 x1 x2) fun y3 => fX7_place_31 N a0 y3))
theorem wX7_place_31 {N : Nat} {r : Int32} (cx : jCx p s m args meth c cX7_place "WornSkinModel" 3 (Option.some Jvm.ClassFile.FieldType.int) D dA H0 hs.2.2.2.2) (e1 : h'.2.2.1 = hs.2.2.1 + mc) (e2 : h'.2.2.2.1 = hs.2.2.2.1 + ms) (a0 : Nat) (hth : jTh hs a0 7) : ∀ (v0 : Int32), ∀ (h : jH) (H : Heap) (locs : List Loc) (cells slots : Nat) (ls : Array Slot), (fX7_place_31 N a0 v0).1 h = some (r, h') → jS D dA H0 hs h H locs cells slots → lv_has ls 3 [(0, .ref a0)] → W p l e { frames := 2, cells := mc, slots := ms, locals := 47 } s m args below meth c H locs cells slots (jQ D dA H0 below s (.returned (some (.int r))) h' mc ms) (F0 m 31 ls [.int v0]) := by
  have hx := cx.1
  have hb := cx.2.1
  have hown := cx.2.2.2.1
  have hts := cx.2.2.2.2.1
  have hm : h'.2.2.1 ≤ hs.2.2.1 + mc ∧ h'.2.2.2.1 ≤ hs.2.2.2.1 + ms := ⟨Nat.le_of_eq e1, Nat.le_of_eq e2⟩
  intro v0 h H locs cells slots ls hf hS hl
  unfold fX7_place_31 at hf
  exact j_iret (pc := 31) cx hS hf e1 e2 dX7_place_31
theorem wX7_place_30 {N : Nat} {r : Int32} (cx : jCx p s m args meth c cX7_place "WornSkinModel" 3 (Option.some Jvm.ClassFile.FieldType.int) D dA H0 hs.2.2.2.2) (e1 : h'.2.2.1 = hs.2.2.1 + mc) (e2 : h'.2.2.2.1 = hs.2.2.2.1 + ms) (a0 : Nat) (hth : jTh hs a0 7) : ∀ (h : jH) (H : Heap) (locs : List Loc) (cells slots : Nat) (ls : Array Slot), (fX7_place_30 N a0).1 h = some (r, h') → jS D dA H0 hs h H locs cells slots → lv_has ls 3 [(0, .ref a0)] → W p l e { frames := 2, cells := mc, slots := ms, locals := 47 } s m args below meth c H locs cells slots (jQ D dA H0 below s (.returned (some (.int r))) h' mc ms) (F0 m 30 ls []) := by
  have hx := cx.1
  have hb := cx.2.1
  have hown := cx.2.2.2.1
  have hts := cx.2.2.2.2.1
  have hm : h'.2.2.1 ≤ hs.2.2.1 + mc ∧ h'.2.2.2.1 ≤ hs.2.2.2.1 + ms := ⟨Nat.le_of_eq e1, Nat.le_of_eq e2⟩
  intro h H locs cells slots ls hf hS hl
  unfold fX7_place_30 at hf
  refine lv_iconst (pc := 30) (v := (-1)) hx hb dX7_place_30 rfl ?_
  exact wX7_place_31 cx e1 e2 a0 hth _ _ _ _ _ _ _ hf hS hl
theorem wX7_place_0 {N : Nat} {r : Int32} (cx : jCx p s m args meth c cX7_place "WornSkinModel" 3 (Option.some Jvm.ClassFile.FieldType.int) D dA H0 hs.2.2.2.2) (e1 : h'.2.2.1 = hs.2.2.1 + mc) (e2 : h'.2.2.2.1 = hs.2.2.2.1 + ms) (a0 : Nat) (hth : jTh hs a0 7) : ∀ (x1 : Int32) (x2 : Int32), ∀ (h : jH) (H : Heap) (locs : List Loc) (cells slots : Nat) (ls : Array Slot), (fX7_place N a0 x1 x2).1 h = some (r, h') → jS D dA H0 hs h H locs cells slots → lv_has ls 3 [(0, .ref a0), (1, .int x1), (2, .int x2)] → W p l e { frames := 2, cells := mc, slots := ms, locals := 47 } s m args below meth c H locs cells slots (jQ D dA H0 below s (.returned (some (.int r))) h' mc ms) (F0 m 0 ls []) := by
  have hx := cx.1
  have hb := cx.2.1
  have hown := cx.2.2.2.1
  have hts := cx.2.2.2.2.1
  have hm : h'.2.2.1 ≤ hs.2.2.1 + mc ∧ h'.2.2.2.1 ≤ hs.2.2.2.1 + ms := ⟨Nat.le_of_eq e1, Nat.le_of_eq e2⟩
  intro x1 x2 h H locs cells slots ls hf hS hl
  unfold fX7_place at hf
  refine lv_aload_n (pc := 0) hx hb dX7_place_0 rfl (lv_at hl 0 rfl) ?_
  refine lv_iconst (pc := 1) (v := 0) hx hb dX7_place_1 rfl ?_
  refine j_pI (pc := 2) cx hS hf fp_WornSkinModel_thrown (Or.inl rfl) q1684 dX7_place_2 (fun h H locs hf hS => ?_)
  refine lv_aload_n (pc := 5) hx hb dX7_place_5 rfl (lv_at hl 0 rfl) ?_
  refine lv_iload_n (pc := 6) hx hb dX7_place_6 rfl (lv_at hl 1 rfl) ?_
  obtain ⟨y1, h1, e9, hf⟩ := jB_some hf
  refine j_callV (pc := 7) (st1 := [.int y1]) (As := [.int x1]) (rest := []) cx hS rfl hl.1 hm (metX7_isText l _ _ _ _ _ (hth.at hS) e9) (jle hf) (hth.at hS) rfl (lw_V q2071 q2073 qs89 q123 q2074) pdX7_isText rfl rfl (Nat.le_of_ble_eq_true rfl) ⟨Nat.le_of_ble_eq_true rfl, Nat.le_of_ble_eq_true rfl⟩ dX7_place_7 rfl (fun H locs cells slots hS => ?_)
  refine lv_if_eq (pc := 10) (tgt := 30) hx hb dX7_place_10 (by decide) (fun hc => ?_) (fun hc => ?_)
  · have hf := jI_t hf hc
    exact wX7_place_30 cx e1 e2 a0 hth _ _ _ _ _ _ hf hS (lv_sub hl [0] rfl)
  · have hf := jI_f hf hc
    refine lv_aload_n (pc := 13) hx hb dX7_place_13 rfl (lv_at hl 0 rfl) ?_
    refine lv_iload_n (pc := 14) hx hb dX7_place_14 rfl (lv_at hl 2 rfl) ?_
    obtain ⟨y2, h1, e9, hf⟩ := jB_some hf
    refine j_callV (pc := 15) (st1 := [.int y2]) (As := [.int x2]) (rest := []) cx hS rfl hl.1 hm (metX7_isSkin l _ _ _ _ _ (hth.at hS) e9) (jle hf) (hth.at hS) rfl (lw_V q2031 q2033 qs80 q123 q2034) pdX7_isSkin rfl rfl (Nat.le_of_ble_eq_true rfl) ⟨Nat.le_of_ble_eq_true rfl, Nat.le_of_ble_eq_true rfl⟩ dX7_place_15 rfl (fun H locs cells slots hS => ?_)
    refine lv_if_eq (pc := 18) (tgt := 30) hx hb dX7_place_18 (by decide) (fun hc => ?_) (fun hc => ?_)
    · have hf := jI_t hf hc
      exact wX7_place_30 cx e1 e2 a0 hth _ _ _ _ _ _ hf hS (lv_sub hl [0] rfl)
    · have hf := jI_f hf hc
      refine lv_aload_n (pc := 21) hx hb dX7_place_21 rfl (lv_at hl 0 rfl) ?_
      refine lv_iload_n (pc := 22) hx hb dX7_place_22 rfl (lv_at hl 1 rfl) ?_
      refine lv_iload_n (pc := 23) hx hb dX7_place_23 rfl (lv_at hl 2 rfl) ?_
      obtain ⟨y3, h1, e9, hf⟩ := jB_some hf
      refine j_callV (pc := 24) (st1 := [.int y3]) (As := [.int x1, .int x2]) (rest := []) cx hS rfl hl.1 hm (metX7_placeOf l _ _ _ _ _ _ _ (hth.at hS) e9) (jle hf) (hth.at hS) rfl (lw_V q2196 q2198 qs102 q123 q2199) pdX7_placeOf rfl rfl (Nat.le_of_ble_eq_true rfl) ⟨Nat.le_of_ble_eq_true rfl, Nat.le_of_ble_eq_true rfl⟩ dX7_place_24 rfl (fun H locs cells slots hS => ?_)
      refine lv_goto (pc := 27) (tgt := 31) hx hb dX7_place_27 (by decide) ?_
      exact wX7_place_31 cx e1 e2 a0 hth _ _ _ _ _ _ _ hf hS (lv_sub hl [0] rfl)
theorem metX7_place (l : Launch) (N : Nat) (a0 : Nat) (x1 : Int32) (x2 : Int32) (h h' : jH) (r : Int32) (hth : jcd h a0 = some 7) (hf : (fX7_place N a0 x1 x2).1 h = some (r, h')) : jMet l yX7_place (ws_ yX7_place cX7_place 3 (Option.some Jvm.ClassFile.FieldType.int)) (2) (47) [.ref a0, .int x1, .int x2] h h' (.returned (some (.int r))) := by
  refine jStart rfl (jle hf) (Nat.le_of_ble_eq_true rfl) ?_
  intro p e s m below meth c D dA H0 mc ms ls cx hnm e1 e2 hS hl
  have hth := jTh.mk hS hth
  exact wX7_place_0 cx e1 e2 a0 hth _ _ _ _ _ _ _ _ hf hS hl
def fX7_costBy_87 (N : Nat) (a0 : Nat) (v0 : Int32) : jM Int32 := jR v0
def fX7_costBy_61 (N : Nat) (a0 : Nat) (x4 : Int32) (v0 : Int32) : jM Int32 := jB (jgR [7] 50 (some a0)) fun y1 => jB (jgR [7] 48 (some a0)) fun y2 => jB (fX7_copies N y1 0 y2 0) fun _ => if v0 = 0 then (fX7_costBy_87 N a0 (-1)) else (fX7_costBy_87 N a0 x4)
def fX7_costBy_26 (N : Nat) (a0 : Nat) : jM Int32 := jR (-1)
def fX7_costBy (N : Nat) (a0 : Nat) (x1 : Int32) (x2 : Int32) (x3 : Int32) : jM Int32 := jB (fX7_scrapedBy N a0 x2 x3) fun y1 => if y1 = 0 then (fX7_costBy_26 N a0) else (jB (jgR [7] 48 (some a0)) fun y2 => jB (jaI 0 y2 (1 + x2)) fun y3 => if y1 < y3 then (jB (jgR [7] 48 (some a0)) fun y4 => jB (jgR [7] 50 (some a0)) fun y5 => jB (fX7_copies N y4 0 y5 0) fun _ => jB (fX7_scrapes N a0 x2 x3) fun _ => jB (fX7_placeOf N a0 x1 x2) fun y8 => if y8 < 0 then (fX7_costBy_61 N a0 y1 0) else (fX7_costBy_61 N a0 y1 1)) else (fX7_costBy_26 N a0))
theorem wX7_costBy_87 {N : Nat} {r : Int32} (cx : jCx p s m args meth c cX7_costBy "WornSkinModel" 6 (Option.some Jvm.ClassFile.FieldType.int) D dA H0 hs.2.2.2.2) (e1 : h'.2.2.1 = hs.2.2.1 + mc) (e2 : h'.2.2.2.1 = hs.2.2.2.1 + ms) (a0 : Nat) (hth : jTh hs a0 7) : ∀ (v0 : Int32), ∀ (h : jH) (H : Heap) (locs : List Loc) (cells slots : Nat) (ls : Array Slot), (fX7_costBy_87 N a0 v0).1 h = some (r, h') → jS D dA H0 hs h H locs cells slots → lv_has ls 6 [(0, .ref a0)] → W p l e { frames := 2, cells := mc, slots := ms, locals := 50 } s m args below meth c H locs cells slots (jQ D dA H0 below s (.returned (some (.int r))) h' mc ms) (F0 m 87 ls [.int v0]) := by
  have hx := cx.1
  have hb := cx.2.1
  have hown := cx.2.2.2.1
  have hts := cx.2.2.2.2.1
  have hm : h'.2.2.1 ≤ hs.2.2.1 + mc ∧ h'.2.2.2.1 ≤ hs.2.2.2.1 + ms := ⟨Nat.le_of_eq e1, Nat.le_of_eq e2⟩
  intro v0 h H locs cells slots ls hf hS hl
  unfold fX7_costBy_87 at hf
  exact j_iret (pc := 87) cx hS hf e1 e2 dX7_costBy_87
theorem wX7_costBy_61 {N : Nat} {r : Int32} (cx : jCx p s m args meth c cX7_costBy "WornSkinModel" 6 (Option.some Jvm.ClassFile.FieldType.int) D dA H0 hs.2.2.2.2) (e1 : h'.2.2.1 = hs.2.2.1 + mc) (e2 : h'.2.2.2.1 = hs.2.2.2.1 + ms) (a0 : Nat) (hth : jTh hs a0 7) : ∀ (x4 : Int32) (v0 : Int32), ∀ (h : jH) (H : Heap) (locs : List Loc) (cells slots : Nat) (ls : Array Slot), (fX7_costBy_61 N a0 x4 v0).1 h = some (r, h') → jS D dA H0 hs h H locs cells slots → lv_has ls 6 [(0, .ref a0), (4, .int x4)] → W p l e { frames := 2, cells := mc, slots := ms, locals := 50 } s m args below meth c H locs cells slots (jQ D dA H0 below s (.returned (some (.int r))) h' mc ms) (F0 m 61 ls [.int v0]) := by
  have hx := cx.1
  have hb := cx.2.1
  have hown := cx.2.2.2.1
  have hts := cx.2.2.2.2.1
  have hm : h'.2.2.1 ≤ hs.2.2.1 + mc ∧ h'.2.2.2.1 ≤ hs.2.2.2.1 + ms := ⟨Nat.le_of_eq e1, Nat.le_of_eq e2⟩
  intro x4 v0 h H locs cells slots ls hf hS hl
  unfold fX7_costBy_61 at hf
  refine lv_istore (pc := 61) (i := 5) (lv' := [(5, .int v0), (0, .ref a0), (4, .int x4)]) hx hb dX7_costBy_61 hl (Nat.le_of_ble_eq_true rfl) rfl (fun ls hl => ?_)
  refine lv_aload_n (pc := 63) hx hb dX7_costBy_63 rfl (lv_at hl 1 rfl) ?_
  refine j_gR (pc := 64) cx hS hf fd_WornSkinModel_before q1734 dX7_costBy_64 (fun y1 hf => ?_)
  refine lv_iconst (pc := 67) (v := 0) hx hb dX7_costBy_67 rfl ?_
  refine lv_aload_n (pc := 68) hx hb dX7_costBy_68 rfl (lv_at hl 1 rfl) ?_
  refine j_gR (pc := 69) cx hS hf fd_WornSkinModel_s q1732 dX7_costBy_69 (fun y2 hf => ?_)
  refine lv_iconst (pc := 72) (v := 0) hx hb dX7_costBy_72 rfl ?_
  obtain ⟨_, h1, e9, hf⟩ := jB_some hf
  refine j_callS (pc := 73) (st1 := []) (As := [va_rf y1, .int 0, va_rf y2, .int 0]) (rest := []) cx hS rfl hl.1 hm (metX7_copies l _ _ _ _ _ _ _ _ e9) (jle hf) (lw_S q2125 q2126 q123 q2127) pdX7_copies rfl rfl (Nat.le_of_ble_eq_true rfl) ⟨Nat.le_of_ble_eq_true rfl, Nat.le_of_ble_eq_true rfl⟩ dX7_costBy_73 rfl (fun H locs cells slots hS => ?_)
  refine lv_iload (pc := 76) hx hb dX7_costBy_76 (lv_at hl 0 rfl) ?_
  refine lv_if_eq (pc := 78) (tgt := 86) hx hb dX7_costBy_78 (by decide) (fun hc => ?_) (fun hc => ?_)
  · have hf := jI_t hf hc
    refine lv_iconst (pc := 86) (v := (-1)) hx hb dX7_costBy_86 rfl ?_
    exact wX7_costBy_87 cx e1 e2 a0 hth _ _ _ _ _ _ _ hf hS (lv_sub hl [1] rfl)
  · have hf := jI_f hf hc
    refine lv_iload (pc := 81) hx hb dX7_costBy_81 (lv_at hl 2 rfl) ?_
    refine lv_goto (pc := 83) (tgt := 87) hx hb dX7_costBy_83 (by decide) ?_
    exact wX7_costBy_87 cx e1 e2 a0 hth _ _ _ _ _ _ _ hf hS (lv_sub hl [1] rfl)
theorem wX7_costBy_26 {N : Nat} {r : Int32} (cx : jCx p s m args meth c cX7_costBy "WornSkinModel" 6 (Option.some Jvm.ClassFile.FieldType.int) D dA H0 hs.2.2.2.2) (e1 : h'.2.2.1 = hs.2.2.1 + mc) (e2 : h'.2.2.2.1 = hs.2.2.2.1 + ms) (a0 : Nat) (hth : jTh hs a0 7) : ∀ (h : jH) (H : Heap) (locs : List Loc) (cells slots : Nat) (ls : Array Slot), (fX7_costBy_26 N a0).1 h = some (r, h') → jS D dA H0 hs h H locs cells slots → lv_has ls 6 [(0, .ref a0)] → W p l e { frames := 2, cells := mc, slots := ms, locals := 50 } s m args below meth c H locs cells slots (jQ D dA H0 below s (.returned (some (.int r))) h' mc ms) (F0 m 26 ls []) := by
  have hx := cx.1
  have hb := cx.2.1
  have hown := cx.2.2.2.1
  have hts := cx.2.2.2.2.1
  have hm : h'.2.2.1 ≤ hs.2.2.1 + mc ∧ h'.2.2.2.1 ≤ hs.2.2.2.1 + ms := ⟨Nat.le_of_eq e1, Nat.le_of_eq e2⟩
  intro h H locs cells slots ls hf hS hl
  unfold fX7_costBy_26 at hf
  refine lv_iconst (pc := 26) (v := (-1)) hx hb dX7_costBy_26 rfl ?_
  exact j_iret (pc := 27) cx hS hf e1 e2 dX7_costBy_27
theorem wX7_costBy_0 {N : Nat} {r : Int32} (cx : jCx p s m args meth c cX7_costBy "WornSkinModel" 6 (Option.some Jvm.ClassFile.FieldType.int) D dA H0 hs.2.2.2.2) (e1 : h'.2.2.1 = hs.2.2.1 + mc) (e2 : h'.2.2.2.1 = hs.2.2.2.1 + ms) (a0 : Nat) (hth : jTh hs a0 7) : ∀ (x1 : Int32) (x2 : Int32) (x3 : Int32), ∀ (h : jH) (H : Heap) (locs : List Loc) (cells slots : Nat) (ls : Array Slot), (fX7_costBy N a0 x1 x2 x3).1 h = some (r, h') → jS D dA H0 hs h H locs cells slots → lv_has ls 6 [(0, .ref a0), (1, .int x1), (2, .int x2), (3, .int x3)] → W p l e { frames := 2, cells := mc, slots := ms, locals := 50 } s m args below meth c H locs cells slots (jQ D dA H0 below s (.returned (some (.int r))) h' mc ms) (F0 m 0 ls []) := by
  have hx := cx.1
  have hb := cx.2.1
  have hown := cx.2.2.2.1
  have hts := cx.2.2.2.2.1
  have hm : h'.2.2.1 ≤ hs.2.2.1 + mc ∧ h'.2.2.2.1 ≤ hs.2.2.2.1 + ms := ⟨Nat.le_of_eq e1, Nat.le_of_eq e2⟩
  intro x1 x2 x3 h H locs cells slots ls hf hS hl
  unfold fX7_costBy at hf
  refine lv_aload_n (pc := 0) hx hb dX7_costBy_0 rfl (lv_at hl 0 rfl) ?_
  refine lv_iload_n (pc := 1) hx hb dX7_costBy_1 rfl (lv_at hl 2 rfl) ?_
  refine lv_iload_n (pc := 2) hx hb dX7_costBy_2 rfl (lv_at hl 3 rfl) ?_
  obtain ⟨y1, h1, e9, hf⟩ := jB_some hf
  refine j_callV (pc := 3) (st1 := [.int y1]) (As := [.int x2, .int x3]) (rest := []) cx hS rfl hl.1 hm (metX7_scrapedBy l _ _ _ _ _ _ _ (hth.at hS) e9) (jle hf) (hth.at hS) rfl (lw_V q2140 q2142 qs98 q123 q2143) pdX7_scrapedBy rfl rfl (Nat.le_of_ble_eq_true rfl) ⟨Nat.le_of_ble_eq_true rfl, Nat.le_of_ble_eq_true rfl⟩ dX7_costBy_3 rfl (fun H locs cells slots hS => ?_)
  refine lv_istore (pc := 6) (i := 4) (lv' := [(4, .int y1), (0, .ref a0), (1, .int x1), (2, .int x2), (3, .int x3)]) hx hb dX7_costBy_6 hl (Nat.le_of_ble_eq_true rfl) rfl (fun ls hl => ?_)
  refine lv_iload (pc := 8) hx hb dX7_costBy_8 (lv_at hl 0 rfl) ?_
  refine lv_if_eq (pc := 10) (tgt := 26) hx hb dX7_costBy_10 (by decide) (fun hc => ?_) (fun hc => ?_)
  · have hf := jI_t hf hc
    exact wX7_costBy_26 cx e1 e2 a0 hth _ _ _ _ _ _ hf hS (lv_sub hl [1] rfl)
  · have hf := jI_f hf hc
    refine lv_iload (pc := 13) hx hb dX7_costBy_13 (lv_at hl 0 rfl) ?_
    refine lv_aload_n (pc := 15) hx hb dX7_costBy_15 rfl (lv_at hl 1 rfl) ?_
    refine j_gR (pc := 16) cx hS hf fd_WornSkinModel_s q1732 dX7_costBy_16 (fun y2 hf => ?_)
    refine lv_iconst (pc := 19) (v := 1) hx hb dX7_costBy_19 rfl ?_
    refine lv_iload_n (pc := 20) hx hb dX7_costBy_20 rfl (lv_at hl 3 rfl) ?_
    refine lv_iadd (pc := 21) hx hb dX7_costBy_21 ?_
    refine j_aI (pc := 22) cx hS hf rfl dX7_costBy_22 (fun y3 hf => ?_)
    refine lv_icmp_lt (pc := 23) (tgt := 28) hx hb dX7_costBy_23 (by decide) (fun hc => ?_) (fun hc => ?_)
    · have hf := jI_t hf hc
      refine lv_aload_n (pc := 28) hx hb dX7_costBy_28 rfl (lv_at hl 1 rfl) ?_
      refine j_gR (pc := 29) cx hS hf fd_WornSkinModel_s q1732 dX7_costBy_29 (fun y4 hf => ?_)
      refine lv_iconst (pc := 32) (v := 0) hx hb dX7_costBy_32 rfl ?_
      refine lv_aload_n (pc := 33) hx hb dX7_costBy_33 rfl (lv_at hl 1 rfl) ?_
      refine j_gR (pc := 34) cx hS hf fd_WornSkinModel_before q1734 dX7_costBy_34 (fun y5 hf => ?_)
      refine lv_iconst (pc := 37) (v := 0) hx hb dX7_costBy_37 rfl ?_
      obtain ⟨_, h1, e9, hf⟩ := jB_some hf
      refine j_callS (pc := 38) (st1 := []) (As := [va_rf y4, .int 0, va_rf y5, .int 0]) (rest := []) cx hS rfl hl.1 hm (metX7_copies l _ _ _ _ _ _ _ _ e9) (jle hf) (lw_S q2125 q2126 q123 q2127) pdX7_copies rfl rfl (Nat.le_of_ble_eq_true rfl) ⟨Nat.le_of_ble_eq_true rfl, Nat.le_of_ble_eq_true rfl⟩ dX7_costBy_38 rfl (fun H locs cells slots hS => ?_)
      refine lv_aload_n (pc := 41) hx hb dX7_costBy_41 rfl (lv_at hl 1 rfl) ?_
      refine lv_iload_n (pc := 42) hx hb dX7_costBy_42 rfl (lv_at hl 3 rfl) ?_
      refine lv_iload_n (pc := 43) hx hb dX7_costBy_43 rfl (lv_at hl 4 rfl) ?_
      obtain ⟨_, h1, e9, hf⟩ := jB_some hf
      refine j_callV (pc := 44) (st1 := []) (As := [.int x2, .int x3]) (rest := []) cx hS rfl hl.1 hm (metX7_scrapes l _ _ _ _ _ _ _ (hth.at hS) e9) (jle hf) (hth.at hS) rfl (lw_V q2144 q2146 qs99 q123 q2147) pdX7_scrapes rfl rfl (Nat.le_of_ble_eq_true rfl) ⟨Nat.le_of_ble_eq_true rfl, Nat.le_of_ble_eq_true rfl⟩ dX7_costBy_44 rfl (fun H locs cells slots hS => ?_)
      refine lv_aload_n (pc := 47) hx hb dX7_costBy_47 rfl (lv_at hl 1 rfl) ?_
      refine lv_iload_n (pc := 48) hx hb dX7_costBy_48 rfl (lv_at hl 2 rfl) ?_
      refine lv_iload_n (pc := 49) hx hb dX7_costBy_49 rfl (lv_at hl 3 rfl) ?_
      obtain ⟨y8, h1, e9, hf⟩ := jB_some hf
      refine j_callV (pc := 50) (st1 := [.int y8]) (As := [.int x1, .int x2]) (rest := []) cx hS rfl hl.1 hm (metX7_placeOf l _ _ _ _ _ _ _ (hth.at hS) e9) (jle hf) (hth.at hS) rfl (lw_V q2196 q2198 qs102 q123 q2199) pdX7_placeOf rfl rfl (Nat.le_of_ble_eq_true rfl) ⟨Nat.le_of_ble_eq_true rfl, Nat.le_of_ble_eq_true rfl⟩ dX7_costBy_50 rfl (fun H locs cells slots hS => ?_)
      refine lv_if_lt (pc := 53) (tgt := 60) hx hb dX7_costBy_53 (by decide) (fun hc => ?_) (fun hc => ?_)
      · have hf := jI_t hf hc
        refine lv_iconst (pc := 60) (v := 0) hx hb dX7_costBy_60 rfl ?_
        exact wX7_costBy_61 cx e1 e2 a0 hth _ _ _ _ _ _ _ _ hf hS (lv_sub hl [1, 0] rfl)
      · have hf := jI_f hf hc
        refine lv_iconst (pc := 56) (v := 1) hx hb dX7_costBy_56 rfl ?_
        refine lv_goto (pc := 57) (tgt := 61) hx hb dX7_costBy_57 (by decide) ?_
        exact wX7_costBy_61 cx e1 e2 a0 hth _ _ _ _ _ _ _ _ hf hS (lv_sub hl [1, 0] rfl)
    · have hf := jI_f hf hc
      exact wX7_costBy_26 cx e1 e2 a0 hth _ _ _ _ _ _ hf hS (lv_sub hl [1] rfl)
theorem metX7_costBy (l : Launch) (N : Nat) (a0 : Nat) (x1 : Int32) (x2 : Int32) (x3 : Int32) (h h' : jH) (r : Int32) (hth : jcd h a0 = some 7) (hf : (fX7_costBy N a0 x1 x2 x3).1 h = some (r, h')) : jMet l yX7_costBy (ws_ yX7_costBy cX7_costBy 6 (Option.some Jvm.ClassFile.FieldType.int)) (2) (50) [.ref a0, .int x1, .int x2, .int x3] h h' (.returned (some (.int r))) := by
  refine jStart rfl (jle hf) (Nat.le_of_ble_eq_true rfl) ?_
  intro p e s m below meth c D dA H0 mc ms ls cx hnm e1 e2 hS hl
  have hth := jTh.mk hS hth
  exact wX7_costBy_0 cx e1 e2 a0 hth _ _ _ _ _ _ _ _ _ hf hS hl
end
