set_option maxRecDepth 100000
section
variable {p : Program} {l : Launch} {e : Env} {s : State} {m : MethodId} {args : Array Value} {below : List Frame} {meth : Method} {c : Code} {D : va_G} {dA : Nat → ClassId → Prop} {H0 : Heap} {hs h' : jH} {mc ms : Nat}
def fX2_year_94 (N : Nat) (a0 : Nat) (x2 : Option Nat) : jM (Option Nat ⊕ Nat) := jR (.inl x2)
def fX2_year_59 (N : Nat) (a0 : Nat) : jM (Option Nat ⊕ Nat) := jB (fX2_wrong a0 5) fun y1 => jB (jnn0 y1) fun b2 => jR (.inr b2)
def fX2_year_44 (N : Nat) (a0 : Nat) : jM (Option Nat ⊕ Nat) := jB (fX2_wrong a0 1) fun y1 => jB (jnn0 y1) fun b2 => jR (.inr b2)
def fX2_year_18 (N : Nat) (a0 : Nat) : Nat → Option Nat → jM (Option Nat ⊕ Nat)
  | 0, _ => jE
  | n + 1, x2 => jB (jgR [1] 8 (some a0)) fun y1 => jB (jgI [1] 11 (some a0)) fun y2 => jB (jaI 0 y1 y2) fun y3 => if y3 = 0 then (fX2_year_94 N a0 x2) else (jB (jgR [1] 4 (some a0)) fun y4 => jB (fX2_which N a0 y4) fun y5 => if y5 = (-1) then (fX2_year_44 N a0) else (jB (jrc 4 x2) fun b7 => jB (fJ2_size b7) fun y6 => if y6 = 40 then (fX2_year_59 N a0) else (jB (jgI [1] 11 (some a0)) fun y8 => jB (jpI [1] 11 (some a0) (y8 + 1)) fun _ => jBT (fX2_line N a0 y5) fun y9 => jB (jrc 4 x2) fun b11 => jB (fJ2_add b11 y9) fun y10 => jBT (fX2_sign a0 59) fun _ => fX2_year_18 N a0 n x2)))
def fX2_year (N : Nat) (a0 : Nat) (x1 : Option Nat) : jM (Option Nat ⊕ Nat) := jB (fX2_cut N a0) fun _ => jB (jpR [1] 5 (some a0) x1) fun _ => jB (jnw 4 3 [.int 0, .null, .int 0]) fun q2 => jB (fJ2_init q2 2) fun _ => fX2_year_18 N a0 N (some q2)
theorem wX2_year_94 {N : Nat} {r : Option Nat ⊕ Nat} (cx : jCx p s m args meth c cX2_year "WornSkin$Reader" 4 (Option.some (Jvm.ClassFile.FieldType.object "java/util/ArrayList")) D dA H0 hs.2.2.2.2) (e1 : h'.2.2.1 = hs.2.2.1 + mc) (e2 : h'.2.2.2.1 = hs.2.2.2.1 + ms) (hfl : l.stackTraces = false) (ht : c.exceptionTable.toList = []) (a0 : Nat) (hth : jTh hs a0 1) : ∀ (x2 : Option Nat), ∀ (h : jH) (H : Heap) (locs : List Loc) (cells slots : Nat) (ls : Array Slot), (fX2_year_94 N a0 x2).1 h = some (r, h') → jS D dA H0 hs h H locs cells slots → lv_has ls 4 [(0, .ref a0), (2, va_rf x2)] → W p l e { frames := 10, cells := mc, slots := ms, locals := 216 } s m args below meth c H locs cells slots (jQ D dA H0 below s (jOc (fun v => some (va_rf v)) r) h' mc ms) (F0 m 94 ls []) := by
  have hx := cx.1
  have hb := cx.2.1
  have hown := cx.2.2.2.1
  have hts := cx.2.2.2.2.1
  have hm : h'.2.2.1 ≤ hs.2.2.1 + mc ∧ h'.2.2.2.1 ≤ hs.2.2.2.1 + ms := ⟨Nat.le_of_eq e1, Nat.le_of_eq e2⟩
  intro x2 h H locs cells slots ls hf hS hl
  unfold fX2_year_94 at hf
  refine j_aload_n (pc := 94) (r := x2) hx hb dX2_year_94 rfl (lv_at hl 1 rfl) ?_
  exact j_aretT (pc := 95) cx hS hf (Or.inl ⟨_, rfl⟩) e1 e2 dX2_year_95
theorem wX2_year_59 {N : Nat} {r : Option Nat ⊕ Nat} (cx : jCx p s m args meth c cX2_year "WornSkin$Reader" 4 (Option.some (Jvm.ClassFile.FieldType.object "java/util/ArrayList")) D dA H0 hs.2.2.2.2) (e1 : h'.2.2.1 = hs.2.2.1 + mc) (e2 : h'.2.2.2.1 = hs.2.2.2.1 + ms) (hfl : l.stackTraces = false) (ht : c.exceptionTable.toList = []) (a0 : Nat) (hth : jTh hs a0 1) : ∀ (h : jH) (H : Heap) (locs : List Loc) (cells slots : Nat) (ls : Array Slot), (fX2_year_59 N a0).1 h = some (r, h') → jS D dA H0 hs h H locs cells slots → lv_has ls 4 [(0, .ref a0)] → W p l e { frames := 10, cells := mc, slots := ms, locals := 216 } s m args below meth c H locs cells slots (jQ D dA H0 below s (jOc (fun v => some (va_rf v)) r) h' mc ms) (F0 m 59 ls []) := by
  have hx := cx.1
  have hb := cx.2.1
  have hown := cx.2.2.2.1
  have hts := cx.2.2.2.2.1
  have hm : h'.2.2.1 ≤ hs.2.2.1 + mc ∧ h'.2.2.2.1 ≤ hs.2.2.2.1 + ms := ⟨Nat.le_of_eq e1, Nat.le_of_eq e2⟩
  intro h H locs cells slots ls hf hS hl
  unfold fX2_year_59 at hf
  refine lv_aload_n (pc := 59) hx hb dX2_year_59 rfl (lv_at hl 0 rfl) ?_
  refine lv_iconst (pc := 60) (v := 5) hx hb dX2_year_60 rfl ?_
  obtain ⟨y1, h1, e9, hf⟩ := jB_some hf
  refine j_callV (pc := 61) (st1 := [va_rf y1]) (As := [.int 5]) (rest := []) cx hS rfl hl.1 hm (metX2_wrong l hfl _ _ _ _ _ (hth.at hS) e9) (jle hf) (hth.at hS) rfl (lw_V q617 q619 qs5 q113 q620) pdX2_wrong rfl rfl (Nat.le_of_ble_eq_true rfl) ⟨Nat.le_of_ble_eq_true rfl, Nat.le_of_ble_eq_true rfl⟩ dX2_year_61 rfl (fun H locs cells slots hS => ?_)
  exact j_athrow (pc := 64) (r := y1) cx hS ht hf e1 e2 dX2_year_64
theorem wX2_year_44 {N : Nat} {r : Option Nat ⊕ Nat} (cx : jCx p s m args meth c cX2_year "WornSkin$Reader" 4 (Option.some (Jvm.ClassFile.FieldType.object "java/util/ArrayList")) D dA H0 hs.2.2.2.2) (e1 : h'.2.2.1 = hs.2.2.1 + mc) (e2 : h'.2.2.2.1 = hs.2.2.2.1 + ms) (hfl : l.stackTraces = false) (ht : c.exceptionTable.toList = []) (a0 : Nat) (hth : jTh hs a0 1) : ∀ (h : jH) (H : Heap) (locs : List Loc) (cells slots : Nat) (ls : Array Slot), (fX2_year_44 N a0).1 h = some (r, h') → jS D dA H0 hs h H locs cells slots → lv_has ls 4 [(0, .ref a0)] → W p l e { frames := 10, cells := mc, slots := ms, locals := 216 } s m args below meth c H locs cells slots (jQ D dA H0 below s (jOc (fun v => some (va_rf v)) r) h' mc ms) (F0 m 44 ls []) := by
  have hx := cx.1
  have hb := cx.2.1
  have hown := cx.2.2.2.1
  have hts := cx.2.2.2.2.1
  have hm : h'.2.2.1 ≤ hs.2.2.1 + mc ∧ h'.2.2.2.1 ≤ hs.2.2.2.1 + ms := ⟨Nat.le_of_eq e1, Nat.le_of_eq e2⟩
  intro h H locs cells slots ls hf hS hl
  unfold fX2_year_44 at hf
  refine lv_aload_n (pc := 44) hx hb dX2_year_44 rfl (lv_at hl 0 rfl) ?_
  refine lv_iconst (pc := 45) (v := 1) hx hb dX2_year_45 rfl ?_
  obtain ⟨y1, h1, e9, hf⟩ := jB_some hf
  refine j_callV (pc := 46) (st1 := [va_rf y1]) (As := [.int 1]) (rest := []) cx hS rfl hl.1 hm (metX2_wrong l hfl _ _ _ _ _ (hth.at hS) e9) (jle hf) (hth.at hS) rfl (lw_V q617 q619 qs5 q113 q620) pdX2_wrong rfl rfl (Nat.le_of_ble_eq_true rfl) ⟨Nat.le_of_ble_eq_true rfl, Nat.le_of_ble_eq_true rfl⟩ dX2_year_46 rfl (fun H locs cells slots hS => ?_)
  exact j_athrow (pc := 49) (r := y1) cx hS ht hf e1 e2 dX2_year_49
theorem wX2_year_18 {N : Nat} {r : Option Nat ⊕ Nat} (cx : jCx p s m args meth c cX2_year "WornSkin$Reader" 4 (Option.some (Jvm.ClassFile.FieldType.object "java/util/ArrayList")) D dA H0 hs.2.2.2.2) (e1 : h'.2.2.1 = hs.2.2.1 + mc) (e2 : h'.2.2.2.1 = hs.2.2.2.1 + ms) (hfl : l.stackTraces = false) (ht : c.exceptionTable.toList = []) (a0 : Nat) (hth : jTh hs a0 1) : ∀ (n : Nat) (x2 : Option Nat), ∀ (h : jH) (H : Heap) (locs : List Loc) (cells slots : Nat) (ls : Array Slot), (fX2_year_18 N a0 n x2).1 h = some (r, h') → jS D dA H0 hs h H locs cells slots → lv_has ls 4 [(0, .ref a0), (2, va_rf x2)] → W p l e { frames := 10, cells := mc, slots := ms, locals := 216 } s m args below meth c H locs cells slots (jQ D dA H0 below s (jOc (fun v => some (va_rf v)) r) h' mc ms) (F0 m 18 ls []) := by
  have hx := cx.1
  have hb := cx.2.1
  have hown := cx.2.2.2.1
  have hts := cx.2.2.2.2.1
  have hm : h'.2.2.1 ≤ hs.2.2.1 + mc ∧ h'.2.2.2.1 ≤ hs.2.2.2.1 + ms := ⟨Nat.le_of_eq e1, Nat.le_of_eq e2⟩
  intro n
  induction n with
  | zero =>
    intro x2 h H locs cells slots ls hf hS hl
    exact jE_f hf
  | succ n ih =>
    intro x2 h H locs cells slots ls hf hS hl
    unfold fX2_year_18 at hf
    refine lv_aload_n (pc := 18) hx hb dX2_year_18 rfl (lv_at hl 0 rfl) ?_
    refine j_gR (pc := 19) cx hS hf fd_WornSkin_Reader_sort q214 dX2_year_19 (fun y1 hf => ?_)
    refine lv_aload_n (pc := 22) hx hb dX2_year_22 rfl (lv_at hl 0 rfl) ?_
    refine j_gI (pc := 23) cx hS hf fd_WornSkin_Reader_at q217 dX2_year_23 (fun y2 hf => ?_)
    refine j_aI (pc := 26) cx hS hf rfl dX2_year_26 (fun y3 hf => ?_)
    refine lv_if_eq (pc := 27) (tgt := 94) hx hb dX2_year_27 (by decide) (fun hc => ?_) (fun hc => ?_)
    · have hf := jI_t hf hc
      exact wX2_year_94 cx e1 e2 hfl ht a0 hth _ _ _ _ _ _ _ hf hS hl
    · have hf := jI_f hf hc
      refine lv_aload_n (pc := 30) hx hb dX2_year_30 rfl (lv_at hl 0 rfl) ?_
      refine lv_aload_n (pc := 31) hx hb dX2_year_31 rfl (lv_at hl 0 rfl) ?_
      refine j_gR (pc := 32) cx hS hf fd_WornSkin_Reader_acts q209 dX2_year_32 (fun y4 hf => ?_)
      obtain ⟨y5, h1, e9, hf⟩ := jB_some hf
      refine j_callV (pc := 35) (st1 := [.int y5]) (As := [va_rf y4]) (rest := []) cx hS rfl hl.1 hm (metX2_which l _ _ _ _ _ _ (hth.at hS) e9) (jle hf) (hth.at hS) rfl (lw_V q686 q688 qs8 q113 q689) pdX2_which rfl rfl (Nat.le_of_ble_eq_true rfl) ⟨Nat.le_of_ble_eq_true rfl, Nat.le_of_ble_eq_true rfl⟩ dX2_year_35 rfl (fun H locs cells slots hS => ?_)
      refine lv_istore_n (pc := 38) (i := 3) (lv' := [(3, .int y5), (0, .ref a0), (2, va_rf x2)]) hx hb dX2_year_38 rfl hl (Nat.le_of_ble_eq_true rfl) (by cases x2 <;> rfl) (fun ls hl => ?_)
      refine lv_iload_n (pc := 39) hx hb dX2_year_39 rfl (lv_at hl 0 rfl) ?_
      refine lv_iconst (pc := 40) (v := (-1)) hx hb dX2_year_40 rfl ?_
      refine lv_icmp_ne (pc := 41) (tgt := 50) hx hb dX2_year_41 (by decide) (fun hc => ?_) (fun hc => ?_)
      · have hf := jI_f hf hc
        refine j_aload_n (pc := 50) (r := x2) hx hb dX2_year_50 rfl (lv_at hl 2 rfl) ?_
        obtain ⟨b7, eb, hrc, hf⟩ := jrc_s hf
        refine j_nn (pc := 51) eb [] [] rfl ?_
        obtain ⟨y6, h1, e9, hf⟩ := jB_some hf
        refine j_callV (pc := 51) (st1 := [.int y6]) (As := []) (rest := []) cx hS rfl hl.1 hm (metJ2_size l _ _ _ _ hrc e9) (jle hf) hrc rfl (lw_V q612 q376 q377 q118 q378) pdJ2_size rfl rfl (Nat.le_of_ble_eq_true rfl) ⟨Nat.le_of_ble_eq_true rfl, Nat.le_of_ble_eq_true rfl⟩ dX2_year_51 rfl (fun H locs cells slots hS => ?_)
        refine lv_bipush (pc := 54) (v := 40) hx hb dX2_year_54 rfl ?_
        refine lv_icmp_ne (pc := 56) (tgt := 65) hx hb dX2_year_56 (by decide) (fun hc => ?_) (fun hc => ?_)
        · have hf := jI_f hf hc
          refine lv_aload_n (pc := 65) hx hb dX2_year_65 rfl (lv_at hl 1 rfl) ?_
          refine lv_dup (pc := 66) hx hb dX2_year_66 rfl ?_
          refine j_gI (pc := 67) cx hS hf fd_WornSkin_Reader_at q217 dX2_year_67 (fun y8 hf => ?_)
          refine lv_iconst (pc := 70) (v := 1) hx hb dX2_year_70 rfl ?_
          refine lv_iadd (pc := 71) hx hb dX2_year_71 ?_
          refine j_pI (pc := 72) cx hS hf fp_WornSkin_Reader_at (Or.inl rfl) q217 dX2_year_72 (fun h H locs hf hS => ?_)
          refine j_aload_n (pc := 75) (r := x2) hx hb dX2_year_75 rfl (lv_at hl 2 rfl) ?_
          refine lv_aload_n (pc := 76) hx hb dX2_year_76 rfl (lv_at hl 1 rfl) ?_
          refine lv_iload_n (pc := 77) hx hb dX2_year_77 rfl (lv_at hl 0 rfl) ?_
          rcases jBT_some hf with ⟨y9, h1, e9, hf⟩ | ⟨x9, e9, ez⟩
          rotate_left
          · have ez : r = .inr x9 := ez
            subst ez
            exact j_callVX (pc := 78) (z := ((), h')) (As := [.int y5]) (rest := [va_rf x2]) cx hS rfl hl.1 hm (metX2_line l hfl _ _ _ _ _ _ (hth.at hS) e9) (jLe.rf _) (hth.at hS) rfl (lw_V q1102 q1104 qs32 q113 q1105) pdX2_line rfl rfl (by simp only [List.map_cons, List.map_nil, List.sum_cons, List.sum_nil, jrfc]; exact Nat.le_of_ble_eq_true rfl) ⟨Nat.le_of_ble_eq_true rfl, Nat.le_of_ble_eq_true rfl⟩ dX2_year_78 (fun H locs cells slots hS => j_leaves cx hS ht e1 e2)
          refine j_callV (pc := 78) (st1 := [va_rf y9, va_rf x2]) (As := [.int y5]) (rest := [va_rf x2]) cx hS rfl hl.1 hm (metX2_line l hfl _ _ _ _ _ _ (hth.at hS) e9) (jle hf) (hth.at hS) rfl (lw_V q1102 q1104 qs32 q113 q1105) pdX2_line rfl rfl (by simp only [List.map_cons, List.map_nil, List.sum_cons, List.sum_nil, jrfc]; exact Nat.le_of_ble_eq_true rfl) ⟨Nat.le_of_ble_eq_true rfl, Nat.le_of_ble_eq_true rfl⟩ dX2_year_78 rfl (fun H locs cells slots hS => ?_)
          obtain ⟨b11, eb, hrc, hf⟩ := jrc_s hf
          refine j_nn (pc := 81) eb [va_rf y9] [] rfl ?_
          obtain ⟨y10, h1, e9, hf⟩ := jB_some hf
          refine j_callV (pc := 81) (st1 := [.int y10]) (As := [va_rf y9]) (rest := []) cx hS rfl hl.1 hm (metJ2_add l _ _ _ _ _ hrc e9) (jle hf) hrc rfl (lw_V q726 q727 q728 q118 q729) pdJ2_add rfl rfl (Nat.le_of_ble_eq_true rfl) ⟨Nat.le_of_ble_eq_true rfl, Nat.le_of_ble_eq_true rfl⟩ dX2_year_81 rfl (fun H locs cells slots hS => ?_)
          refine lv_pop (pc := 84) hx hb dX2_year_84 rfl ?_
          refine lv_aload_n (pc := 85) hx hb dX2_year_85 rfl (lv_at hl 1 rfl) ?_
          refine lv_bipush (pc := 86) (v := 59) hx hb dX2_year_86 rfl ?_
          rcases jBT_some hf with ⟨_, h1, e9, hf⟩ | ⟨x9, e9, ez⟩
          rotate_left
          · have ez : r = .inr x9 := ez
            subst ez
            exact j_callVX (pc := 88) (z := ((), h')) (As := [.int 59]) (rest := []) cx hS rfl hl.1 hm (metX2_sign l hfl _ _ _ _ _ (hth.at hS) e9) (jLe.rf _) (hth.at hS) rfl (lw_V q996 q998 qs29 q113 q999) pdX2_sign rfl rfl (Nat.le_of_ble_eq_true rfl) ⟨Nat.le_of_ble_eq_true rfl, Nat.le_of_ble_eq_true rfl⟩ dX2_year_88 (fun H locs cells slots hS => j_leaves cx hS ht e1 e2)
          refine j_callV (pc := 88) (st1 := []) (As := [.int 59]) (rest := []) cx hS rfl hl.1 hm (metX2_sign l hfl _ _ _ _ _ (hth.at hS) e9) (jle hf) (hth.at hS) rfl (lw_V q996 q998 qs29 q113 q999) pdX2_sign rfl rfl (Nat.le_of_ble_eq_true rfl) ⟨Nat.le_of_ble_eq_true rfl, Nat.le_of_ble_eq_true rfl⟩ dX2_year_88 rfl (fun H locs cells slots hS => ?_)
          refine lv_goto (pc := 91) (tgt := 18) hx hb dX2_year_91 (by decide) ?_
          exact ih _ _ _ _ _ _ _ hf hS (lv_sub hl [1, 2] rfl)
        · have hf := jI_t hf hc
          exact wX2_year_59 cx e1 e2 hfl ht a0 hth _ _ _ _ _ _ hf hS (lv_sub hl [1] rfl)
      · have hf := jI_t hf hc
        exact wX2_year_44 cx e1 e2 hfl ht a0 hth _ _ _ _ _ _ hf hS (lv_sub hl [1] rfl)
theorem wX2_year_0 {N : Nat} {r : Option Nat ⊕ Nat} (cx : jCx p s m args meth c cX2_year "WornSkin$Reader" 4 (Option.some (Jvm.ClassFile.FieldType.object "java/util/ArrayList")) D dA H0 hs.2.2.2.2) (e1 : h'.2.2.1 = hs.2.2.1 + mc) (e2 : h'.2.2.2.1 = hs.2.2.2.1 + ms) (hfl : l.stackTraces = false) (ht : c.exceptionTable.toList = []) (a0 : Nat) (hth : jTh hs a0 1) : ∀ (x1 : Option Nat), ∀ (h : jH) (H : Heap) (locs : List Loc) (cells slots : Nat) (ls : Array Slot), (fX2_year N a0 x1).1 h = some (r, h') → jS D dA H0 hs h H locs cells slots → lv_has ls 4 [(0, .ref a0), (1, va_rf x1)] → W p l e { frames := 10, cells := mc, slots := ms, locals := 216 } s m args below meth c H locs cells slots (jQ D dA H0 below s (jOc (fun v => some (va_rf v)) r) h' mc ms) (F0 m 0 ls []) := by
  have hx := cx.1
  have hb := cx.2.1
  have hown := cx.2.2.2.1
  have hts := cx.2.2.2.2.1
  have hm : h'.2.2.1 ≤ hs.2.2.1 + mc ∧ h'.2.2.2.1 ≤ hs.2.2.2.1 + ms := ⟨Nat.le_of_eq e1, Nat.le_of_eq e2⟩
  intro x1 h H locs cells slots ls hf hS hl
  unfold fX2_year at hf
  refine lv_aload_n (pc := 0) hx hb dX2_year_0 rfl (lv_at hl 0 rfl) ?_
  obtain ⟨_, h1, e9, hf⟩ := jB_some hf
  refine j_callV (pc := 1) (st1 := []) (As := []) (rest := []) cx hS rfl hl.1 hm (metX2_cut l _ _ _ _ _ (hth.at hS) e9) (jle hf) (hth.at hS) rfl (lw_V q479 q481 qs1 q113 q482) pdX2_cut rfl rfl (Nat.le_of_ble_eq_true rfl) ⟨Nat.le_of_ble_eq_true rfl, Nat.le_of_ble_eq_true rfl⟩ dX2_year_1 rfl (fun H locs cells slots hS => ?_)
  refine lv_aload_n (pc := 4) hx hb dX2_year_4 rfl (lv_at hl 0 rfl) ?_
  refine j_aload_n (pc := 5) (r := x1) hx hb dX2_year_5 rfl (lv_at hl 1 rfl) ?_
  refine j_pR (pc := 6) cx hS hf fp_WornSkin_Reader_draft (Or.inl rfl) q210 dX2_year_6 (fun h H locs hf hS => ?_)
  refine j_new (pc := 9) cx hS hf cn_J2 q1100 dX2_year_9 hm (fun q2 h H cells slots hf hS => ?_)
  refine lv_dup (pc := 12) hx hb dX2_year_12 rfl ?_
  refine lv_iconst (pc := 13) (v := 2) hx hb dX2_year_13 rfl ?_
  obtain ⟨_, h1, e9, hf⟩ := jB_some hf
  refine j_callI (pc := 14) (st1 := [.ref q2]) (As := [.int 2]) (rest := [.ref q2]) cx hS rfl hl.1 hm (metJ2_init l _ _ _ _ _ e9) (jle hf) rfl q292 q291 q1101 q118 pdJ2_init rfl rfl (Nat.le_of_ble_eq_true rfl) ⟨Nat.le_of_ble_eq_true rfl, Nat.le_of_ble_eq_true rfl⟩ dX2_year_14 rfl (fun H locs cells slots hS => ?_)
  refine lv_astore_n (pc := 17) (i := 2) (lv' := [(2, .ref q2), (0, .ref a0), (1, va_rf x1)]) hx hb dX2_year_17 rfl hl (Nat.le_of_ble_eq_true rfl) (by cases x1 <;> rfl) (fun ls hl => ?_)
  exact wX2_year_18 cx e1 e2 hfl ht a0 hth N _ _ _ _ _ _ _ hf hS (lv_sub hl [1, 0] rfl)
theorem metX2_year (l : Launch) (hfl : l.stackTraces = false) (N : Nat) (a0 : Nat) (x1 : Option Nat) (h h' : jH) (r : Option Nat ⊕ Nat) (hth : jcd h a0 = some 1) (hf : (fX2_year N a0 x1).1 h = some (r, h')) : jMet l yX2_year (ws_ yX2_year cX2_year 4 (Option.some (Jvm.ClassFile.FieldType.object "java/util/ArrayList"))) (10) (216) [.ref a0, va_rf x1] h h' (jOc (fun v => some (va_rf v)) r) := by
  refine jStartT rfl (jle hf) (by cases x1 <;> exact Nat.le_of_ble_eq_true rfl) ?_
  intro p e s m below meth c D dA H0 mc ms ls ht cx hnm e1 e2 hS hl
  have hl : lv_has ls 4 [(0, .ref a0), (1, va_rf x1)] := by cases x1 <;> exact hl
  have hth := jTh.mk hS hth
  exact wX2_year_0 cx e1 e2 hfl ht a0 hth _ _ _ _ _ _ _ hf hS hl
def fX2_term_55 (N : Nat) (rec : jM (Option Nat ⊕ Nat)) (a0 : Nat) (v0 : Option Nat) : jM (Option Nat ⊕ Nat) := jR (.inl v0)
def fX2_term_46 (N : Nat) (rec : jM (Option Nat ⊕ Nat)) (a0 : Nat) (x1 : Option Nat) (x2 : Option Nat) : jM (Option Nat ⊕ Nat) := if x2 = none then (fX2_term_55 N rec a0 x1) else (fX2_term_55 N rec a0 x2)
def fX2_term_7 (N : Nat) (rec : jM (Option Nat ⊕ Nat)) (a0 : Nat) : Nat → Option Nat → Option Nat → jM (Option Nat ⊕ Nat)
  | 0, _, _ => jE
  | n + 1, x1, x2 => jB (fX2_hasSign a0 42) fun y1 => if y1 = 0 then (fX2_term_46 N rec a0 x1 x2) else (jBT (rec) fun y2 => jB (fX2_chain x1 x2) fun y3 => jB (jgR [20] 1 y3) fun y4 => jB (jnw 21 1 [.null]) fun q5 => jB (fX20_init q5 y2) fun _ => jB (jrc 4 y4) fun b8 => jB (fJ2_add b8 (some q5)) fun y7 => fX2_term_7 N rec a0 n x1 y3)
def gX2_term (N : Nat) (rec : jM (Option Nat ⊕ Nat)) (a0 : Nat) : jM (Option Nat ⊕ Nat) := jBT (rec) fun y1 => fX2_term_7 N rec a0 N y1 none
theorem wX2_term_55 {N : Nat} {rec : jM (Option Nat ⊕ Nat)} {FR LO : Nat} {r : Option Nat ⊕ Nat} (cx : jCx p s m args meth c cX2_term "WornSkin$Reader" 4 (Option.some (Jvm.ClassFile.FieldType.object "WornSkin$Expression")) D dA H0 hs.2.2.2.2) (e1 : h'.2.2.1 = hs.2.2.1 + mc) (e2 : h'.2.2.2.1 = hs.2.2.2.1 + ms) (hfl : l.stackTraces = false) (ht : c.exceptionTable.toList = []) (a0 : Nat) (hth : jTh hs a0 1) (hrec : ∀ (h : jH) (r : Option Nat ⊕ Nat) (h1 : jH), rec.1 h = some (r, h1) → jcd h a0 = some 1 → jMet l yX2_part (ws_ yX2_part cX2_part 4 (Option.some (Jvm.ClassFile.FieldType.object "WornSkin$Expression"))) FR LO [.ref a0] h h1 (jOc (fun v => some (va_rf v)) r)) : ∀ (v0 : Option Nat), ∀ (h : jH) (H : Heap) (locs : List Loc) (cells slots : Nat) (ls : Array Slot), (fX2_term_55 N rec a0 v0).1 h = some (r, h') → jS D dA H0 hs h H locs cells slots → lv_has ls 4 [(0, .ref a0)] → W p l e { frames := FR + 7, cells := mc, slots := ms, locals := LO + 161 } s m args below meth c H locs cells slots (jQ D dA H0 below s (jOc (fun v => some (va_rf v)) r) h' mc ms) (F0 m 55 ls [va_rf v0]) := by
  have hx := cx.1
  have hb := cx.2.1
  have hown := cx.2.2.2.1
  have hts := cx.2.2.2.2.1
  have hm : h'.2.2.1 ≤ hs.2.2.1 + mc ∧ h'.2.2.2.1 ≤ hs.2.2.2.1 + ms := ⟨Nat.le_of_eq e1, Nat.le_of_eq e2⟩
  intro v0 h H locs cells slots ls hf hS hl
  unfold fX2_term_55 at hf
  exact j_aretT (pc := 55) cx hS hf (Or.inl ⟨_, rfl⟩) e1 e2 dX2_term_55
theorem wX2_term_46 {N : Nat} {rec : jM (Option Nat ⊕ Nat)} {FR LO : Nat} {r : Option Nat ⊕ Nat} (cx : jCx p s m args meth c cX2_term "WornSkin$Reader" 4 (Option.some (Jvm.ClassFile.FieldType.object "WornSkin$Expression")) D dA H0 hs.2.2.2.2) (e1 : h'.2.2.1 = hs.2.2.1 + mc) (e2 : h'.2.2.2.1 = hs.2.2.2.1 + ms) (hfl : l.stackTraces = false) (ht : c.exceptionTable.toList = []) (a0 : Nat) (hth : jTh hs a0 1) (hrec : ∀ (h : jH) (r : Option Nat ⊕ Nat) (h1 : jH), rec.1 h = some (r, h1) → jcd h a0 = some 1 → jMet l yX2_part (ws_ yX2_part cX2_part 4 (Option.some (Jvm.ClassFile.FieldType.object "WornSkin$Expression"))) FR LO [.ref a0] h h1 (jOc (fun v => some (va_rf v)) r)) : ∀ (x1 : Option Nat) (x2 : Option Nat), ∀ (h : jH) (H : Heap) (locs : List Loc) (cells slots : Nat) (ls : Array Slot), (fX2_term_46 N rec a0 x1 x2).1 h = some (r, h') → jS D dA H0 hs h H locs cells slots → lv_has ls 4 [(0, .ref a0), (1, va_rf x1), (2, va_rf x2)] → W p l e { frames := FR + 7, cells := mc, slots := ms, locals := LO + 161 } s m args below meth c H locs cells slots (jQ D dA H0 below s (jOc (fun v => some (va_rf v)) r) h' mc ms) (F0 m 46 ls []) := by
  have hx := cx.1
  have hb := cx.2.1
  have hown := cx.2.2.2.1
  have hts := cx.2.2.2.2.1
  have hm : h'.2.2.1 ≤ hs.2.2.1 + mc ∧ h'.2.2.2.1 ≤ hs.2.2.2.1 + ms := ⟨Nat.le_of_eq e1, Nat.le_of_eq e2⟩
  intro x1 x2 h H locs cells slots ls hf hS hl
  unfold fX2_term_46 at hf
  refine j_aload_n (pc := 46) (r := x2) hx hb dX2_term_46 rfl (lv_at hl 2 rfl) ?_
  refine j_ifnonnull (pc := 47) (tgt := 54) (r := x2) hx hb dX2_term_47 (by decide) (fun hc => ?_) (fun hc => ?_)
  · have hf := jI_f hf hc
    refine j_aload_n (pc := 54) (r := x2) hx hb dX2_term_54 rfl (lv_at hl 2 rfl) ?_
    exact wX2_term_55 cx e1 e2 hfl ht a0 hth hrec _ _ _ _ _ _ _ hf hS (lv_sub hl [0] rfl)
  · have hf := jI_t hf hc
    refine j_aload_n (pc := 50) (r := x1) hx hb dX2_term_50 rfl (lv_at hl 1 rfl) ?_
    refine lv_goto (pc := 51) (tgt := 55) hx hb dX2_term_51 (by decide) ?_
    exact wX2_term_55 cx e1 e2 hfl ht a0 hth hrec _ _ _ _ _ _ _ hf hS (lv_sub hl [0] rfl)
theorem wX2_term_7 {N : Nat} {rec : jM (Option Nat ⊕ Nat)} {FR LO : Nat} {r : Option Nat ⊕ Nat} (cx : jCx p s m args meth c cX2_term "WornSkin$Reader" 4 (Option.some (Jvm.ClassFile.FieldType.object "WornSkin$Expression")) D dA H0 hs.2.2.2.2) (e1 : h'.2.2.1 = hs.2.2.1 + mc) (e2 : h'.2.2.2.1 = hs.2.2.2.1 + ms) (hfl : l.stackTraces = false) (ht : c.exceptionTable.toList = []) (a0 : Nat) (hth : jTh hs a0 1) (hrec : ∀ (h : jH) (r : Option Nat ⊕ Nat) (h1 : jH), rec.1 h = some (r, h1) → jcd h a0 = some 1 → jMet l yX2_part (ws_ yX2_part cX2_part 4 (Option.some (Jvm.ClassFile.FieldType.object "WornSkin$Expression"))) FR LO [.ref a0] h h1 (jOc (fun v => some (va_rf v)) r)) : ∀ (n : Nat) (x1 : Option Nat) (x2 : Option Nat), ∀ (h : jH) (H : Heap) (locs : List Loc) (cells slots : Nat) (ls : Array Slot), (fX2_term_7 N rec a0 n x1 x2).1 h = some (r, h') → jS D dA H0 hs h H locs cells slots → lv_has ls 4 [(0, .ref a0), (1, va_rf x1), (2, va_rf x2)] → W p l e { frames := FR + 7, cells := mc, slots := ms, locals := LO + 161 } s m args below meth c H locs cells slots (jQ D dA H0 below s (jOc (fun v => some (va_rf v)) r) h' mc ms) (F0 m 7 ls []) := by
  have hx := cx.1
  have hb := cx.2.1
  have hown := cx.2.2.2.1
  have hts := cx.2.2.2.2.1
  have hm : h'.2.2.1 ≤ hs.2.2.1 + mc ∧ h'.2.2.2.1 ≤ hs.2.2.2.1 + ms := ⟨Nat.le_of_eq e1, Nat.le_of_eq e2⟩
  intro n
  induction n with
  | zero =>
    intro x1 x2 h H locs cells slots ls hf hS hl
    exact jE_f hf
  | succ n ih =>
    intro x1 x2 h H locs cells slots ls hf hS hl
    unfold fX2_term_7 at hf
    refine lv_aload_n (pc := 7) hx hb dX2_term_7 rfl (lv_at hl 0 rfl) ?_
    refine lv_bipush (pc := 8) (v := 42) hx hb dX2_term_8 rfl ?_
    obtain ⟨y1, h1, e9, hf⟩ := jB_some hf
    refine j_callV (pc := 10) (st1 := [.int y1]) (As := [.int 42]) (rest := []) cx hS rfl hl.1 hm (metX2_hasSign l _ _ _ _ _ (hth.at hS) e9) (jle hf) (hth.at hS) rfl (lw_V q1000 q1002 qs30 q113 q1003) pdX2_hasSign rfl rfl (Nat.le_of_ble_eq_true rfl) ⟨jfr1 (Nat.le_of_ble_eq_true rfl), jfr1 (Nat.le_of_ble_eq_true rfl)⟩ dX2_term_10 rfl (fun H locs cells slots hS => ?_)
    refine lv_if_eq (pc := 13) (tgt := 46) hx hb dX2_term_13 (by decide) (fun hc => ?_) (fun hc => ?_)
    · have hf := jI_t hf hc
      exact wX2_term_46 cx e1 e2 hfl ht a0 hth hrec _ _ _ _ _ _ _ _ hf hS hl
    · have hf := jI_f hf hc
      refine lv_aload_n (pc := 16) hx hb dX2_term_16 rfl (lv_at hl 0 rfl) ?_
      rcases jBT_some hf with ⟨y2, h1, e9, hf⟩ | ⟨x9, e9, ez⟩
      rotate_left
      · have ez : r = .inr x9 := ez
        subst ez
        exact j_callVX (pc := 17) (z := ((), h')) (As := []) (rest := []) cx hS rfl hl.1 hm (hrec  _ _ _ e9 (hth.at hS)) (jLe.rf _) (hth.at hS) rfl (lw_V q955 q957 qs27 q113 q958) pdX2_part rfl rfl (Nat.le_of_ble_eq_true rfl) ⟨jfr2 (Nat.le_of_ble_eq_true rfl), jlo2 (Nat.le_of_ble_eq_true rfl)⟩ dX2_term_17 (fun H locs cells slots hS => j_leaves cx hS ht e1 e2)
      refine j_callV (pc := 17) (st1 := [va_rf y2]) (As := []) (rest := []) cx hS rfl hl.1 hm (hrec  _ _ _ e9 (hth.at hS)) (jle hf) (hth.at hS) rfl (lw_V q955 q957 qs27 q113 q958) pdX2_part rfl rfl (Nat.le_of_ble_eq_true rfl) ⟨jfr2 (Nat.le_of_ble_eq_true rfl), jlo2 (Nat.le_of_ble_eq_true rfl)⟩ dX2_term_17 rfl (fun H locs cells slots hS => ?_)
      refine j_astore_n (pc := 20) (i := 3) (r := y2) (lv' := [(3, va_rf y2), (0, .ref a0), (1, va_rf x1), (2, va_rf x2)]) hx hb dX2_term_20 rfl hl (Nat.le_of_ble_eq_true rfl) (by cases x2 <;> rfl) (fun ls hl => ?_)
      refine j_aload_n (pc := 21) (r := x1) hx hb dX2_term_21 rfl (lv_at hl 2 rfl) ?_
      refine j_aload_n (pc := 22) (r := x2) hx hb dX2_term_22 rfl (lv_at hl 3 rfl) ?_
      obtain ⟨y3, h1, e9, hf⟩ := jB_some hf
      refine j_callS (pc := 23) (st1 := [va_rf y3]) (As := [va_rf x1, va_rf x2]) (rest := []) cx hS rfl hl.1 hm (metX2_chain l _ _ _ _ _ e9) (jle hf) (lw_S q1004 q1005 q113 q1006) pdX2_chain rfl rfl (Nat.le_of_ble_eq_true rfl) ⟨jfr1 (Nat.le_of_ble_eq_true rfl), jfr1 (Nat.le_of_ble_eq_true rfl)⟩ dX2_term_23 rfl (fun H locs cells slots hS => ?_)
      refine j_astore_n (pc := 26) (i := 2) (r := y3) (lv' := [(2, va_rf y3), (3, va_rf y2), (0, .ref a0), (1, va_rf x1)]) hx hb dX2_term_26 rfl hl (Nat.le_of_ble_eq_true rfl) (by cases x1 <;> rfl) (fun ls hl => ?_)
      refine j_aload_n (pc := 27) (r := y3) hx hb dX2_term_27 rfl (lv_at hl 0 rfl) ?_
      refine j_gR (pc := 28) cx hS hf fd_WornSkin_Chain_links q1017 dX2_term_28 (fun y4 hf => ?_)
      refine j_new (pc := 31) cx hS hf cn_X20 q1023 dX2_term_31 hm (fun q5 h H cells slots hf hS => ?_)
      refine lv_dup (pc := 34) hx hb dX2_term_34 rfl ?_
      refine j_aload_n (pc := 35) (r := y2) hx hb dX2_term_35 rfl (lv_at hl 1 rfl) ?_
      obtain ⟨_, h1, e9, hf⟩ := jB_some hf
      refine j_callI (pc := 36) (st1 := [.ref q5, va_rf y4]) (As := [va_rf y2]) (rest := [.ref q5, va_rf y4]) cx hS rfl hl.1 hm (metX20_init l _ _ _ _ _ e9) (jle hf) rfl q1027 q1026 q1025 q151 pdX20_init rfl rfl (by simp only [List.map_cons, List.map_nil, List.sum_cons, List.sum_nil, jrfc]; exact Nat.le_of_ble_eq_true rfl) ⟨jfr1 (Nat.le_of_ble_eq_true rfl), jfr1 (Nat.le_of_ble_eq_true rfl)⟩ dX2_term_36 rfl (fun H locs cells slots hS => ?_)
      obtain ⟨b8, eb, hrc, hf⟩ := jrc_s hf
      refine j_nn (pc := 39) eb [.ref q5] [] rfl ?_
      obtain ⟨y7, h1, e9, hf⟩ := jB_some hf
      refine j_callV (pc := 39) (st1 := [.int y7]) (As := [.ref q5]) (rest := []) cx hS rfl hl.1 hm (metJ2_add l _ _ _ _ _ hrc e9) (jle hf) hrc rfl (lw_V q726 q727 q728 q118 q729) pdJ2_add rfl rfl (Nat.le_of_ble_eq_true rfl) ⟨jfr1 (Nat.le_of_ble_eq_true rfl), jfr1 (Nat.le_of_ble_eq_true rfl)⟩ dX2_term_39 rfl (fun H locs cells slots hS => ?_)
      refine lv_pop (pc := 42) hx hb dX2_term_42 rfl ?_
      refine lv_goto (pc := 43) (tgt := 7) hx hb dX2_term_43 (by decide) ?_
      exact ih _ _ _ _ _ _ _ _ hf hS (lv_sub hl [2, 3, 0] rfl)
theorem wX2_term_0 {N : Nat} {rec : jM (Option Nat ⊕ Nat)} {FR LO : Nat} {r : Option Nat ⊕ Nat} (cx : jCx p s m args meth c cX2_term "WornSkin$Reader" 4 (Option.some (Jvm.ClassFile.FieldType.object "WornSkin$Expression")) D dA H0 hs.2.2.2.2) (e1 : h'.2.2.1 = hs.2.2.1 + mc) (e2 : h'.2.2.2.1 = hs.2.2.2.1 + ms) (hfl : l.stackTraces = false) (ht : c.exceptionTable.toList = []) (a0 : Nat) (hth : jTh hs a0 1) (hrec : ∀ (h : jH) (r : Option Nat ⊕ Nat) (h1 : jH), rec.1 h = some (r, h1) → jcd h a0 = some 1 → jMet l yX2_part (ws_ yX2_part cX2_part 4 (Option.some (Jvm.ClassFile.FieldType.object "WornSkin$Expression"))) FR LO [.ref a0] h h1 (jOc (fun v => some (va_rf v)) r)) : ∀ (h : jH) (H : Heap) (locs : List Loc) (cells slots : Nat) (ls : Array Slot), (gX2_term N rec a0).1 h = some (r, h') → jS D dA H0 hs h H locs cells slots → lv_has ls 4 [(0, .ref a0)] → W p l e { frames := FR + 7, cells := mc, slots := ms, locals := LO + 161 } s m args below meth c H locs cells slots (jQ D dA H0 below s (jOc (fun v => some (va_rf v)) r) h' mc ms) (F0 m 0 ls []) := by
  have hx := cx.1
  have hb := cx.2.1
  have hown := cx.2.2.2.1
  have hts := cx.2.2.2.2.1
  have hm : h'.2.2.1 ≤ hs.2.2.1 + mc ∧ h'.2.2.2.1 ≤ hs.2.2.2.1 + ms := ⟨Nat.le_of_eq e1, Nat.le_of_eq e2⟩
  intro h H locs cells slots ls hf hS hl
  unfold gX2_term at hf
  refine lv_aload_n (pc := 0) hx hb dX2_term_0 rfl (lv_at hl 0 rfl) ?_
  rcases jBT_some hf with ⟨y1, h1, e9, hf⟩ | ⟨x9, e9, ez⟩
  rotate_left
  · have ez : r = .inr x9 := ez
    subst ez
    exact j_callVX (pc := 1) (z := ((), h')) (As := []) (rest := []) cx hS rfl hl.1 hm (hrec  _ _ _ e9 (hth.at hS)) (jLe.rf _) (hth.at hS) rfl (lw_V q955 q957 qs27 q113 q958) pdX2_part rfl rfl (Nat.le_of_ble_eq_true rfl) ⟨jfr2 (Nat.le_of_ble_eq_true rfl), jlo2 (Nat.le_of_ble_eq_true rfl)⟩ dX2_term_1 (fun H locs cells slots hS => j_leaves cx hS ht e1 e2)
  refine j_callV (pc := 1) (st1 := [va_rf y1]) (As := []) (rest := []) cx hS rfl hl.1 hm (hrec  _ _ _ e9 (hth.at hS)) (jle hf) (hth.at hS) rfl (lw_V q955 q957 qs27 q113 q958) pdX2_part rfl rfl (Nat.le_of_ble_eq_true rfl) ⟨jfr2 (Nat.le_of_ble_eq_true rfl), jlo2 (Nat.le_of_ble_eq_true rfl)⟩ dX2_term_1 rfl (fun H locs cells slots hS => ?_)
  refine j_astore_n (pc := 4) (i := 1) (r := y1) (lv' := [(1, va_rf y1), (0, .ref a0)]) hx hb dX2_term_4 rfl hl (Nat.le_of_ble_eq_true rfl) rfl (fun ls hl => ?_)
  refine lv_null (pc := 5) hx hb dX2_term_5 ?_
  refine j_astore_n (pc := 6) (i := 2) (r := none) (lv' := [(2, va_rf none), (1, va_rf y1), (0, .ref a0)]) hx hb dX2_term_6 rfl hl (Nat.le_of_ble_eq_true rfl) (by cases y1 <;> rfl) (fun ls hl => ?_)
  exact wX2_term_7 cx e1 e2 hfl ht a0 hth hrec N _ _ _ _ _ _ _ _ hf hS (lv_sub hl [2, 1, 0] rfl)
theorem megX2_term (l : Launch) (hfl : l.stackTraces = false) (N : Nat) (rec : jM (Option Nat ⊕ Nat)) (FR LO : Nat) (a0 : Nat) (h h' : jH) (r : Option Nat ⊕ Nat) (hth : jcd h a0 = some 1) (hrec : ∀ (h : jH) (r : Option Nat ⊕ Nat) (h1 : jH), rec.1 h = some (r, h1) → jcd h a0 = some 1 → jMet l yX2_part (ws_ yX2_part cX2_part 4 (Option.some (Jvm.ClassFile.FieldType.object "WornSkin$Expression"))) FR LO [.ref a0] h h1 (jOc (fun v => some (va_rf v)) r)) (hf : (gX2_term N rec a0).1 h = some (r, h')) : jMet l yX2_term (ws_ yX2_term cX2_term 4 (Option.some (Jvm.ClassFile.FieldType.object "WornSkin$Expression"))) (FR + 7) (LO + 161) [.ref a0] h h' (jOc (fun v => some (va_rf v)) r) := by
  refine jStartT rfl (jle hf) (Nat.le_of_ble_eq_true rfl) ?_
  intro p e s m below meth c D dA H0 mc ms ls ht cx hnm e1 e2 hS hl
  have hth := jTh.mk hS hth
  exact wX2_term_0 cx e1 e2 hfl ht a0 hth hrec  _ _ _ _ _ _ hf hS hl
def fX2_sum_99 (N : Nat) (rec : jM (Option Nat ⊕ Nat)) (a0 : Nat) (v0 : Option Nat) : jM (Option Nat ⊕ Nat) := jR (.inl v0)
def fX2_sum_90 (N : Nat) (rec : jM (Option Nat ⊕ Nat)) (a0 : Nat) (x1 : Option Nat) (x2 : Option Nat) : jM (Option Nat ⊕ Nat) := if x2 = none then (fX2_sum_99 N rec a0 x1) else (fX2_sum_99 N rec a0 x2)
def fX2_sum_83 (N : Nat) (rec : jM (Option Nat ⊕ Nat)) (k7 : Option Nat → Option Nat → jM (Option Nat ⊕ Nat)) (a0 : Nat) (x1 : Option Nat) (x2 : Option Nat) (v0 : Option Nat) (v1 : Option Nat) : jM (Option Nat ⊕ Nat) := jB (jrc 4 v0) fun b2 => jB (fJ2_add b2 v1) fun y1 => k7 x1 x2
def fX2_sum_25 (N : Nat) (rec : jM (Option Nat ⊕ Nat)) (k7 : Option Nat → Option Nat → jM (Option Nat ⊕ Nat)) (a0 : Nat) (x1 : Option Nat) (x2 : Option Nat) : jM (Option Nat ⊕ Nat) := jB (fX2_isSign a0 43) fun y1 => jB (jgI [1] 11 (some a0)) fun y2 => jB (jpI [1] 11 (some a0) (y2 + 1)) fun _ => jBT (gX2_term N rec a0) fun y3 => jB (fX2_chain x1 x2) fun y4 => jB (jgR [20] 1 y4) fun y5 => if y1 = 0 then (jB (jnw 23 1 [.null]) fun q6 => jB (fX22_init q6 y3) fun _ => fX2_sum_83 N rec k7 a0 x1 y4 y5 (some q6)) else (jB (jnw 22 1 [.null]) fun q8 => jB (fX21_init q8 y3) fun _ => fX2_sum_83 N rec k7 a0 x1 y4 y5 (some q8))
def fX2_sum_7 (N : Nat) (rec : jM (Option Nat ⊕ Nat)) (a0 : Nat) : Nat → Option Nat → Option Nat → jM (Option Nat ⊕ Nat)
  | 0, _, _ => jE
  | n + 1, x1, x2 => jB (fX2_isSign a0 43) fun y1 => if y1 = 0 then (jB (fX2_isSign a0 45) fun y2 => if y2 = 0 then (fX2_sum_90 N rec a0 x1 x2) else (fX2_sum_25 N rec (fX2_sum_7 N rec a0 n) a0 x1 x2)) else (fX2_sum_25 N rec (fX2_sum_7 N rec a0 n) a0 x1 x2)
def gX2_sum (N : Nat) (rec : jM (Option Nat ⊕ Nat)) (a0 : Nat) : jM (Option Nat ⊕ Nat) := jBT (gX2_term N rec a0) fun y1 => fX2_sum_7 N rec a0 N y1 none
theorem wX2_sum_99 {N : Nat} {rec : jM (Option Nat ⊕ Nat)} {FR LO : Nat} {r : Option Nat ⊕ Nat} (cx : jCx p s m args meth c cX2_sum "WornSkin$Reader" 5 (Option.some (Jvm.ClassFile.FieldType.object "WornSkin$Expression")) D dA H0 hs.2.2.2.2) (e1 : h'.2.2.1 = hs.2.2.1 + mc) (e2 : h'.2.2.2.1 = hs.2.2.2.1 + ms) (hfl : l.stackTraces = false) (ht : c.exceptionTable.toList = []) (a0 : Nat) (hth : jTh hs a0 1) (hrec : ∀ (h : jH) (r : Option Nat ⊕ Nat) (h1 : jH), rec.1 h = some (r, h1) → jcd h a0 = some 1 → jMet l yX2_part (ws_ yX2_part cX2_part 4 (Option.some (Jvm.ClassFile.FieldType.object "WornSkin$Expression"))) FR LO [.ref a0] h h1 (jOc (fun v => some (va_rf v)) r)) : ∀ (v0 : Option Nat), ∀ (h : jH) (H : Heap) (locs : List Loc) (cells slots : Nat) (ls : Array Slot), (fX2_sum_99 N rec a0 v0).1 h = some (r, h') → jS D dA H0 hs h H locs cells slots → lv_has ls 5 [(0, .ref a0)] → W p l e { frames := FR + 8, cells := mc, slots := ms, locals := LO + 184 } s m args below meth c H locs cells slots (jQ D dA H0 below s (jOc (fun v => some (va_rf v)) r) h' mc ms) (F0 m 99 ls [va_rf v0]) := by
  have hx := cx.1
  have hb := cx.2.1
  have hown := cx.2.2.2.1
  have hts := cx.2.2.2.2.1
  have hm : h'.2.2.1 ≤ hs.2.2.1 + mc ∧ h'.2.2.2.1 ≤ hs.2.2.2.1 + ms := ⟨Nat.le_of_eq e1, Nat.le_of_eq e2⟩
  intro v0 h H locs cells slots ls hf hS hl
  unfold fX2_sum_99 at hf
  exact j_aretT (pc := 99) cx hS hf (Or.inl ⟨_, rfl⟩) e1 e2 dX2_sum_99
theorem wX2_sum_90 {N : Nat} {rec : jM (Option Nat ⊕ Nat)} {FR LO : Nat} {r : Option Nat ⊕ Nat} (cx : jCx p s m args meth c cX2_sum "WornSkin$Reader" 5 (Option.some (Jvm.ClassFile.FieldType.object "WornSkin$Expression")) D dA H0 hs.2.2.2.2) (e1 : h'.2.2.1 = hs.2.2.1 + mc) (e2 : h'.2.2.2.1 = hs.2.2.2.1 + ms) (hfl : l.stackTraces = false) (ht : c.exceptionTable.toList = []) (a0 : Nat) (hth : jTh hs a0 1) (hrec : ∀ (h : jH) (r : Option Nat ⊕ Nat) (h1 : jH), rec.1 h = some (r, h1) → jcd h a0 = some 1 → jMet l yX2_part (ws_ yX2_part cX2_part 4 (Option.some (Jvm.ClassFile.FieldType.object "WornSkin$Expression"))) FR LO [.ref a0] h h1 (jOc (fun v => some (va_rf v)) r)) : ∀ (x1 : Option Nat) (x2 : Option Nat), ∀ (h : jH) (H : Heap) (locs : List Loc) (cells slots : Nat) (ls : Array Slot), (fX2_sum_90 N rec a0 x1 x2).1 h = some (r, h') → jS D dA H0 hs h H locs cells slots → lv_has ls 5 [(0, .ref a0), (1, va_rf x1), (2, va_rf x2)] → W p l e { frames := FR + 8, cells := mc, slots := ms, locals := LO + 184 } s m args below meth c H locs cells slots (jQ D dA H0 below s (jOc (fun v => some (va_rf v)) r) h' mc ms) (F0 m 90 ls []) := by
  have hx := cx.1
  have hb := cx.2.1
  have hown := cx.2.2.2.1
  have hts := cx.2.2.2.2.1
  have hm : h'.2.2.1 ≤ hs.2.2.1 + mc ∧ h'.2.2.2.1 ≤ hs.2.2.2.1 + ms := ⟨Nat.le_of_eq e1, Nat.le_of_eq e2⟩
  intro x1 x2 h H locs cells slots ls hf hS hl
  unfold fX2_sum_90 at hf
  refine j_aload_n (pc := 90) (r := x2) hx hb dX2_sum_90 rfl (lv_at hl 2 rfl) ?_
  refine j_ifnonnull (pc := 91) (tgt := 98) (r := x2) hx hb dX2_sum_91 (by decide) (fun hc => ?_) (fun hc => ?_)
  · have hf := jI_f hf hc
    refine j_aload_n (pc := 98) (r := x2) hx hb dX2_sum_98 rfl (lv_at hl 2 rfl) ?_
    exact wX2_sum_99 cx e1 e2 hfl ht a0 hth hrec _ _ _ _ _ _ _ hf hS (lv_sub hl [0] rfl)
  · have hf := jI_t hf hc
    refine j_aload_n (pc := 94) (r := x1) hx hb dX2_sum_94 rfl (lv_at hl 1 rfl) ?_
    refine lv_goto (pc := 95) (tgt := 99) hx hb dX2_sum_95 (by decide) ?_
    exact wX2_sum_99 cx e1 e2 hfl ht a0 hth hrec _ _ _ _ _ _ _ hf hS (lv_sub hl [0] rfl)
theorem wX2_sum_83 {N : Nat} {rec : jM (Option Nat ⊕ Nat)} {FR LO : Nat} {k7 : Option Nat → Option Nat → jM (Option Nat ⊕ Nat)} {r : Option Nat ⊕ Nat} (cx : jCx p s m args meth c cX2_sum "WornSkin$Reader" 5 (Option.some (Jvm.ClassFile.FieldType.object "WornSkin$Expression")) D dA H0 hs.2.2.2.2) (e1 : h'.2.2.1 = hs.2.2.1 + mc) (e2 : h'.2.2.2.1 = hs.2.2.2.1 + ms) (hfl : l.stackTraces = false) (ht : c.exceptionTable.toList = []) (a0 : Nat) (hth : jTh hs a0 1) (hrec : ∀ (h : jH) (r : Option Nat ⊕ Nat) (h1 : jH), rec.1 h = some (r, h1) → jcd h a0 = some 1 → jMet l yX2_part (ws_ yX2_part cX2_part 4 (Option.some (Jvm.ClassFile.FieldType.object "WornSkin$Expression"))) FR LO [.ref a0] h h1 (jOc (fun v => some (va_rf v)) r)) (hk7 : ∀ (x1 : Option Nat) (x2 : Option Nat), ∀ (h : jH) (H : Heap) (locs : List Loc) (cells slots : Nat) (ls : Array Slot), (k7 x1 x2).1 h = some (r, h') → jS D dA H0 hs h H locs cells slots → lv_has ls 5 [(0, .ref a0), (1, va_rf x1), (2, va_rf x2)] → W p l e { frames := FR + 8, cells := mc, slots := ms, locals := LO + 184 } s m args below meth c H locs cells slots (jQ D dA H0 below s (jOc (fun v => some (va_rf v)) r) h' mc ms) (F0 m 7 ls [])) : ∀ (x1 : Option Nat) (x2 : Option Nat) (v0 : Option Nat) (v1 : Option Nat), ∀ (h : jH) (H : Heap) (locs : List Loc) (cells slots : Nat) (ls : Array Slot), (fX2_sum_83 N rec k7 a0 x1 x2 v0 v1).1 h = some (r, h') → jS D dA H0 hs h H locs cells slots → lv_has ls 5 [(0, .ref a0), (1, va_rf x1), (2, va_rf x2)] → W p l e { frames := FR + 8, cells := mc, slots := ms, locals := LO + 184 } s m args below meth c H locs cells slots (jQ D dA H0 below s (jOc (fun v => some (va_rf v)) r) h' mc ms) (F0 m 83 ls [va_rf v1, va_rf v0]) := by
  have hx := cx.1
  have hb := cx.2.1
  have hown := cx.2.2.2.1
  have hts := cx.2.2.2.2.1
  have hm : h'.2.2.1 ≤ hs.2.2.1 + mc ∧ h'.2.2.2.1 ≤ hs.2.2.2.1 + ms := ⟨Nat.le_of_eq e1, Nat.le_of_eq e2⟩
  intro x1 x2 v0 v1 h H locs cells slots ls hf hS hl
  unfold fX2_sum_83 at hf
  obtain ⟨b2, eb, hrc, hf⟩ := jrc_s hf
  refine j_nn (pc := 83) eb [va_rf v1] [] rfl ?_
  obtain ⟨y1, h1, e9, hf⟩ := jB_some hf
  refine j_callV (pc := 83) (st1 := [.int y1]) (As := [va_rf v1]) (rest := []) cx hS rfl hl.1 hm (metJ2_add l _ _ _ _ _ hrc e9) (jle hf) hrc rfl (lw_V q726 q727 q728 q118 q729) pdJ2_add rfl rfl (Nat.le_of_ble_eq_true rfl) ⟨jfr1 (Nat.le_of_ble_eq_true rfl), jfr1 (Nat.le_of_ble_eq_true rfl)⟩ dX2_sum_83 rfl (fun H locs cells slots hS => ?_)
  refine lv_pop (pc := 86) hx hb dX2_sum_86 rfl ?_
  refine lv_goto (pc := 87) (tgt := 7) hx hb dX2_sum_87 (by decide) ?_
  exact hk7 _ _ _ _ _ _ _ _ hf hS hl
theorem wX2_sum_25 {N : Nat} {rec : jM (Option Nat ⊕ Nat)} {FR LO : Nat} {k7 : Option Nat → Option Nat → jM (Option Nat ⊕ Nat)} {r : Option Nat ⊕ Nat} (cx : jCx p s m args meth c cX2_sum "WornSkin$Reader" 5 (Option.some (Jvm.ClassFile.FieldType.object "WornSkin$Expression")) D dA H0 hs.2.2.2.2) (e1 : h'.2.2.1 = hs.2.2.1 + mc) (e2 : h'.2.2.2.1 = hs.2.2.2.1 + ms) (hfl : l.stackTraces = false) (ht : c.exceptionTable.toList = []) (a0 : Nat) (hth : jTh hs a0 1) (hrec : ∀ (h : jH) (r : Option Nat ⊕ Nat) (h1 : jH), rec.1 h = some (r, h1) → jcd h a0 = some 1 → jMet l yX2_part (ws_ yX2_part cX2_part 4 (Option.some (Jvm.ClassFile.FieldType.object "WornSkin$Expression"))) FR LO [.ref a0] h h1 (jOc (fun v => some (va_rf v)) r)) (hk7 : ∀ (x1 : Option Nat) (x2 : Option Nat), ∀ (h : jH) (H : Heap) (locs : List Loc) (cells slots : Nat) (ls : Array Slot), (k7 x1 x2).1 h = some (r, h') → jS D dA H0 hs h H locs cells slots → lv_has ls 5 [(0, .ref a0), (1, va_rf x1), (2, va_rf x2)] → W p l e { frames := FR + 8, cells := mc, slots := ms, locals := LO + 184 } s m args below meth c H locs cells slots (jQ D dA H0 below s (jOc (fun v => some (va_rf v)) r) h' mc ms) (F0 m 7 ls [])) : ∀ (x1 : Option Nat) (x2 : Option Nat), ∀ (h : jH) (H : Heap) (locs : List Loc) (cells slots : Nat) (ls : Array Slot), (fX2_sum_25 N rec k7 a0 x1 x2).1 h = some (r, h') → jS D dA H0 hs h H locs cells slots → lv_has ls 5 [(0, .ref a0), (1, va_rf x1), (2, va_rf x2)] → W p l e { frames := FR + 8, cells := mc, slots := ms, locals := LO + 184 } s m args below meth c H locs cells slots (jQ D dA H0 below s (jOc (fun v => some (va_rf v)) r) h' mc ms) (F0 m 25 ls []) := by
  have hx := cx.1
  have hb := cx.2.1
  have hown := cx.2.2.2.1
  have hts := cx.2.2.2.2.1
  have hm : h'.2.2.1 ≤ hs.2.2.1 + mc ∧ h'.2.2.2.1 ≤ hs.2.2.2.1 + ms := ⟨Nat.le_of_eq e1, Nat.le_of_eq e2⟩
  intro x1 x2 h H locs cells slots ls hf hS hl
  unfold fX2_sum_25 at hf
  refine lv_aload_n (pc := 25) hx hb dX2_sum_25 rfl (lv_at hl 0 rfl) ?_
  refine lv_bipush (pc := 26) (v := 43) hx hb dX2_sum_26 rfl ?_
  obtain ⟨y1, h1, e9, hf⟩ := jB_some hf
  refine j_callV (pc := 28) (st1 := [.int y1]) (As := [.int 43]) (rest := []) cx hS rfl hl.1 hm (metX2_isSign l _ _ _ _ _ (hth.at hS) e9) (jle hf) (hth.at hS) rfl (lw_V q959 q961 qs28 q113 q962) pdX2_isSign rfl rfl (Nat.le_of_ble_eq_true rfl) ⟨jfr1 (Nat.le_of_ble_eq_true rfl), jfr1 (Nat.le_of_ble_eq_true rfl)⟩ dX2_sum_28 rfl (fun H locs cells slots hS => ?_)
  refine lv_istore_n (pc := 31) (i := 3) (lv' := [(3, .int y1), (0, .ref a0), (1, va_rf x1), (2, va_rf x2)]) hx hb dX2_sum_31 rfl hl (Nat.le_of_ble_eq_true rfl) (by cases x2 <;> rfl) (fun ls hl => ?_)
  refine lv_aload_n (pc := 32) hx hb dX2_sum_32 rfl (lv_at hl 1 rfl) ?_
  refine lv_dup (pc := 33) hx hb dX2_sum_33 rfl ?_
  refine j_gI (pc := 34) cx hS hf fd_WornSkin_Reader_at q217 dX2_sum_34 (fun y2 hf => ?_)
  refine lv_iconst (pc := 37) (v := 1) hx hb dX2_sum_37 rfl ?_
  refine lv_iadd (pc := 38) hx hb dX2_sum_38 ?_
  refine j_pI (pc := 39) cx hS hf fp_WornSkin_Reader_at (Or.inl rfl) q217 dX2_sum_39 (fun h H locs hf hS => ?_)
  refine lv_aload_n (pc := 42) hx hb dX2_sum_42 rfl (lv_at hl 1 rfl) ?_
  rcases jBT_some hf with ⟨y3, h1, e9, hf⟩ | ⟨x9, e9, ez⟩
  rotate_left
  · have ez : r = .inr x9 := ez
    subst ez
    exact j_callVX (pc := 43) (z := ((), h')) (As := []) (rest := []) cx hS rfl hl.1 hm (megX2_term l hfl _ _ _ _ _ _ _ _ (hth.at hS) hrec e9) (jLe.rf _) (hth.at hS) rfl (lw_V q951 q953 qs26 q113 q954) pdX2_term rfl rfl (Nat.le_of_ble_eq_true rfl) ⟨jfr3 (Nat.le_of_ble_eq_true rfl), jlo3 (Nat.le_of_ble_eq_true rfl)⟩ dX2_sum_43 (fun H locs cells slots hS => j_leaves cx hS ht e1 e2)
  refine j_callV (pc := 43) (st1 := [va_rf y3]) (As := []) (rest := []) cx hS rfl hl.1 hm (megX2_term l hfl _ _ _ _ _ _ _ _ (hth.at hS) hrec e9) (jle hf) (hth.at hS) rfl (lw_V q951 q953 qs26 q113 q954) pdX2_term rfl rfl (Nat.le_of_ble_eq_true rfl) ⟨jfr3 (Nat.le_of_ble_eq_true rfl), jlo3 (Nat.le_of_ble_eq_true rfl)⟩ dX2_sum_43 rfl (fun H locs cells slots hS => ?_)
  refine j_astore (pc := 46) (i := 4) (r := y3) (lv' := [(4, va_rf y3), (3, .int y1), (0, .ref a0), (1, va_rf x1), (2, va_rf x2)]) hx hb dX2_sum_46 hl (Nat.le_of_ble_eq_true rfl) rfl (fun ls hl => ?_)
  refine j_aload_n (pc := 48) (r := x1) hx hb dX2_sum_48 rfl (lv_at hl 3 rfl) ?_
  refine j_aload_n (pc := 49) (r := x2) hx hb dX2_sum_49 rfl (lv_at hl 4 rfl) ?_
  obtain ⟨y4, h1, e9, hf⟩ := jB_some hf
  refine j_callS (pc := 50) (st1 := [va_rf y4]) (As := [va_rf x1, va_rf x2]) (rest := []) cx hS rfl hl.1 hm (metX2_chain l _ _ _ _ _ e9) (jle hf) (lw_S q1004 q1005 q113 q1006) pdX2_chain rfl rfl (Nat.le_of_ble_eq_true rfl) ⟨jfr1 (Nat.le_of_ble_eq_true rfl), jfr1 (Nat.le_of_ble_eq_true rfl)⟩ dX2_sum_50 rfl (fun H locs cells slots hS => ?_)
  refine j_astore_n (pc := 53) (i := 2) (r := y4) (lv' := [(2, va_rf y4), (4, va_rf y3), (3, .int y1), (0, .ref a0), (1, va_rf x1)]) hx hb dX2_sum_53 rfl hl (Nat.le_of_ble_eq_true rfl) (by cases x1 <;> rfl) (fun ls hl => ?_)
  refine j_aload_n (pc := 54) (r := y4) hx hb dX2_sum_54 rfl (lv_at hl 0 rfl) ?_
  refine j_gR (pc := 55) cx hS hf fd_WornSkin_Chain_links q1017 dX2_sum_55 (fun y5 hf => ?_)
  refine lv_iload_n (pc := 58) hx hb dX2_sum_58 rfl (lv_at hl 2 rfl) ?_
  refine lv_if_eq (pc := 59) (tgt := 74) hx hb dX2_sum_59 (by decide) (fun hc => ?_) (fun hc => ?_)
  · have hf := jI_t hf hc
    refine j_new (pc := 74) cx hS hf cn_X22 q1044 dX2_sum_74 hm (fun q6 h H cells slots hf hS => ?_)
    refine lv_dup (pc := 77) hx hb dX2_sum_77 rfl ?_
    refine j_aload (pc := 78) (r := y3) hx hb dX2_sum_78 (lv_at hl 1 rfl) ?_
    obtain ⟨_, h1, e9, hf⟩ := jB_some hf
    refine j_callI (pc := 80) (st1 := [.ref q6, va_rf y5]) (As := [va_rf y3]) (rest := [.ref q6, va_rf y5]) cx hS rfl hl.1 hm (metX22_init l _ _ _ _ _ e9) (jle hf) rfl q1048 q1047 q1046 q153 pdX22_init rfl rfl (by simp only [List.map_cons, List.map_nil, List.sum_cons, List.sum_nil, jrfc]; exact Nat.le_of_ble_eq_true rfl) ⟨jfr1 (Nat.le_of_ble_eq_true rfl), jfr1 (Nat.le_of_ble_eq_true rfl)⟩ dX2_sum_80 rfl (fun H locs cells slots hS => ?_)
    exact wX2_sum_83 cx e1 e2 hfl ht a0 hth hrec hk7 _ _ _ _ _ _ _ _ _ _ hf hS (lv_sub hl [3, 4, 0] rfl)
  · have hf := jI_f hf hc
    refine j_new (pc := 62) cx hS hf cn_X21 q1036 dX2_sum_62 hm (fun q8 h H cells slots hf hS => ?_)
    refine lv_dup (pc := 65) hx hb dX2_sum_65 rfl ?_
    refine j_aload (pc := 66) (r := y3) hx hb dX2_sum_66 (lv_at hl 1 rfl) ?_
    obtain ⟨_, h1, e9, hf⟩ := jB_some hf
    refine j_callI (pc := 68) (st1 := [.ref q8, va_rf y5]) (As := [va_rf y3]) (rest := [.ref q8, va_rf y5]) cx hS rfl hl.1 hm (metX21_init l _ _ _ _ _ e9) (jle hf) rfl q1040 q1039 q1038 q152 pdX21_init rfl rfl (by simp only [List.map_cons, List.map_nil, List.sum_cons, List.sum_nil, jrfc]; exact Nat.le_of_ble_eq_true rfl) ⟨jfr1 (Nat.le_of_ble_eq_true rfl), jfr1 (Nat.le_of_ble_eq_true rfl)⟩ dX2_sum_68 rfl (fun H locs cells slots hS => ?_)
    refine lv_goto (pc := 71) (tgt := 83) hx hb dX2_sum_71 (by decide) ?_
    exact wX2_sum_83 cx e1 e2 hfl ht a0 hth hrec hk7 _ _ _ _ _ _ _ _ _ _ hf hS (lv_sub hl [3, 4, 0] rfl)
theorem wX2_sum_7 {N : Nat} {rec : jM (Option Nat ⊕ Nat)} {FR LO : Nat} {r : Option Nat ⊕ Nat} (cx : jCx p s m args meth c cX2_sum "WornSkin$Reader" 5 (Option.some (Jvm.ClassFile.FieldType.object "WornSkin$Expression")) D dA H0 hs.2.2.2.2) (e1 : h'.2.2.1 = hs.2.2.1 + mc) (e2 : h'.2.2.2.1 = hs.2.2.2.1 + ms) (hfl : l.stackTraces = false) (ht : c.exceptionTable.toList = []) (a0 : Nat) (hth : jTh hs a0 1) (hrec : ∀ (h : jH) (r : Option Nat ⊕ Nat) (h1 : jH), rec.1 h = some (r, h1) → jcd h a0 = some 1 → jMet l yX2_part (ws_ yX2_part cX2_part 4 (Option.some (Jvm.ClassFile.FieldType.object "WornSkin$Expression"))) FR LO [.ref a0] h h1 (jOc (fun v => some (va_rf v)) r)) : ∀ (n : Nat) (x1 : Option Nat) (x2 : Option Nat), ∀ (h : jH) (H : Heap) (locs : List Loc) (cells slots : Nat) (ls : Array Slot), (fX2_sum_7 N rec a0 n x1 x2).1 h = some (r, h') → jS D dA H0 hs h H locs cells slots → lv_has ls 5 [(0, .ref a0), (1, va_rf x1), (2, va_rf x2)] → W p l e { frames := FR + 8, cells := mc, slots := ms, locals := LO + 184 } s m args below meth c H locs cells slots (jQ D dA H0 below s (jOc (fun v => some (va_rf v)) r) h' mc ms) (F0 m 7 ls []) := by
  have hx := cx.1
  have hb := cx.2.1
  have hown := cx.2.2.2.1
  have hts := cx.2.2.2.2.1
  have hm : h'.2.2.1 ≤ hs.2.2.1 + mc ∧ h'.2.2.2.1 ≤ hs.2.2.2.1 + ms := ⟨Nat.le_of_eq e1, Nat.le_of_eq e2⟩
  intro n
  induction n with
  | zero =>
    intro x1 x2 h H locs cells slots ls hf hS hl
    exact jE_f hf
  | succ n ih =>
    intro x1 x2 h H locs cells slots ls hf hS hl
    unfold fX2_sum_7 at hf
    refine lv_aload_n (pc := 7) hx hb dX2_sum_7 rfl (lv_at hl 0 rfl) ?_
    refine lv_bipush (pc := 8) (v := 43) hx hb dX2_sum_8 rfl ?_
    obtain ⟨y1, h1, e9, hf⟩ := jB_some hf
    refine j_callV (pc := 10) (st1 := [.int y1]) (As := [.int 43]) (rest := []) cx hS rfl hl.1 hm (metX2_isSign l _ _ _ _ _ (hth.at hS) e9) (jle hf) (hth.at hS) rfl (lw_V q959 q961 qs28 q113 q962) pdX2_isSign rfl rfl (Nat.le_of_ble_eq_true rfl) ⟨jfr1 (Nat.le_of_ble_eq_true rfl), jfr1 (Nat.le_of_ble_eq_true rfl)⟩ dX2_sum_10 rfl (fun H locs cells slots hS => ?_)
    refine lv_if_ne (pc := 13) (tgt := 25) hx hb dX2_sum_13 (by decide) (fun hc => ?_) (fun hc => ?_)
    · have hf := jI_f hf hc
      exact wX2_sum_25 cx e1 e2 hfl ht a0 hth hrec ih _ _ _ _ _ _ _ _ hf hS hl
    · have hf := jI_t hf hc
      refine lv_aload_n (pc := 16) hx hb dX2_sum_16 rfl (lv_at hl 0 rfl) ?_
      refine lv_bipush (pc := 17) (v := 45) hx hb dX2_sum_17 rfl ?_
      obtain ⟨y2, h1, e9, hf⟩ := jB_some hf
      refine j_callV (pc := 19) (st1 := [.int y2]) (As := [.int 45]) (rest := []) cx hS rfl hl.1 hm (metX2_isSign l _ _ _ _ _ (hth.at hS) e9) (jle hf) (hth.at hS) rfl (lw_V q959 q961 qs28 q113 q962) pdX2_isSign rfl rfl (Nat.le_of_ble_eq_true rfl) ⟨jfr1 (Nat.le_of_ble_eq_true rfl), jfr1 (Nat.le_of_ble_eq_true rfl)⟩ dX2_sum_19 rfl (fun H locs cells slots hS => ?_)
      refine lv_if_eq (pc := 22) (tgt := 90) hx hb dX2_sum_22 (by decide) (fun hc => ?_) (fun hc => ?_)
      · have hf := jI_t hf hc
        exact wX2_sum_90 cx e1 e2 hfl ht a0 hth hrec _ _ _ _ _ _ _ _ hf hS hl
      · have hf := jI_f hf hc
        exact wX2_sum_25 cx e1 e2 hfl ht a0 hth hrec ih _ _ _ _ _ _ _ _ hf hS hl
theorem wX2_sum_0 {N : Nat} {rec : jM (Option Nat ⊕ Nat)} {FR LO : Nat} {r : Option Nat ⊕ Nat} (cx : jCx p s m args meth c cX2_sum "WornSkin$Reader" 5 (Option.some (Jvm.ClassFile.FieldType.object "WornSkin$Expression")) D dA H0 hs.2.2.2.2) (e1 : h'.2.2.1 = hs.2.2.1 + mc) (e2 : h'.2.2.2.1 = hs.2.2.2.1 + ms) (hfl : l.stackTraces = false) (ht : c.exceptionTable.toList = []) (a0 : Nat) (hth : jTh hs a0 1) (hrec : ∀ (h : jH) (r : Option Nat ⊕ Nat) (h1 : jH), rec.1 h = some (r, h1) → jcd h a0 = some 1 → jMet l yX2_part (ws_ yX2_part cX2_part 4 (Option.some (Jvm.ClassFile.FieldType.object "WornSkin$Expression"))) FR LO [.ref a0] h h1 (jOc (fun v => some (va_rf v)) r)) : ∀ (h : jH) (H : Heap) (locs : List Loc) (cells slots : Nat) (ls : Array Slot), (gX2_sum N rec a0).1 h = some (r, h') → jS D dA H0 hs h H locs cells slots → lv_has ls 5 [(0, .ref a0)] → W p l e { frames := FR + 8, cells := mc, slots := ms, locals := LO + 184 } s m args below meth c H locs cells slots (jQ D dA H0 below s (jOc (fun v => some (va_rf v)) r) h' mc ms) (F0 m 0 ls []) := by
  have hx := cx.1
  have hb := cx.2.1
  have hown := cx.2.2.2.1
  have hts := cx.2.2.2.2.1
  have hm : h'.2.2.1 ≤ hs.2.2.1 + mc ∧ h'.2.2.2.1 ≤ hs.2.2.2.1 + ms := ⟨Nat.le_of_eq e1, Nat.le_of_eq e2⟩
  intro h H locs cells slots ls hf hS hl
  unfold gX2_sum at hf
  refine lv_aload_n (pc := 0) hx hb dX2_sum_0 rfl (lv_at hl 0 rfl) ?_
  rcases jBT_some hf with ⟨y1, h1, e9, hf⟩ | ⟨x9, e9, ez⟩
  rotate_left
  · have ez : r = .inr x9 := ez
    subst ez
    exact j_callVX (pc := 1) (z := ((), h')) (As := []) (rest := []) cx hS rfl hl.1 hm (megX2_term l hfl _ _ _ _ _ _ _ _ (hth.at hS) hrec e9) (jLe.rf _) (hth.at hS) rfl (lw_V q951 q953 qs26 q113 q954) pdX2_term rfl rfl (Nat.le_of_ble_eq_true rfl) ⟨jfr3 (Nat.le_of_ble_eq_true rfl), jlo3 (Nat.le_of_ble_eq_true rfl)⟩ dX2_sum_1 (fun H locs cells slots hS => j_leaves cx hS ht e1 e2)
  refine j_callV (pc := 1) (st1 := [va_rf y1]) (As := []) (rest := []) cx hS rfl hl.1 hm (megX2_term l hfl _ _ _ _ _ _ _ _ (hth.at hS) hrec e9) (jle hf) (hth.at hS) rfl (lw_V q951 q953 qs26 q113 q954) pdX2_term rfl rfl (Nat.le_of_ble_eq_true rfl) ⟨jfr3 (Nat.le_of_ble_eq_true rfl), jlo3 (Nat.le_of_ble_eq_true rfl)⟩ dX2_sum_1 rfl (fun H locs cells slots hS => ?_)
  refine j_astore_n (pc := 4) (i := 1) (r := y1) (lv' := [(1, va_rf y1), (0, .ref a0)]) hx hb dX2_sum_4 rfl hl (Nat.le_of_ble_eq_true rfl) rfl (fun ls hl => ?_)
  refine lv_null (pc := 5) hx hb dX2_sum_5 ?_
  refine j_astore_n (pc := 6) (i := 2) (r := none) (lv' := [(2, va_rf none), (1, va_rf y1), (0, .ref a0)]) hx hb dX2_sum_6 rfl hl (Nat.le_of_ble_eq_true rfl) (by cases y1 <;> rfl) (fun ls hl => ?_)
  exact wX2_sum_7 cx e1 e2 hfl ht a0 hth hrec N _ _ _ _ _ _ _ _ hf hS (lv_sub hl [2, 1, 0] rfl)
theorem megX2_sum (l : Launch) (hfl : l.stackTraces = false) (N : Nat) (rec : jM (Option Nat ⊕ Nat)) (FR LO : Nat) (a0 : Nat) (h h' : jH) (r : Option Nat ⊕ Nat) (hth : jcd h a0 = some 1) (hrec : ∀ (h : jH) (r : Option Nat ⊕ Nat) (h1 : jH), rec.1 h = some (r, h1) → jcd h a0 = some 1 → jMet l yX2_part (ws_ yX2_part cX2_part 4 (Option.some (Jvm.ClassFile.FieldType.object "WornSkin$Expression"))) FR LO [.ref a0] h h1 (jOc (fun v => some (va_rf v)) r)) (hf : (gX2_sum N rec a0).1 h = some (r, h')) : jMet l yX2_sum (ws_ yX2_sum cX2_sum 5 (Option.some (Jvm.ClassFile.FieldType.object "WornSkin$Expression"))) (FR + 8) (LO + 184) [.ref a0] h h' (jOc (fun v => some (va_rf v)) r) := by
  refine jStartT rfl (jle hf) (Nat.le_of_ble_eq_true rfl) ?_
  intro p e s m below meth c D dA H0 mc ms ls ht cx hnm e1 e2 hS hl
  have hth := jTh.mk hS hth
  exact wX2_sum_0 cx e1 e2 hfl ht a0 hth hrec  _ _ _ _ _ _ hf hS hl
def fX2_test_85 (N : Nat) (rec : jM (Option Nat ⊕ Nat)) (a0 : Nat) (x4 : Option Nat) (v0 : Option Nat) (v1 : Option Nat) : jM (Option Nat ⊕ Nat) := jB (jrc 4 v0) fun b2 => jB (fJ2_add b2 v1) fun y1 => jR (.inl x4)
def fX2_test_25 (N : Nat) (rec : jM (Option Nat ⊕ Nat)) (a0 : Nat) (x1 : Option Nat) : jM (Option Nat ⊕ Nat) := jB (fX2_isSign a0 60) fun y1 => jB (jgI [1] 11 (some a0)) fun y2 => jB (jpI [1] 11 (some a0) (y2 + 1)) fun _ => jBT (gX2_sum N rec a0) fun y3 => jB (jnw 20 2 [.null, .null]) fun q4 => jB (fX18_init q4 x1) fun _ => jB (jgR [20] 1 (some q4)) fun y6 => if y1 = 0 then (jB (jnw 25 1 [.null]) fun q7 => jB (fX24_init q7 y3) fun _ => fX2_test_85 N rec a0 (some q4) y6 (some q7)) else (jB (jnw 24 1 [.null]) fun q9 => jB (fX23_init q9 y3) fun _ => fX2_test_85 N rec a0 (some q4) y6 (some q9))
def gX2_test (N : Nat) (rec : jM (Option Nat ⊕ Nat)) (a0 : Nat) : jM (Option Nat ⊕ Nat) := jBT (gX2_sum N rec a0) fun y1 => jB (fX2_isSign a0 60) fun y2 => if y2 = 0 then (jB (fX2_isSign a0 61) fun y3 => if y3 = 0 then (jR (.inl y1)) else (fX2_test_25 N rec a0 y1)) else (fX2_test_25 N rec a0 y1)
theorem wX2_test_85 {N : Nat} {rec : jM (Option Nat ⊕ Nat)} {FR LO : Nat} {r : Option Nat ⊕ Nat} (cx : jCx p s m args meth c cX2_test "WornSkin$Reader" 5 (Option.some (Jvm.ClassFile.FieldType.object "WornSkin$Expression")) D dA H0 hs.2.2.2.2) (e1 : h'.2.2.1 = hs.2.2.1 + mc) (e2 : h'.2.2.2.1 = hs.2.2.2.1 + ms) (hfl : l.stackTraces = false) (ht : c.exceptionTable.toList = []) (a0 : Nat) (hth : jTh hs a0 1) (hrec : ∀ (h : jH) (r : Option Nat ⊕ Nat) (h1 : jH), rec.1 h = some (r, h1) → jcd h a0 = some 1 → jMet l yX2_part (ws_ yX2_part cX2_part 4 (Option.some (Jvm.ClassFile.FieldType.object "WornSkin$Expression"))) FR LO [.ref a0] h h1 (jOc (fun v => some (va_rf v)) r)) : ∀ (x4 : Option Nat) (v0 : Option Nat) (v1 : Option Nat), ∀ (h : jH) (H : Heap) (locs : List Loc) (cells slots : Nat) (ls : Array Slot), (fX2_test_85 N rec a0 x4 v0 v1).1 h = some (r, h') → jS D dA H0 hs h H locs cells slots → lv_has ls 5 [(0, .ref a0), (4, va_rf x4)] → W p l e { frames := FR + 9, cells := mc, slots := ms, locals := LO + 208 } s m args below meth c H locs cells slots (jQ D dA H0 below s (jOc (fun v => some (va_rf v)) r) h' mc ms) (F0 m 85 ls [va_rf v1, va_rf v0]) := by
  have hx := cx.1
  have hb := cx.2.1
  have hown := cx.2.2.2.1
  have hts := cx.2.2.2.2.1
  have hm : h'.2.2.1 ≤ hs.2.2.1 + mc ∧ h'.2.2.2.1 ≤ hs.2.2.2.1 + ms := ⟨Nat.le_of_eq e1, Nat.le_of_eq e2⟩
  intro x4 v0 v1 h H locs cells slots ls hf hS hl
  unfold fX2_test_85 at hf
  obtain ⟨b2, eb, hrc, hf⟩ := jrc_s hf
  refine j_nn (pc := 85) eb [va_rf v1] [] rfl ?_
  obtain ⟨y1, h1, e9, hf⟩ := jB_some hf
  refine j_callV (pc := 85) (st1 := [.int y1]) (As := [va_rf v1]) (rest := []) cx hS rfl hl.1 hm (metJ2_add l _ _ _ _ _ hrc e9) (jle hf) hrc rfl (lw_V q726 q727 q728 q118 q729) pdJ2_add rfl rfl (Nat.le_of_ble_eq_true rfl) ⟨jfr1 (Nat.le_of_ble_eq_true rfl), jfr1 (Nat.le_of_ble_eq_true rfl)⟩ dX2_test_85 rfl (fun H locs cells slots hS => ?_)
  refine lv_pop (pc := 88) hx hb dX2_test_88 rfl ?_
  refine j_aload (pc := 89) (r := x4) hx hb dX2_test_89 (lv_at hl 1 rfl) ?_
  exact j_aretT (pc := 91) cx hS hf (Or.inl ⟨_, rfl⟩) e1 e2 dX2_test_91
theorem wX2_test_25 {N : Nat} {rec : jM (Option Nat ⊕ Nat)} {FR LO : Nat} {r : Option Nat ⊕ Nat} (cx : jCx p s m args meth c cX2_test "WornSkin$Reader" 5 (Option.some (Jvm.ClassFile.FieldType.object "WornSkin$Expression")) D dA H0 hs.2.2.2.2) (e1 : h'.2.2.1 = hs.2.2.1 + mc) (e2 : h'.2.2.2.1 = hs.2.2.2.1 + ms) (hfl : l.stackTraces = false) (ht : c.exceptionTable.toList = []) (a0 : Nat) (hth : jTh hs a0 1) (hrec : ∀ (h : jH) (r : Option Nat ⊕ Nat) (h1 : jH), rec.1 h = some (r, h1) → jcd h a0 = some 1 → jMet l yX2_part (ws_ yX2_part cX2_part 4 (Option.some (Jvm.ClassFile.FieldType.object "WornSkin$Expression"))) FR LO [.ref a0] h h1 (jOc (fun v => some (va_rf v)) r)) : ∀ (x1 : Option Nat), ∀ (h : jH) (H : Heap) (locs : List Loc) (cells slots : Nat) (ls : Array Slot), (fX2_test_25 N rec a0 x1).1 h = some (r, h') → jS D dA H0 hs h H locs cells slots → lv_has ls 5 [(0, .ref a0), (1, va_rf x1)] → W p l e { frames := FR + 9, cells := mc, slots := ms, locals := LO + 208 } s m args below meth c H locs cells slots (jQ D dA H0 below s (jOc (fun v => some (va_rf v)) r) h' mc ms) (F0 m 25 ls []) := by
  have hx := cx.1
  have hb := cx.2.1
  have hown := cx.2.2.2.1
  have hts := cx.2.2.2.2.1
  have hm : h'.2.2.1 ≤ hs.2.2.1 + mc ∧ h'.2.2.2.1 ≤ hs.2.2.2.1 + ms := ⟨Nat.le_of_eq e1, Nat.le_of_eq e2⟩
  intro x1 h H locs cells slots ls hf hS hl
  unfold fX2_test_25 at hf
  refine lv_aload_n (pc := 25) hx hb dX2_test_25 rfl (lv_at hl 0 rfl) ?_
  refine lv_bipush (pc := 26) (v := 60) hx hb dX2_test_26 rfl ?_
  obtain ⟨y1, h1, e9, hf⟩ := jB_some hf
  refine j_callV (pc := 28) (st1 := [.int y1]) (As := [.int 60]) (rest := []) cx hS rfl hl.1 hm (metX2_isSign l _ _ _ _ _ (hth.at hS) e9) (jle hf) (hth.at hS) rfl (lw_V q959 q961 qs28 q113 q962) pdX2_isSign rfl rfl (Nat.le_of_ble_eq_true rfl) ⟨jfr1 (Nat.le_of_ble_eq_true rfl), jfr1 (Nat.le_of_ble_eq_true rfl)⟩ dX2_test_28 rfl (fun H locs cells slots hS => ?_)
  refine lv_istore_n (pc := 31) (i := 2) (lv' := [(2, .int y1), (0, .ref a0), (1, va_rf x1)]) hx hb dX2_test_31 rfl hl (Nat.le_of_ble_eq_true rfl) (by cases x1 <;> rfl) (fun ls hl => ?_)
  refine lv_aload_n (pc := 32) hx hb dX2_test_32 rfl (lv_at hl 1 rfl) ?_
  refine lv_dup (pc := 33) hx hb dX2_test_33 rfl ?_
  refine j_gI (pc := 34) cx hS hf fd_WornSkin_Reader_at q217 dX2_test_34 (fun y2 hf => ?_)
  refine lv_iconst (pc := 37) (v := 1) hx hb dX2_test_37 rfl ?_
  refine lv_iadd (pc := 38) hx hb dX2_test_38 ?_
  refine j_pI (pc := 39) cx hS hf fp_WornSkin_Reader_at (Or.inl rfl) q217 dX2_test_39 (fun h H locs hf hS => ?_)
  refine lv_aload_n (pc := 42) hx hb dX2_test_42 rfl (lv_at hl 1 rfl) ?_
  rcases jBT_some hf with ⟨y3, h1, e9, hf⟩ | ⟨x9, e9, ez⟩
  rotate_left
  · have ez : r = .inr x9 := ez
    subst ez
    exact j_callVX (pc := 43) (z := ((), h')) (As := []) (rest := []) cx hS rfl hl.1 hm (megX2_sum l hfl _ _ _ _ _ _ _ _ (hth.at hS) hrec e9) (jLe.rf _) (hth.at hS) rfl (lw_V q947 q949 qs25 q113 q950) pdX2_sum rfl rfl (Nat.le_of_ble_eq_true rfl) ⟨jfr3 (Nat.le_of_ble_eq_true rfl), jlo3 (Nat.le_of_ble_eq_true rfl)⟩ dX2_test_43 (fun H locs cells slots hS => j_leaves cx hS ht e1 e2)
  refine j_callV (pc := 43) (st1 := [va_rf y3]) (As := []) (rest := []) cx hS rfl hl.1 hm (megX2_sum l hfl _ _ _ _ _ _ _ _ (hth.at hS) hrec e9) (jle hf) (hth.at hS) rfl (lw_V q947 q949 qs25 q113 q950) pdX2_sum rfl rfl (Nat.le_of_ble_eq_true rfl) ⟨jfr3 (Nat.le_of_ble_eq_true rfl), jlo3 (Nat.le_of_ble_eq_true rfl)⟩ dX2_test_43 rfl (fun H locs cells slots hS => ?_)
  refine j_astore_n (pc := 46) (i := 3) (r := y3) (lv' := [(3, va_rf y3), (2, .int y1), (0, .ref a0), (1, va_rf x1)]) hx hb dX2_test_46 rfl hl (Nat.le_of_ble_eq_true rfl) rfl (fun ls hl => ?_)
  refine j_new (pc := 47) cx hS hf cn_X18 q1007 dX2_test_47 hm (fun q4 h H cells slots hf hS => ?_)
  refine lv_dup (pc := 50) hx hb dX2_test_50 rfl ?_
  refine j_aload_n (pc := 51) (r := x1) hx hb dX2_test_51 rfl (lv_at hl 3 rfl) ?_
  obtain ⟨_, h1, e9, hf⟩ := jB_some hf
  refine j_callI (pc := 52) (st1 := [.ref q4]) (As := [va_rf x1]) (rest := [.ref q4]) cx hS rfl hl.1 hm (metX18_init l _ _ _ _ _ e9) (jle hf) rfl q1011 q1010 q1009 q149 pdX18_init rfl rfl (Nat.le_of_ble_eq_true rfl) ⟨jfr1 (Nat.le_of_ble_eq_true rfl), jfr1 (Nat.le_of_ble_eq_true rfl)⟩ dX2_test_52 rfl (fun H locs cells slots hS => ?_)
  refine lv_astore (pc := 55) (i := 4) (lv' := [(4, .ref q4), (3, va_rf y3), (2, .int y1), (0, .ref a0), (1, va_rf x1)]) hx hb dX2_test_55 hl (Nat.le_of_ble_eq_true rfl) (by cases y3 <;> rfl) (fun ls hl => ?_)
  refine lv_aload (pc := 57) hx hb dX2_test_57 (lv_at hl 0 rfl) ?_
  refine j_gR (pc := 59) cx hS hf fd_WornSkin_Chain_links q1017 dX2_test_59 (fun y6 hf => ?_)
  refine lv_iload_n (pc := 62) hx hb dX2_test_62 rfl (lv_at hl 2 rfl) ?_
  refine lv_if_eq (pc := 63) (tgt := 77) hx hb dX2_test_63 (by decide) (fun hc => ?_) (fun hc => ?_)
  · have hf := jI_t hf hc
    refine j_new (pc := 77) cx hS hf cn_X24 q1060 dX2_test_77 hm (fun q7 h H cells slots hf hS => ?_)
    refine lv_dup (pc := 80) hx hb dX2_test_80 rfl ?_
    refine j_aload_n (pc := 81) (r := y3) hx hb dX2_test_81 rfl (lv_at hl 1 rfl) ?_
    obtain ⟨_, h1, e9, hf⟩ := jB_some hf
    refine j_callI (pc := 82) (st1 := [.ref q7, va_rf y6]) (As := [va_rf y3]) (rest := [.ref q7, va_rf y6]) cx hS rfl hl.1 hm (metX24_init l _ _ _ _ _ e9) (jle hf) rfl q1064 q1063 q1062 q155 pdX24_init rfl rfl (by simp only [List.map_cons, List.map_nil, List.sum_cons, List.sum_nil, jrfc]; exact Nat.le_of_ble_eq_true rfl) ⟨jfr1 (Nat.le_of_ble_eq_true rfl), jfr1 (Nat.le_of_ble_eq_true rfl)⟩ dX2_test_82 rfl (fun H locs cells slots hS => ?_)
    exact wX2_test_85 cx e1 e2 hfl ht a0 hth hrec _ _ _ _ _ _ _ _ _ hf hS (lv_sub hl [3, 0] rfl)
  · have hf := jI_f hf hc
    refine j_new (pc := 66) cx hS hf cn_X23 q1052 dX2_test_66 hm (fun q9 h H cells slots hf hS => ?_)
    refine lv_dup (pc := 69) hx hb dX2_test_69 rfl ?_
    refine j_aload_n (pc := 70) (r := y3) hx hb dX2_test_70 rfl (lv_at hl 1 rfl) ?_
    obtain ⟨_, h1, e9, hf⟩ := jB_some hf
    refine j_callI (pc := 71) (st1 := [.ref q9, va_rf y6]) (As := [va_rf y3]) (rest := [.ref q9, va_rf y6]) cx hS rfl hl.1 hm (metX23_init l _ _ _ _ _ e9) (jle hf) rfl q1056 q1055 q1054 q154 pdX23_init rfl rfl (by simp only [List.map_cons, List.map_nil, List.sum_cons, List.sum_nil, jrfc]; exact Nat.le_of_ble_eq_true rfl) ⟨jfr1 (Nat.le_of_ble_eq_true rfl), jfr1 (Nat.le_of_ble_eq_true rfl)⟩ dX2_test_71 rfl (fun H locs cells slots hS => ?_)
    refine lv_goto (pc := 74) (tgt := 85) hx hb dX2_test_74 (by decide) ?_
    exact wX2_test_85 cx e1 e2 hfl ht a0 hth hrec _ _ _ _ _ _ _ _ _ hf hS (lv_sub hl [3, 0] rfl)
theorem wX2_test_0 {N : Nat} {rec : jM (Option Nat ⊕ Nat)} {FR LO : Nat} {r : Option Nat ⊕ Nat} (cx : jCx p s m args meth c cX2_test "WornSkin$Reader" 5 (Option.some (Jvm.ClassFile.FieldType.object "WornSkin$Expression")) D dA H0 hs.2.2.2.2) (e1 : h'.2.2.1 = hs.2.2.1 + mc) (e2 : h'.2.2.2.1 = hs.2.2.2.1 + ms) (hfl : l.stackTraces = false) (ht : c.exceptionTable.toList = []) (a0 : Nat) (hth : jTh hs a0 1) (hrec : ∀ (h : jH) (r : Option Nat ⊕ Nat) (h1 : jH), rec.1 h = some (r, h1) → jcd h a0 = some 1 → jMet l yX2_part (ws_ yX2_part cX2_part 4 (Option.some (Jvm.ClassFile.FieldType.object "WornSkin$Expression"))) FR LO [.ref a0] h h1 (jOc (fun v => some (va_rf v)) r)) : ∀ (h : jH) (H : Heap) (locs : List Loc) (cells slots : Nat) (ls : Array Slot), (gX2_test N rec a0).1 h = some (r, h') → jS D dA H0 hs h H locs cells slots → lv_has ls 5 [(0, .ref a0)] → W p l e { frames := FR + 9, cells := mc, slots := ms, locals := LO + 208 } s m args below meth c H locs cells slots (jQ D dA H0 below s (jOc (fun v => some (va_rf v)) r) h' mc ms) (F0 m 0 ls []) := by
  have hx := cx.1
  have hb := cx.2.1
  have hown := cx.2.2.2.1
  have hts := cx.2.2.2.2.1
  have hm : h'.2.2.1 ≤ hs.2.2.1 + mc ∧ h'.2.2.2.1 ≤ hs.2.2.2.1 + ms := ⟨Nat.le_of_eq e1, Nat.le_of_eq e2⟩
  intro h H locs cells slots ls hf hS hl
  unfold gX2_test at hf
  refine lv_aload_n (pc := 0) hx hb dX2_test_0 rfl (lv_at hl 0 rfl) ?_
  rcases jBT_some hf with ⟨y1, h1, e9, hf⟩ | ⟨x9, e9, ez⟩
  rotate_left
  · have ez : r = .inr x9 := ez
    subst ez
    exact j_callVX (pc := 1) (z := ((), h')) (As := []) (rest := []) cx hS rfl hl.1 hm (megX2_sum l hfl _ _ _ _ _ _ _ _ (hth.at hS) hrec e9) (jLe.rf _) (hth.at hS) rfl (lw_V q947 q949 qs25 q113 q950) pdX2_sum rfl rfl (Nat.le_of_ble_eq_true rfl) ⟨jfr3 (Nat.le_of_ble_eq_true rfl), jlo3 (Nat.le_of_ble_eq_true rfl)⟩ dX2_test_1 (fun H locs cells slots hS => j_leaves cx hS ht e1 e2)
  refine j_callV (pc := 1) (st1 := [va_rf y1]) (As := []) (rest := []) cx hS rfl hl.1 hm (megX2_sum l hfl _ _ _ _ _ _ _ _ (hth.at hS) hrec e9) (jle hf) (hth.at hS) rfl (lw_V q947 q949 qs25 q113 q950) pdX2_sum rfl rfl (Nat.le_of_ble_eq_true rfl) ⟨jfr3 (Nat.le_of_ble_eq_true rfl), jlo3 (Nat.le_of_ble_eq_true rfl)⟩ dX2_test_1 rfl (fun H locs cells slots hS => ?_)
  refine j_astore_n (pc := 4) (i := 1) (r := y1) (lv' := [(1, va_rf y1), (0, .ref a0)]) hx hb dX2_test_4 rfl hl (Nat.le_of_ble_eq_true rfl) rfl (fun ls hl => ?_)
  refine lv_aload_n (pc := 5) hx hb dX2_test_5 rfl (lv_at hl 1 rfl) ?_
  refine lv_bipush (pc := 6) (v := 60) hx hb dX2_test_6 rfl ?_
  obtain ⟨y2, h1, e9, hf⟩ := jB_some hf
  refine j_callV (pc := 8) (st1 := [.int y2]) (As := [.int 60]) (rest := []) cx hS rfl hl.1 hm (metX2_isSign l _ _ _ _ _ (hth.at hS) e9) (jle hf) (hth.at hS) rfl (lw_V q959 q961 qs28 q113 q962) pdX2_isSign rfl rfl (Nat.le_of_ble_eq_true rfl) ⟨jfr1 (Nat.le_of_ble_eq_true rfl), jfr1 (Nat.le_of_ble_eq_true rfl)⟩ dX2_test_8 rfl (fun H locs cells slots hS => ?_)
  refine lv_if_ne (pc := 11) (tgt := 25) hx hb dX2_test_11 (by decide) (fun hc => ?_) (fun hc => ?_)
  · have hf := jI_f hf hc
    exact wX2_test_25 cx e1 e2 hfl ht a0 hth hrec _ _ _ _ _ _ _ hf hS (lv_sub hl [1, 0] rfl)
  · have hf := jI_t hf hc
    refine lv_aload_n (pc := 14) hx hb dX2_test_14 rfl (lv_at hl 1 rfl) ?_
    refine lv_bipush (pc := 15) (v := 61) hx hb dX2_test_15 rfl ?_
    obtain ⟨y3, h1, e9, hf⟩ := jB_some hf
    refine j_callV (pc := 17) (st1 := [.int y3]) (As := [.int 61]) (rest := []) cx hS rfl hl.1 hm (metX2_isSign l _ _ _ _ _ (hth.at hS) e9) (jle hf) (hth.at hS) rfl (lw_V q959 q961 qs28 q113 q962) pdX2_isSign rfl rfl (Nat.le_of_ble_eq_true rfl) ⟨jfr1 (Nat.le_of_ble_eq_true rfl), jfr1 (Nat.le_of_ble_eq_true rfl)⟩ dX2_test_17 rfl (fun H locs cells slots hS => ?_)
    refine lv_if_ne (pc := 20) (tgt := 25) hx hb dX2_test_20 (by decide) (fun hc => ?_) (fun hc => ?_)
    · have hf := jI_f hf hc
      exact wX2_test_25 cx e1 e2 hfl ht a0 hth hrec _ _ _ _ _ _ _ hf hS (lv_sub hl [1, 0] rfl)
    · have hf := jI_t hf hc
      refine j_aload_n (pc := 23) (r := y1) hx hb dX2_test_23 rfl (lv_at hl 0 rfl) ?_
      exact j_aretT (pc := 24) cx hS hf (Or.inl ⟨_, rfl⟩) e1 e2 dX2_test_24
theorem megX2_test (l : Launch) (hfl : l.stackTraces = false) (N : Nat) (rec : jM (Option Nat ⊕ Nat)) (FR LO : Nat) (a0 : Nat) (h h' : jH) (r : Option Nat ⊕ Nat) (hth : jcd h a0 = some 1) (hrec : ∀ (h : jH) (r : Option Nat ⊕ Nat) (h1 : jH), rec.1 h = some (r, h1) → jcd h a0 = some 1 → jMet l yX2_part (ws_ yX2_part cX2_part 4 (Option.some (Jvm.ClassFile.FieldType.object "WornSkin$Expression"))) FR LO [.ref a0] h h1 (jOc (fun v => some (va_rf v)) r)) (hf : (gX2_test N rec a0).1 h = some (r, h')) : jMet l yX2_test (ws_ yX2_test cX2_test 5 (Option.some (Jvm.ClassFile.FieldType.object "WornSkin$Expression"))) (FR + 9) (LO + 208) [.ref a0] h h' (jOc (fun v => some (va_rf v)) r) := by
  refine jStartT rfl (jle hf) (Nat.le_of_ble_eq_true rfl) ?_
  intro p e s m below meth c D dA H0 mc ms ls ht cx hnm e1 e2 hS hl
  have hth := jTh.mk hS hth
  exact wX2_test_0 cx e1 e2 hfl ht a0 hth hrec  _ _ _ _ _ _ hf hS hl
def fX2_all_99 (N : Nat) (rec : jM (Option Nat ⊕ Nat)) (a0 : Nat) (v0 : Option Nat) : jM (Option Nat ⊕ Nat) := jR (.inl v0)
def fX2_all_90 (N : Nat) (rec : jM (Option Nat ⊕ Nat)) (a0 : Nat) (x1 : Option Nat) (x2 : Option Nat) : jM (Option Nat ⊕ Nat) := if x2 = none then (fX2_all_99 N rec a0 x1) else (fX2_all_99 N rec a0 x2)
def fX2_all_83 (N : Nat) (rec : jM (Option Nat ⊕ Nat)) (k7 : Option Nat → Option Nat → jM (Option Nat ⊕ Nat)) (a0 : Nat) (x1 : Option Nat) (x2 : Option Nat) (v0 : Option Nat) (v1 : Option Nat) : jM (Option Nat ⊕ Nat) := jB (jrc 4 v0) fun b2 => jB (fJ2_add b2 v1) fun y1 => k7 x1 x2
def fX2_all_25 (N : Nat) (rec : jM (Option Nat ⊕ Nat)) (k7 : Option Nat → Option Nat → jM (Option Nat ⊕ Nat)) (a0 : Nat) (x1 : Option Nat) (x2 : Option Nat) : jM (Option Nat ⊕ Nat) := jB (jK 23) fun y1 => jB (fX2_isWord N a0 y1) fun y2 => jB (jgI [1] 11 (some a0)) fun y3 => jB (jpI [1] 11 (some a0) (y3 + 1)) fun _ => jBT (gX2_test N rec a0) fun y4 => jB (fX2_chain x1 x2) fun y5 => jB (jgR [20] 1 y5) fun y6 => if y2 = 0 then (jB (jnw 27 1 [.null]) fun q7 => jB (fX26_init q7 y4) fun _ => fX2_all_83 N rec k7 a0 x1 y5 y6 (some q7)) else (jB (jnw 26 1 [.null]) fun q9 => jB (fX25_init q9 y4) fun _ => fX2_all_83 N rec k7 a0 x1 y5 y6 (some q9))
def fX2_all_7 (N : Nat) (rec : jM (Option Nat ⊕ Nat)) (a0 : Nat) : Nat → Option Nat → Option Nat → jM (Option Nat ⊕ Nat)
  | 0, _, _ => jE
  | n + 1, x1, x2 => jB (jK 23) fun y1 => jB (fX2_isWord N a0 y1) fun y2 => if y2 = 0 then (jB (jK 24) fun y3 => jB (fX2_isWord N a0 y3) fun y4 => if y4 = 0 then (fX2_all_90 N rec a0 x1 x2) else (fX2_all_25 N rec (fX2_all_7 N rec a0 n) a0 x1 x2)) else (fX2_all_25 N rec (fX2_all_7 N rec a0 n) a0 x1 x2)
def gX2_all (N : Nat) (rec : jM (Option Nat ⊕ Nat)) (a0 : Nat) : jM (Option Nat ⊕ Nat) := jBT (gX2_test N rec a0) fun y1 => fX2_all_7 N rec a0 N y1 none
theorem wX2_all_99 {N : Nat} {rec : jM (Option Nat ⊕ Nat)} {FR LO : Nat} {r : Option Nat ⊕ Nat} (cx : jCx p s m args meth c cX2_all "WornSkin$Reader" 5 (Option.some (Jvm.ClassFile.FieldType.object "WornSkin$Expression")) D dA H0 hs.2.2.2.2) (e1 : h'.2.2.1 = hs.2.2.1 + mc) (e2 : h'.2.2.2.1 = hs.2.2.2.1 + ms) (hfl : l.stackTraces = false) (ht : c.exceptionTable.toList = []) (a0 : Nat) (hth : jTh hs a0 1) (hrec : ∀ (h : jH) (r : Option Nat ⊕ Nat) (h1 : jH), rec.1 h = some (r, h1) → jcd h a0 = some 1 → jMet l yX2_part (ws_ yX2_part cX2_part 4 (Option.some (Jvm.ClassFile.FieldType.object "WornSkin$Expression"))) FR LO [.ref a0] h h1 (jOc (fun v => some (va_rf v)) r)) : ∀ (v0 : Option Nat), ∀ (h : jH) (H : Heap) (locs : List Loc) (cells slots : Nat) (ls : Array Slot), (fX2_all_99 N rec a0 v0).1 h = some (r, h') → jS D dA H0 hs h H locs cells slots → lv_has ls 5 [(0, .ref a0)] → W p l e { frames := FR + 10, cells := mc, slots := ms, locals := LO + 232 } s m args below meth c H locs cells slots (jQ D dA H0 below s (jOc (fun v => some (va_rf v)) r) h' mc ms) (F0 m 99 ls [va_rf v0]) := by
  have hx := cx.1
  have hb := cx.2.1
  have hown := cx.2.2.2.1
  have hts := cx.2.2.2.2.1
  have hm : h'.2.2.1 ≤ hs.2.2.1 + mc ∧ h'.2.2.2.1 ≤ hs.2.2.2.1 + ms := ⟨Nat.le_of_eq e1, Nat.le_of_eq e2⟩
  intro v0 h H locs cells slots ls hf hS hl
  unfold fX2_all_99 at hf
  exact j_aretT (pc := 99) cx hS hf (Or.inl ⟨_, rfl⟩) e1 e2 dX2_all_99
theorem wX2_all_90 {N : Nat} {rec : jM (Option Nat ⊕ Nat)} {FR LO : Nat} {r : Option Nat ⊕ Nat} (cx : jCx p s m args meth c cX2_all "WornSkin$Reader" 5 (Option.some (Jvm.ClassFile.FieldType.object "WornSkin$Expression")) D dA H0 hs.2.2.2.2) (e1 : h'.2.2.1 = hs.2.2.1 + mc) (e2 : h'.2.2.2.1 = hs.2.2.2.1 + ms) (hfl : l.stackTraces = false) (ht : c.exceptionTable.toList = []) (a0 : Nat) (hth : jTh hs a0 1) (hrec : ∀ (h : jH) (r : Option Nat ⊕ Nat) (h1 : jH), rec.1 h = some (r, h1) → jcd h a0 = some 1 → jMet l yX2_part (ws_ yX2_part cX2_part 4 (Option.some (Jvm.ClassFile.FieldType.object "WornSkin$Expression"))) FR LO [.ref a0] h h1 (jOc (fun v => some (va_rf v)) r)) : ∀ (x1 : Option Nat) (x2 : Option Nat), ∀ (h : jH) (H : Heap) (locs : List Loc) (cells slots : Nat) (ls : Array Slot), (fX2_all_90 N rec a0 x1 x2).1 h = some (r, h') → jS D dA H0 hs h H locs cells slots → lv_has ls 5 [(0, .ref a0), (1, va_rf x1), (2, va_rf x2)] → W p l e { frames := FR + 10, cells := mc, slots := ms, locals := LO + 232 } s m args below meth c H locs cells slots (jQ D dA H0 below s (jOc (fun v => some (va_rf v)) r) h' mc ms) (F0 m 90 ls []) := by
  have hx := cx.1
  have hb := cx.2.1
  have hown := cx.2.2.2.1
  have hts := cx.2.2.2.2.1
  have hm : h'.2.2.1 ≤ hs.2.2.1 + mc ∧ h'.2.2.2.1 ≤ hs.2.2.2.1 + ms := ⟨Nat.le_of_eq e1, Nat.le_of_eq e2⟩
  intro x1 x2 h H locs cells slots ls hf hS hl
  unfold fX2_all_90 at hf
  refine j_aload_n (pc := 90) (r := x2) hx hb dX2_all_90 rfl (lv_at hl 2 rfl) ?_
  refine j_ifnonnull (pc := 91) (tgt := 98) (r := x2) hx hb dX2_all_91 (by decide) (fun hc => ?_) (fun hc => ?_)
  · have hf := jI_f hf hc
    refine j_aload_n (pc := 98) (r := x2) hx hb dX2_all_98 rfl (lv_at hl 2 rfl) ?_
    exact wX2_all_99 cx e1 e2 hfl ht a0 hth hrec _ _ _ _ _ _ _ hf hS (lv_sub hl [0] rfl)
  · have hf := jI_t hf hc
    refine j_aload_n (pc := 94) (r := x1) hx hb dX2_all_94 rfl (lv_at hl 1 rfl) ?_
    refine lv_goto (pc := 95) (tgt := 99) hx hb dX2_all_95 (by decide) ?_
    exact wX2_all_99 cx e1 e2 hfl ht a0 hth hrec _ _ _ _ _ _ _ hf hS (lv_sub hl [0] rfl)
theorem wX2_all_83 {N : Nat} {rec : jM (Option Nat ⊕ Nat)} {FR LO : Nat} {k7 : Option Nat → Option Nat → jM (Option Nat ⊕ Nat)} {r : Option Nat ⊕ Nat} (cx : jCx p s m args meth c cX2_all "WornSkin$Reader" 5 (Option.some (Jvm.ClassFile.FieldType.object "WornSkin$Expression")) D dA H0 hs.2.2.2.2) (e1 : h'.2.2.1 = hs.2.2.1 + mc) (e2 : h'.2.2.2.1 = hs.2.2.2.1 + ms) (hfl : l.stackTraces = false) (ht : c.exceptionTable.toList = []) (a0 : Nat) (hth : jTh hs a0 1) (hrec : ∀ (h : jH) (r : Option Nat ⊕ Nat) (h1 : jH), rec.1 h = some (r, h1) → jcd h a0 = some 1 → jMet l yX2_part (ws_ yX2_part cX2_part 4 (Option.some (Jvm.ClassFile.FieldType.object "WornSkin$Expression"))) FR LO [.ref a0] h h1 (jOc (fun v => some (va_rf v)) r)) (hk7 : ∀ (x1 : Option Nat) (x2 : Option Nat), ∀ (h : jH) (H : Heap) (locs : List Loc) (cells slots : Nat) (ls : Array Slot), (k7 x1 x2).1 h = some (r, h') → jS D dA H0 hs h H locs cells slots → lv_has ls 5 [(0, .ref a0), (1, va_rf x1), (2, va_rf x2)] → W p l e { frames := FR + 10, cells := mc, slots := ms, locals := LO + 232 } s m args below meth c H locs cells slots (jQ D dA H0 below s (jOc (fun v => some (va_rf v)) r) h' mc ms) (F0 m 7 ls [])) : ∀ (x1 : Option Nat) (x2 : Option Nat) (v0 : Option Nat) (v1 : Option Nat), ∀ (h : jH) (H : Heap) (locs : List Loc) (cells slots : Nat) (ls : Array Slot), (fX2_all_83 N rec k7 a0 x1 x2 v0 v1).1 h = some (r, h') → jS D dA H0 hs h H locs cells slots → lv_has ls 5 [(0, .ref a0), (1, va_rf x1), (2, va_rf x2)] → W p l e { frames := FR + 10, cells := mc, slots := ms, locals := LO + 232 } s m args below meth c H locs cells slots (jQ D dA H0 below s (jOc (fun v => some (va_rf v)) r) h' mc ms) (F0 m 83 ls [va_rf v1, va_rf v0]) := by
  have hx := cx.1
  have hb := cx.2.1
  have hown := cx.2.2.2.1
  have hts := cx.2.2.2.2.1
  have hm : h'.2.2.1 ≤ hs.2.2.1 + mc ∧ h'.2.2.2.1 ≤ hs.2.2.2.1 + ms := ⟨Nat.le_of_eq e1, Nat.le_of_eq e2⟩
  intro x1 x2 v0 v1 h H locs cells slots ls hf hS hl
  unfold fX2_all_83 at hf
  obtain ⟨b2, eb, hrc, hf⟩ := jrc_s hf
  refine j_nn (pc := 83) eb [va_rf v1] [] rfl ?_
  obtain ⟨y1, h1, e9, hf⟩ := jB_some hf
  refine j_callV (pc := 83) (st1 := [.int y1]) (As := [va_rf v1]) (rest := []) cx hS rfl hl.1 hm (metJ2_add l _ _ _ _ _ hrc e9) (jle hf) hrc rfl (lw_V q726 q727 q728 q118 q729) pdJ2_add rfl rfl (Nat.le_of_ble_eq_true rfl) ⟨jfr1 (Nat.le_of_ble_eq_true rfl), jfr1 (Nat.le_of_ble_eq_true rfl)⟩ dX2_all_83 rfl (fun H locs cells slots hS => ?_)
  refine lv_pop (pc := 86) hx hb dX2_all_86 rfl ?_
  refine lv_goto (pc := 87) (tgt := 7) hx hb dX2_all_87 (by decide) ?_
  exact hk7 _ _ _ _ _ _ _ _ hf hS hl
theorem wX2_all_25 {N : Nat} {rec : jM (Option Nat ⊕ Nat)} {FR LO : Nat} {k7 : Option Nat → Option Nat → jM (Option Nat ⊕ Nat)} {r : Option Nat ⊕ Nat} (cx : jCx p s m args meth c cX2_all "WornSkin$Reader" 5 (Option.some (Jvm.ClassFile.FieldType.object "WornSkin$Expression")) D dA H0 hs.2.2.2.2) (e1 : h'.2.2.1 = hs.2.2.1 + mc) (e2 : h'.2.2.2.1 = hs.2.2.2.1 + ms) (hfl : l.stackTraces = false) (ht : c.exceptionTable.toList = []) (a0 : Nat) (hth : jTh hs a0 1) (hrec : ∀ (h : jH) (r : Option Nat ⊕ Nat) (h1 : jH), rec.1 h = some (r, h1) → jcd h a0 = some 1 → jMet l yX2_part (ws_ yX2_part cX2_part 4 (Option.some (Jvm.ClassFile.FieldType.object "WornSkin$Expression"))) FR LO [.ref a0] h h1 (jOc (fun v => some (va_rf v)) r)) (hk7 : ∀ (x1 : Option Nat) (x2 : Option Nat), ∀ (h : jH) (H : Heap) (locs : List Loc) (cells slots : Nat) (ls : Array Slot), (k7 x1 x2).1 h = some (r, h') → jS D dA H0 hs h H locs cells slots → lv_has ls 5 [(0, .ref a0), (1, va_rf x1), (2, va_rf x2)] → W p l e { frames := FR + 10, cells := mc, slots := ms, locals := LO + 232 } s m args below meth c H locs cells slots (jQ D dA H0 below s (jOc (fun v => some (va_rf v)) r) h' mc ms) (F0 m 7 ls [])) : ∀ (x1 : Option Nat) (x2 : Option Nat), ∀ (h : jH) (H : Heap) (locs : List Loc) (cells slots : Nat) (ls : Array Slot), (fX2_all_25 N rec k7 a0 x1 x2).1 h = some (r, h') → jS D dA H0 hs h H locs cells slots → lv_has ls 5 [(0, .ref a0), (1, va_rf x1), (2, va_rf x2)] → W p l e { frames := FR + 10, cells := mc, slots := ms, locals := LO + 232 } s m args below meth c H locs cells slots (jQ D dA H0 below s (jOc (fun v => some (va_rf v)) r) h' mc ms) (F0 m 25 ls []) := by
  have hx := cx.1
  have hb := cx.2.1
  have hown := cx.2.2.2.1
  have hts := cx.2.2.2.2.1
  have hm : h'.2.2.1 ≤ hs.2.2.1 + mc ∧ h'.2.2.2.1 ≤ hs.2.2.2.1 + ms := ⟨Nat.le_of_eq e1, Nat.le_of_eq e2⟩
  intro x1 x2 h H locs cells slots ls hf hS hl
  unfold fX2_all_25 at hf
  refine lv_aload_n (pc := 25) hx hb dX2_all_25 rfl (lv_at hl 0 rfl) ?_
  refine j_ldcS (pc := 26) cx hS rfl hf (tx := "and") (List.mem_of_getElem? (i := 22) rfl) dX2_all_26 (fun y1 hf => ?_)
  obtain ⟨y2, h1, e9, hf⟩ := jB_some hf
  refine j_callV (pc := 28) (st1 := [.int y2]) (As := [va_rf y1]) (rest := []) cx hS rfl hl.1 hm (metX2_isWord l _ _ _ _ _ _ (hth.at hS) e9) (jle hf) (hth.at hS) rfl (lw_V q582 q584 qs2 q113 q585) pdX2_isWord rfl rfl (Nat.le_of_ble_eq_true rfl) ⟨jfr1 (Nat.le_of_ble_eq_true rfl), jfr1 (Nat.le_of_ble_eq_true rfl)⟩ dX2_all_28 rfl (fun H locs cells slots hS => ?_)
  refine lv_istore_n (pc := 31) (i := 3) (lv' := [(3, .int y2), (0, .ref a0), (1, va_rf x1), (2, va_rf x2)]) hx hb dX2_all_31 rfl hl (Nat.le_of_ble_eq_true rfl) (by cases x2 <;> rfl) (fun ls hl => ?_)
  refine lv_aload_n (pc := 32) hx hb dX2_all_32 rfl (lv_at hl 1 rfl) ?_
  refine lv_dup (pc := 33) hx hb dX2_all_33 rfl ?_
  refine j_gI (pc := 34) cx hS hf fd_WornSkin_Reader_at q217 dX2_all_34 (fun y3 hf => ?_)
  refine lv_iconst (pc := 37) (v := 1) hx hb dX2_all_37 rfl ?_
  refine lv_iadd (pc := 38) hx hb dX2_all_38 ?_
  refine j_pI (pc := 39) cx hS hf fp_WornSkin_Reader_at (Or.inl rfl) q217 dX2_all_39 (fun h H locs hf hS => ?_)
  refine lv_aload_n (pc := 42) hx hb dX2_all_42 rfl (lv_at hl 1 rfl) ?_
  rcases jBT_some hf with ⟨y4, h1, e9, hf⟩ | ⟨x9, e9, ez⟩
  rotate_left
  · have ez : r = .inr x9 := ez
    subst ez
    exact j_callVX (pc := 43) (z := ((), h')) (As := []) (rest := []) cx hS rfl hl.1 hm (megX2_test l hfl _ _ _ _ _ _ _ _ (hth.at hS) hrec e9) (jLe.rf _) (hth.at hS) rfl (lw_V q943 q945 qs24 q113 q946) pdX2_test rfl rfl (Nat.le_of_ble_eq_true rfl) ⟨jfr3 (Nat.le_of_ble_eq_true rfl), jlo3 (Nat.le_of_ble_eq_true rfl)⟩ dX2_all_43 (fun H locs cells slots hS => j_leaves cx hS ht e1 e2)
  refine j_callV (pc := 43) (st1 := [va_rf y4]) (As := []) (rest := []) cx hS rfl hl.1 hm (megX2_test l hfl _ _ _ _ _ _ _ _ (hth.at hS) hrec e9) (jle hf) (hth.at hS) rfl (lw_V q943 q945 qs24 q113 q946) pdX2_test rfl rfl (Nat.le_of_ble_eq_true rfl) ⟨jfr3 (Nat.le_of_ble_eq_true rfl), jlo3 (Nat.le_of_ble_eq_true rfl)⟩ dX2_all_43 rfl (fun H locs cells slots hS => ?_)
  refine j_astore (pc := 46) (i := 4) (r := y4) (lv' := [(4, va_rf y4), (3, .int y2), (0, .ref a0), (1, va_rf x1), (2, va_rf x2)]) hx hb dX2_all_46 hl (Nat.le_of_ble_eq_true rfl) rfl (fun ls hl => ?_)
  refine j_aload_n (pc := 48) (r := x1) hx hb dX2_all_48 rfl (lv_at hl 3 rfl) ?_
  refine j_aload_n (pc := 49) (r := x2) hx hb dX2_all_49 rfl (lv_at hl 4 rfl) ?_
  obtain ⟨y5, h1, e9, hf⟩ := jB_some hf
  refine j_callS (pc := 50) (st1 := [va_rf y5]) (As := [va_rf x1, va_rf x2]) (rest := []) cx hS rfl hl.1 hm (metX2_chain l _ _ _ _ _ e9) (jle hf) (lw_S q1004 q1005 q113 q1006) pdX2_chain rfl rfl (Nat.le_of_ble_eq_true rfl) ⟨jfr1 (Nat.le_of_ble_eq_true rfl), jfr1 (Nat.le_of_ble_eq_true rfl)⟩ dX2_all_50 rfl (fun H locs cells slots hS => ?_)
  refine j_astore_n (pc := 53) (i := 2) (r := y5) (lv' := [(2, va_rf y5), (4, va_rf y4), (3, .int y2), (0, .ref a0), (1, va_rf x1)]) hx hb dX2_all_53 rfl hl (Nat.le_of_ble_eq_true rfl) (by cases x1 <;> rfl) (fun ls hl => ?_)
  refine j_aload_n (pc := 54) (r := y5) hx hb dX2_all_54 rfl (lv_at hl 0 rfl) ?_
  refine j_gR (pc := 55) cx hS hf fd_WornSkin_Chain_links q1017 dX2_all_55 (fun y6 hf => ?_)
  refine lv_iload_n (pc := 58) hx hb dX2_all_58 rfl (lv_at hl 2 rfl) ?_
  refine lv_if_eq (pc := 59) (tgt := 74) hx hb dX2_all_59 (by decide) (fun hc => ?_) (fun hc => ?_)
  · have hf := jI_t hf hc
    refine j_new (pc := 74) cx hS hf cn_X26 q1076 dX2_all_74 hm (fun q7 h H cells slots hf hS => ?_)
    refine lv_dup (pc := 77) hx hb dX2_all_77 rfl ?_
    refine j_aload (pc := 78) (r := y4) hx hb dX2_all_78 (lv_at hl 1 rfl) ?_
    obtain ⟨_, h1, e9, hf⟩ := jB_some hf
    refine j_callI (pc := 80) (st1 := [.ref q7, va_rf y6]) (As := [va_rf y4]) (rest := [.ref q7, va_rf y6]) cx hS rfl hl.1 hm (metX26_init l _ _ _ _ _ e9) (jle hf) rfl q1080 q1079 q1078 q157 pdX26_init rfl rfl (by simp only [List.map_cons, List.map_nil, List.sum_cons, List.sum_nil, jrfc]; exact Nat.le_of_ble_eq_true rfl) ⟨jfr1 (Nat.le_of_ble_eq_true rfl), jfr1 (Nat.le_of_ble_eq_true rfl)⟩ dX2_all_80 rfl (fun H locs cells slots hS => ?_)
    exact wX2_all_83 cx e1 e2 hfl ht a0 hth hrec hk7 _ _ _ _ _ _ _ _ _ _ hf hS (lv_sub hl [3, 4, 0] rfl)
  · have hf := jI_f hf hc
    refine j_new (pc := 62) cx hS hf cn_X25 q1068 dX2_all_62 hm (fun q9 h H cells slots hf hS => ?_)
    refine lv_dup (pc := 65) hx hb dX2_all_65 rfl ?_
    refine j_aload (pc := 66) (r := y4) hx hb dX2_all_66 (lv_at hl 1 rfl) ?_
    obtain ⟨_, h1, e9, hf⟩ := jB_some hf
    refine j_callI (pc := 68) (st1 := [.ref q9, va_rf y6]) (As := [va_rf y4]) (rest := [.ref q9, va_rf y6]) cx hS rfl hl.1 hm (metX25_init l _ _ _ _ _ e9) (jle hf) rfl q1072 q1071 q1070 q156 pdX25_init rfl rfl (by simp only [List.map_cons, List.map_nil, List.sum_cons, List.sum_nil, jrfc]; exact Nat.le_of_ble_eq_true rfl) ⟨jfr1 (Nat.le_of_ble_eq_true rfl), jfr1 (Nat.le_of_ble_eq_true rfl)⟩ dX2_all_68 rfl (fun H locs cells slots hS => ?_)
    refine lv_goto (pc := 71) (tgt := 83) hx hb dX2_all_71 (by decide) ?_
    exact wX2_all_83 cx e1 e2 hfl ht a0 hth hrec hk7 _ _ _ _ _ _ _ _ _ _ hf hS (lv_sub hl [3, 4, 0] rfl)
theorem wX2_all_7 {N : Nat} {rec : jM (Option Nat ⊕ Nat)} {FR LO : Nat} {r : Option Nat ⊕ Nat} (cx : jCx p s m args meth c cX2_all "WornSkin$Reader" 5 (Option.some (Jvm.ClassFile.FieldType.object "WornSkin$Expression")) D dA H0 hs.2.2.2.2) (e1 : h'.2.2.1 = hs.2.2.1 + mc) (e2 : h'.2.2.2.1 = hs.2.2.2.1 + ms) (hfl : l.stackTraces = false) (ht : c.exceptionTable.toList = []) (a0 : Nat) (hth : jTh hs a0 1) (hrec : ∀ (h : jH) (r : Option Nat ⊕ Nat) (h1 : jH), rec.1 h = some (r, h1) → jcd h a0 = some 1 → jMet l yX2_part (ws_ yX2_part cX2_part 4 (Option.some (Jvm.ClassFile.FieldType.object "WornSkin$Expression"))) FR LO [.ref a0] h h1 (jOc (fun v => some (va_rf v)) r)) : ∀ (n : Nat) (x1 : Option Nat) (x2 : Option Nat), ∀ (h : jH) (H : Heap) (locs : List Loc) (cells slots : Nat) (ls : Array Slot), (fX2_all_7 N rec a0 n x1 x2).1 h = some (r, h') → jS D dA H0 hs h H locs cells slots → lv_has ls 5 [(0, .ref a0), (1, va_rf x1), (2, va_rf x2)] → W p l e { frames := FR + 10, cells := mc, slots := ms, locals := LO + 232 } s m args below meth c H locs cells slots (jQ D dA H0 below s (jOc (fun v => some (va_rf v)) r) h' mc ms) (F0 m 7 ls []) := by
  have hx := cx.1
  have hb := cx.2.1
  have hown := cx.2.2.2.1
  have hts := cx.2.2.2.2.1
  have hm : h'.2.2.1 ≤ hs.2.2.1 + mc ∧ h'.2.2.2.1 ≤ hs.2.2.2.1 + ms := ⟨Nat.le_of_eq e1, Nat.le_of_eq e2⟩
  intro n
  induction n with
  | zero =>
    intro x1 x2 h H locs cells slots ls hf hS hl
    exact jE_f hf
  | succ n ih =>
    intro x1 x2 h H locs cells slots ls hf hS hl
    unfold fX2_all_7 at hf
    refine lv_aload_n (pc := 7) hx hb dX2_all_7 rfl (lv_at hl 0 rfl) ?_
    refine j_ldcS (pc := 8) cx hS rfl hf (tx := "and") (List.mem_of_getElem? (i := 22) rfl) dX2_all_8 (fun y1 hf => ?_)
    obtain ⟨y2, h1, e9, hf⟩ := jB_some hf
    refine j_callV (pc := 10) (st1 := [.int y2]) (As := [va_rf y1]) (rest := []) cx hS rfl hl.1 hm (metX2_isWord l _ _ _ _ _ _ (hth.at hS) e9) (jle hf) (hth.at hS) rfl (lw_V q582 q584 qs2 q113 q585) pdX2_isWord rfl rfl (Nat.le_of_ble_eq_true rfl) ⟨jfr1 (Nat.le_of_ble_eq_true rfl), jfr1 (Nat.le_of_ble_eq_true rfl)⟩ dX2_all_10 rfl (fun H locs cells slots hS => ?_)
    refine lv_if_ne (pc := 13) (tgt := 25) hx hb dX2_all_13 (by decide) (fun hc => ?_) (fun hc => ?_)
    · have hf := jI_f hf hc
      exact wX2_all_25 cx e1 e2 hfl ht a0 hth hrec ih _ _ _ _ _ _ _ _ hf hS hl
    · have hf := jI_t hf hc
      refine lv_aload_n (pc := 16) hx hb dX2_all_16 rfl (lv_at hl 0 rfl) ?_
      refine j_ldcS (pc := 17) cx hS rfl hf (tx := "or") (List.mem_of_getElem? (i := 23) rfl) dX2_all_17 (fun y3 hf => ?_)
      obtain ⟨y4, h1, e9, hf⟩ := jB_some hf
      refine j_callV (pc := 19) (st1 := [.int y4]) (As := [va_rf y3]) (rest := []) cx hS rfl hl.1 hm (metX2_isWord l _ _ _ _ _ _ (hth.at hS) e9) (jle hf) (hth.at hS) rfl (lw_V q582 q584 qs2 q113 q585) pdX2_isWord rfl rfl (Nat.le_of_ble_eq_true rfl) ⟨jfr1 (Nat.le_of_ble_eq_true rfl), jfr1 (Nat.le_of_ble_eq_true rfl)⟩ dX2_all_19 rfl (fun H locs cells slots hS => ?_)
      refine lv_if_eq (pc := 22) (tgt := 90) hx hb dX2_all_22 (by decide) (fun hc => ?_) (fun hc => ?_)
      · have hf := jI_t hf hc
        exact wX2_all_90 cx e1 e2 hfl ht a0 hth hrec _ _ _ _ _ _ _ _ hf hS hl
      · have hf := jI_f hf hc
        exact wX2_all_25 cx e1 e2 hfl ht a0 hth hrec ih _ _ _ _ _ _ _ _ hf hS hl
theorem wX2_all_0 {N : Nat} {rec : jM (Option Nat ⊕ Nat)} {FR LO : Nat} {r : Option Nat ⊕ Nat} (cx : jCx p s m args meth c cX2_all "WornSkin$Reader" 5 (Option.some (Jvm.ClassFile.FieldType.object "WornSkin$Expression")) D dA H0 hs.2.2.2.2) (e1 : h'.2.2.1 = hs.2.2.1 + mc) (e2 : h'.2.2.2.1 = hs.2.2.2.1 + ms) (hfl : l.stackTraces = false) (ht : c.exceptionTable.toList = []) (a0 : Nat) (hth : jTh hs a0 1) (hrec : ∀ (h : jH) (r : Option Nat ⊕ Nat) (h1 : jH), rec.1 h = some (r, h1) → jcd h a0 = some 1 → jMet l yX2_part (ws_ yX2_part cX2_part 4 (Option.some (Jvm.ClassFile.FieldType.object "WornSkin$Expression"))) FR LO [.ref a0] h h1 (jOc (fun v => some (va_rf v)) r)) : ∀ (h : jH) (H : Heap) (locs : List Loc) (cells slots : Nat) (ls : Array Slot), (gX2_all N rec a0).1 h = some (r, h') → jS D dA H0 hs h H locs cells slots → lv_has ls 5 [(0, .ref a0)] → W p l e { frames := FR + 10, cells := mc, slots := ms, locals := LO + 232 } s m args below meth c H locs cells slots (jQ D dA H0 below s (jOc (fun v => some (va_rf v)) r) h' mc ms) (F0 m 0 ls []) := by
  have hx := cx.1
  have hb := cx.2.1
  have hown := cx.2.2.2.1
  have hts := cx.2.2.2.2.1
  have hm : h'.2.2.1 ≤ hs.2.2.1 + mc ∧ h'.2.2.2.1 ≤ hs.2.2.2.1 + ms := ⟨Nat.le_of_eq e1, Nat.le_of_eq e2⟩
  intro h H locs cells slots ls hf hS hl
  unfold gX2_all at hf
  refine lv_aload_n (pc := 0) hx hb dX2_all_0 rfl (lv_at hl 0 rfl) ?_
  rcases jBT_some hf with ⟨y1, h1, e9, hf⟩ | ⟨x9, e9, ez⟩
  rotate_left
  · have ez : r = .inr x9 := ez
    subst ez
    exact j_callVX (pc := 1) (z := ((), h')) (As := []) (rest := []) cx hS rfl hl.1 hm (megX2_test l hfl _ _ _ _ _ _ _ _ (hth.at hS) hrec e9) (jLe.rf _) (hth.at hS) rfl (lw_V q943 q945 qs24 q113 q946) pdX2_test rfl rfl (Nat.le_of_ble_eq_true rfl) ⟨jfr3 (Nat.le_of_ble_eq_true rfl), jlo3 (Nat.le_of_ble_eq_true rfl)⟩ dX2_all_1 (fun H locs cells slots hS => j_leaves cx hS ht e1 e2)
  refine j_callV (pc := 1) (st1 := [va_rf y1]) (As := []) (rest := []) cx hS rfl hl.1 hm (megX2_test l hfl _ _ _ _ _ _ _ _ (hth.at hS) hrec e9) (jle hf) (hth.at hS) rfl (lw_V q943 q945 qs24 q113 q946) pdX2_test rfl rfl (Nat.le_of_ble_eq_true rfl) ⟨jfr3 (Nat.le_of_ble_eq_true rfl), jlo3 (Nat.le_of_ble_eq_true rfl)⟩ dX2_all_1 rfl (fun H locs cells slots hS => ?_)
  refine j_astore_n (pc := 4) (i := 1) (r := y1) (lv' := [(1, va_rf y1), (0, .ref a0)]) hx hb dX2_all_4 rfl hl (Nat.le_of_ble_eq_true rfl) rfl (fun ls hl => ?_)
  refine lv_null (pc := 5) hx hb dX2_all_5 ?_
  refine j_astore_n (pc := 6) (i := 2) (r := none) (lv' := [(2, va_rf none), (1, va_rf y1), (0, .ref a0)]) hx hb dX2_all_6 rfl hl (Nat.le_of_ble_eq_true rfl) (by cases y1 <;> rfl) (fun ls hl => ?_)
  exact wX2_all_7 cx e1 e2 hfl ht a0 hth hrec N _ _ _ _ _ _ _ _ hf hS (lv_sub hl [2, 1, 0] rfl)
theorem megX2_all (l : Launch) (hfl : l.stackTraces = false) (N : Nat) (rec : jM (Option Nat ⊕ Nat)) (FR LO : Nat) (a0 : Nat) (h h' : jH) (r : Option Nat ⊕ Nat) (hth : jcd h a0 = some 1) (hrec : ∀ (h : jH) (r : Option Nat ⊕ Nat) (h1 : jH), rec.1 h = some (r, h1) → jcd h a0 = some 1 → jMet l yX2_part (ws_ yX2_part cX2_part 4 (Option.some (Jvm.ClassFile.FieldType.object "WornSkin$Expression"))) FR LO [.ref a0] h h1 (jOc (fun v => some (va_rf v)) r)) (hf : (gX2_all N rec a0).1 h = some (r, h')) : jMet l yX2_all (ws_ yX2_all cX2_all 5 (Option.some (Jvm.ClassFile.FieldType.object "WornSkin$Expression"))) (FR + 10) (LO + 232) [.ref a0] h h' (jOc (fun v => some (va_rf v)) r) := by
  refine jStartT rfl (jle hf) (Nat.le_of_ble_eq_true rfl) ?_
  intro p e s m below meth c D dA H0 mc ms ls ht cx hnm e1 e2 hS hl
  have hth := jTh.mk hS hth
  exact wX2_all_0 cx e1 e2 hfl ht a0 hth hrec  _ _ _ _ _ _ hf hS hl
def fX2_part_173 (N : Nat) (rec : jM (Option Nat ⊕ Nat)) (a0 : Nat) (x3 : Option Nat) : jM (Option Nat ⊕ Nat) := jB (jgI [1] 12 (some a0)) fun y1 => jB (jpI [1] 12 (some a0) (y1 - 1)) fun _ => jR (.inl x3)
def fX2_part_162 (N : Nat) (rec : jM (Option Nat ⊕ Nat)) (a0 : Nat) (x2 : Int32) (v0 : Option Nat) : jM (Option Nat ⊕ Nat) := if x2 = 0 then (jBT (fX2_sign a0 41) fun _ => fX2_part_173 N rec a0 v0) else (fX2_part_173 N rec a0 v0)
def fX2_part_130 (N : Nat) (rec : jM (Option Nat ⊕ Nat)) (a0 : Nat) (x2 : Int32) : jM (Option Nat ⊕ Nat) := jB (jgI [1] 12 (some a0)) fun y1 => jB (jpI [1] 12 (some a0) (y1 + 1)) fun _ => if x2 = 0 then (jBT (gX2_all N rec a0) fun y2 => fX2_part_162 N rec a0 x2 y2) else (jB (jnw 19 1 [.null]) fun q3 => jBT (rec) fun y4 => jB (fX17_init q3 y4) fun _ => fX2_part_162 N rec a0 x2 (some q3))
def fX2_part_53 (N : Nat) (rec : jM (Option Nat ⊕ Nat)) (a0 : Nat) (x1 : Int32) (x2 : Int32) : jM (Option Nat ⊕ Nat) := jB (jgI [1] 12 (some a0)) fun y1 => if y1 = 5 then (jB (fX2_wrong a0 5) fun y13 => jB (jnn0 y13) fun b14 => jR (.inr b14)) else (jB (jgI [1] 11 (some a0)) fun y2 => jB (jpI [1] 11 (some a0) (y2 + 1)) fun _ => if x1 = (-1) then (if x2 = 0 then (jB (jgR [1] 8 (some a0)) fun y3 => jB (jgI [1] 11 (some a0)) fun y4 => jB (jaI 0 y3 (y4 - 1)) fun y5 => if y5 = 2 then (jB (jnw 18 1 [.int 0]) fun q6 => jB (jgR [1] 9 (some a0)) fun y7 => jB (jgI [1] 11 (some a0)) fun y8 => jB (jaL 1 y7 (y8 - 1)) fun y9 => jB (fX16_init q6 (y9.toInt32)) fun _ => jR (.inl (some q6))) else (fX2_part_130 N rec a0 x2)) else (fX2_part_130 N rec a0 x2)) else (jB (jnw 17 1 [.int 0]) fun q11 => jB (fX15_init q11 x1) fun _ => jR (.inl (some q11))))
def gX2_part (N : Nat) (rec : jM (Option Nat ⊕ Nat)) (a0 : Nat) : jM (Option Nat ⊕ Nat) := jB (jgR [1] 0 (some a0)) fun y1 => jB (fX2_which N a0 y1) fun y2 => jB (jK 22) fun y3 => jB (fX2_isWord N a0 y3) fun y4 => if y2 = (-1) then (if y4 = 0 then (jB (jgR [1] 8 (some a0)) fun y5 => jB (jgI [1] 11 (some a0)) fun y6 => jB (jaI 0 y5 y6) fun y7 => if y7 = 2 then (fX2_part_53 N rec a0 y2 y4) else (jB (fX2_isSign a0 40) fun y8 => if y8 = 0 then (jB (fX2_wrong a0 1) fun y9 => jB (jnn0 y9) fun b10 => jR (.inr b10)) else (fX2_part_53 N rec a0 y2 y4))) else (fX2_part_53 N rec a0 y2 y4)) else (fX2_part_53 N rec a0 y2 y4)
theorem wX2_part_173 {N : Nat} {rec : jM (Option Nat ⊕ Nat)} {FR LO : Nat} {r : Option Nat ⊕ Nat} (cx : jCx p s m args meth c cX2_part "WornSkin$Reader" 4 (Option.some (Jvm.ClassFile.FieldType.object "WornSkin$Expression")) D dA H0 hs.2.2.2.2) (e1 : h'.2.2.1 = hs.2.2.1 + mc) (e2 : h'.2.2.2.1 = hs.2.2.2.1 + ms) (hfl : l.stackTraces = false) (ht : c.exceptionTable.toList = []) (a0 : Nat) (hth : jTh hs a0 1) (hrec : ∀ (h : jH) (r : Option Nat ⊕ Nat) (h1 : jH), rec.1 h = some (r, h1) → jcd h a0 = some 1 → jMet l yX2_part (ws_ yX2_part cX2_part 4 (Option.some (Jvm.ClassFile.FieldType.object "WornSkin$Expression"))) FR LO [.ref a0] h h1 (jOc (fun v => some (va_rf v)) r)) : ∀ (x3 : Option Nat), ∀ (h : jH) (H : Heap) (locs : List Loc) (cells slots : Nat) (ls : Array Slot), (fX2_part_173 N rec a0 x3).1 h = some (r, h') → jS D dA H0 hs h H locs cells slots → lv_has ls 4 [(0, .ref a0), (3, va_rf x3)] → W p l e { frames := FR + 11, cells := mc, slots := ms, locals := LO + 256 } s m args below meth c H locs cells slots (jQ D dA H0 below s (jOc (fun v => some (va_rf v)) r) h' mc ms) (F0 m 173 ls []) := by
  have hx := cx.1
  have hb := cx.2.1
  have hown := cx.2.2.2.1
  have hts := cx.2.2.2.2.1
  have hm : h'.2.2.1 ≤ hs.2.2.1 + mc ∧ h'.2.2.2.1 ≤ hs.2.2.2.1 + ms := ⟨Nat.le_of_eq e1, Nat.le_of_eq e2⟩
  intro x3 h H locs cells slots ls hf hS hl
  unfold fX2_part_173 at hf
  refine lv_aload_n (pc := 173) hx hb dX2_part_173 rfl (lv_at hl 0 rfl) ?_
  refine lv_dup (pc := 174) hx hb dX2_part_174 rfl ?_
  refine j_gI (pc := 175) cx hS hf fd_WornSkin_Reader_deep q218 dX2_part_175 (fun y1 hf => ?_)
  refine lv_iconst (pc := 178) (v := 1) hx hb dX2_part_178 rfl ?_
  refine lv_isub (pc := 179) hx hb dX2_part_179 ?_
  refine j_pI (pc := 180) cx hS hf fp_WornSkin_Reader_deep (Or.inl rfl) q218 dX2_part_180 (fun h H locs hf hS => ?_)
  refine j_aload_n (pc := 183) (r := x3) hx hb dX2_part_183 rfl (lv_at hl 1 rfl) ?_
  exact j_aretT (pc := 184) cx hS hf (Or.inl ⟨_, rfl⟩) e1 e2 dX2_part_184
theorem wX2_part_162 {N : Nat} {rec : jM (Option Nat ⊕ Nat)} {FR LO : Nat} {r : Option Nat ⊕ Nat} (cx : jCx p s m args meth c cX2_part "WornSkin$Reader" 4 (Option.some (Jvm.ClassFile.FieldType.object "WornSkin$Expression")) D dA H0 hs.2.2.2.2) (e1 : h'.2.2.1 = hs.2.2.1 + mc) (e2 : h'.2.2.2.1 = hs.2.2.2.1 + ms) (hfl : l.stackTraces = false) (ht : c.exceptionTable.toList = []) (a0 : Nat) (hth : jTh hs a0 1) (hrec : ∀ (h : jH) (r : Option Nat ⊕ Nat) (h1 : jH), rec.1 h = some (r, h1) → jcd h a0 = some 1 → jMet l yX2_part (ws_ yX2_part cX2_part 4 (Option.some (Jvm.ClassFile.FieldType.object "WornSkin$Expression"))) FR LO [.ref a0] h h1 (jOc (fun v => some (va_rf v)) r)) : ∀ (x2 : Int32) (v0 : Option Nat), ∀ (h : jH) (H : Heap) (locs : List Loc) (cells slots : Nat) (ls : Array Slot), (fX2_part_162 N rec a0 x2 v0).1 h = some (r, h') → jS D dA H0 hs h H locs cells slots → lv_has ls 4 [(0, .ref a0), (2, .int x2)] → W p l e { frames := FR + 11, cells := mc, slots := ms, locals := LO + 256 } s m args below meth c H locs cells slots (jQ D dA H0 below s (jOc (fun v => some (va_rf v)) r) h' mc ms) (F0 m 162 ls [va_rf v0]) := by
  have hx := cx.1
  have hb := cx.2.1
  have hown := cx.2.2.2.1
  have hts := cx.2.2.2.2.1
  have hm : h'.2.2.1 ≤ hs.2.2.1 + mc ∧ h'.2.2.2.1 ≤ hs.2.2.2.1 + ms := ⟨Nat.le_of_eq e1, Nat.le_of_eq e2⟩
  intro x2 v0 h H locs cells slots ls hf hS hl
  unfold fX2_part_162 at hf
  refine j_astore_n (pc := 162) (i := 3) (r := v0) (lv' := [(3, va_rf v0), (0, .ref a0), (2, .int x2)]) hx hb dX2_part_162 rfl hl (Nat.le_of_ble_eq_true rfl) rfl (fun ls hl => ?_)
  refine lv_iload_n (pc := 163) hx hb dX2_part_163 rfl (lv_at hl 2 rfl) ?_
  refine lv_if_ne (pc := 164) (tgt := 173) hx hb dX2_part_164 (by decide) (fun hc => ?_) (fun hc => ?_)
  · have hf := jI_f hf hc
    exact wX2_part_173 cx e1 e2 hfl ht a0 hth hrec _ _ _ _ _ _ _ hf hS (lv_sub hl [1, 0] rfl)
  · have hf := jI_t hf hc
    refine lv_aload_n (pc := 167) hx hb dX2_part_167 rfl (lv_at hl 1 rfl) ?_
    refine lv_bipush (pc := 168) (v := 41) hx hb dX2_part_168 rfl ?_
    rcases jBT_some hf with ⟨_, h1, e9, hf⟩ | ⟨x9, e9, ez⟩
    rotate_left
    · have ez : r = .inr x9 := ez
      subst ez
      exact j_callVX (pc := 170) (z := ((), h')) (As := [.int 41]) (rest := []) cx hS rfl hl.1 hm (metX2_sign l hfl _ _ _ _ _ (hth.at hS) e9) (jLe.rf _) (hth.at hS) rfl (lw_V q996 q998 qs29 q113 q999) pdX2_sign rfl rfl (Nat.le_of_ble_eq_true rfl) ⟨jfr1 (Nat.le_of_ble_eq_true rfl), jfr1 (Nat.le_of_ble_eq_true rfl)⟩ dX2_part_170 (fun H locs cells slots hS => j_leaves cx hS ht e1 e2)
    refine j_callV (pc := 170) (st1 := []) (As := [.int 41]) (rest := []) cx hS rfl hl.1 hm (metX2_sign l hfl _ _ _ _ _ (hth.at hS) e9) (jle hf) (hth.at hS) rfl (lw_V q996 q998 qs29 q113 q999) pdX2_sign rfl rfl (Nat.le_of_ble_eq_true rfl) ⟨jfr1 (Nat.le_of_ble_eq_true rfl), jfr1 (Nat.le_of_ble_eq_true rfl)⟩ dX2_part_170 rfl (fun H locs cells slots hS => ?_)
    exact wX2_part_173 cx e1 e2 hfl ht a0 hth hrec _ _ _ _ _ _ _ hf hS (lv_sub hl [1, 0] rfl)
theorem wX2_part_130 {N : Nat} {rec : jM (Option Nat ⊕ Nat)} {FR LO : Nat} {r : Option Nat ⊕ Nat} (cx : jCx p s m args meth c cX2_part "WornSkin$Reader" 4 (Option.some (Jvm.ClassFile.FieldType.object "WornSkin$Expression")) D dA H0 hs.2.2.2.2) (e1 : h'.2.2.1 = hs.2.2.1 + mc) (e2 : h'.2.2.2.1 = hs.2.2.2.1 + ms) (hfl : l.stackTraces = false) (ht : c.exceptionTable.toList = []) (a0 : Nat) (hth : jTh hs a0 1) (hrec : ∀ (h : jH) (r : Option Nat ⊕ Nat) (h1 : jH), rec.1 h = some (r, h1) → jcd h a0 = some 1 → jMet l yX2_part (ws_ yX2_part cX2_part 4 (Option.some (Jvm.ClassFile.FieldType.object "WornSkin$Expression"))) FR LO [.ref a0] h h1 (jOc (fun v => some (va_rf v)) r)) : ∀ (x2 : Int32), ∀ (h : jH) (H : Heap) (locs : List Loc) (cells slots : Nat) (ls : Array Slot), (fX2_part_130 N rec a0 x2).1 h = some (r, h') → jS D dA H0 hs h H locs cells slots → lv_has ls 4 [(0, .ref a0), (2, .int x2)] → W p l e { frames := FR + 11, cells := mc, slots := ms, locals := LO + 256 } s m args below meth c H locs cells slots (jQ D dA H0 below s (jOc (fun v => some (va_rf v)) r) h' mc ms) (F0 m 130 ls []) := by
  have hx := cx.1
  have hb := cx.2.1
  have hown := cx.2.2.2.1
  have hts := cx.2.2.2.2.1
  have hm : h'.2.2.1 ≤ hs.2.2.1 + mc ∧ h'.2.2.2.1 ≤ hs.2.2.2.1 + ms := ⟨Nat.le_of_eq e1, Nat.le_of_eq e2⟩
  intro x2 h H locs cells slots ls hf hS hl
  unfold fX2_part_130 at hf
  refine lv_aload_n (pc := 130) hx hb dX2_part_130 rfl (lv_at hl 0 rfl) ?_
  refine lv_dup (pc := 131) hx hb dX2_part_131 rfl ?_
  refine j_gI (pc := 132) cx hS hf fd_WornSkin_Reader_deep q218 dX2_part_132 (fun y1 hf => ?_)
  refine lv_iconst (pc := 135) (v := 1) hx hb dX2_part_135 rfl ?_
  refine lv_iadd (pc := 136) hx hb dX2_part_136 ?_
  refine j_pI (pc := 137) cx hS hf fp_WornSkin_Reader_deep (Or.inl rfl) q218 dX2_part_137 (fun h H locs hf hS => ?_)
  refine lv_iload_n (pc := 140) hx hb dX2_part_140 rfl (lv_at hl 1 rfl) ?_
  refine lv_if_eq (pc := 141) (tgt := 158) hx hb dX2_part_141 (by decide) (fun hc => ?_) (fun hc => ?_)
  · have hf := jI_t hf hc
    refine lv_aload_n (pc := 158) hx hb dX2_part_158 rfl (lv_at hl 0 rfl) ?_
    rcases jBT_some hf with ⟨y2, h1, e9, hf⟩ | ⟨x9, e9, ez⟩
    rotate_left
    · have ez : r = .inr x9 := ez
      subst ez
      exact j_callVX (pc := 159) (z := ((), h')) (As := []) (rest := []) cx hS rfl hl.1 hm (megX2_all l hfl _ _ _ _ _ _ _ _ (hth.at hS) hrec e9) (jLe.rf _) (hth.at hS) rfl (lw_V q939 q941 qs23 q113 q942) pdX2_all rfl rfl (Nat.le_of_ble_eq_true rfl) ⟨jfr3 (Nat.le_of_ble_eq_true rfl), jlo3 (Nat.le_of_ble_eq_true rfl)⟩ dX2_part_159 (fun H locs cells slots hS => j_leaves cx hS ht e1 e2)
    refine j_callV (pc := 159) (st1 := [va_rf y2]) (As := []) (rest := []) cx hS rfl hl.1 hm (megX2_all l hfl _ _ _ _ _ _ _ _ (hth.at hS) hrec e9) (jle hf) (hth.at hS) rfl (lw_V q939 q941 qs23 q113 q942) pdX2_all rfl rfl (Nat.le_of_ble_eq_true rfl) ⟨jfr3 (Nat.le_of_ble_eq_true rfl), jlo3 (Nat.le_of_ble_eq_true rfl)⟩ dX2_part_159 rfl (fun H locs cells slots hS => ?_)
    exact wX2_part_162 cx e1 e2 hfl ht a0 hth hrec _ _ _ _ _ _ _ _ hf hS hl
  · have hf := jI_f hf hc
    refine j_new (pc := 144) cx hS hf cn_X17 q986 dX2_part_144 hm (fun q3 h H cells slots hf hS => ?_)
    refine lv_dup (pc := 147) hx hb dX2_part_147 rfl ?_
    refine lv_aload_n (pc := 148) hx hb dX2_part_148 rfl (lv_at hl 0 rfl) ?_
    rcases jBT_some hf with ⟨y4, h1, e9, hf⟩ | ⟨x9, e9, ez⟩
    rotate_left
    · have ez : r = .inr x9 := ez
      subst ez
      exact j_callVX (pc := 149) (z := ((), h')) (As := []) (rest := [.ref q3, .ref q3]) cx hS rfl hl.1 hm (hrec  _ _ _ e9 (hth.at hS)) (jLe.rf _) (hth.at hS) rfl (lw_V q955 q957 qs27 q113 q958) pdX2_part rfl rfl (Nat.le_of_ble_eq_true rfl) ⟨jfr2 (Nat.le_of_ble_eq_true rfl), jlo2 (Nat.le_of_ble_eq_true rfl)⟩ dX2_part_149 (fun H locs cells slots hS => j_leaves cx hS ht e1 e2)
    refine j_callV (pc := 149) (st1 := [va_rf y4, .ref q3, .ref q3]) (As := []) (rest := [.ref q3, .ref q3]) cx hS rfl hl.1 hm (hrec  _ _ _ e9 (hth.at hS)) (jle hf) (hth.at hS) rfl (lw_V q955 q957 qs27 q113 q958) pdX2_part rfl rfl (Nat.le_of_ble_eq_true rfl) ⟨jfr2 (Nat.le_of_ble_eq_true rfl), jlo2 (Nat.le_of_ble_eq_true rfl)⟩ dX2_part_149 rfl (fun H locs cells slots hS => ?_)
    obtain ⟨_, h1, e9, hf⟩ := jB_some hf
    refine j_callI (pc := 152) (st1 := [.ref q3]) (As := [va_rf y4]) (rest := [.ref q3]) cx hS rfl hl.1 hm (metX17_init l _ _ _ _ _ e9) (jle hf) rfl q990 q989 q988 q148 pdX17_init rfl rfl (Nat.le_of_ble_eq_true rfl) ⟨jfr1 (Nat.le_of_ble_eq_true rfl), jfr1 (Nat.le_of_ble_eq_true rfl)⟩ dX2_part_152 rfl (fun H locs cells slots hS => ?_)
    refine lv_goto (pc := 155) (tgt := 162) hx hb dX2_part_155 (by decide) ?_
    exact wX2_part_162 cx e1 e2 hfl ht a0 hth hrec _ _ _ _ _ _ _ _ hf hS hl
theorem wX2_part_53 {N : Nat} {rec : jM (Option Nat ⊕ Nat)} {FR LO : Nat} {r : Option Nat ⊕ Nat} (cx : jCx p s m args meth c cX2_part "WornSkin$Reader" 4 (Option.some (Jvm.ClassFile.FieldType.object "WornSkin$Expression")) D dA H0 hs.2.2.2.2) (e1 : h'.2.2.1 = hs.2.2.1 + mc) (e2 : h'.2.2.2.1 = hs.2.2.2.1 + ms) (hfl : l.stackTraces = false) (ht : c.exceptionTable.toList = []) (a0 : Nat) (hth : jTh hs a0 1) (hrec : ∀ (h : jH) (r : Option Nat ⊕ Nat) (h1 : jH), rec.1 h = some (r, h1) → jcd h a0 = some 1 → jMet l yX2_part (ws_ yX2_part cX2_part 4 (Option.some (Jvm.ClassFile.FieldType.object "WornSkin$Expression"))) FR LO [.ref a0] h h1 (jOc (fun v => some (va_rf v)) r)) : ∀ (x1 : Int32) (x2 : Int32), ∀ (h : jH) (H : Heap) (locs : List Loc) (cells slots : Nat) (ls : Array Slot), (fX2_part_53 N rec a0 x1 x2).1 h = some (r, h') → jS D dA H0 hs h H locs cells slots → lv_has ls 4 [(0, .ref a0), (1, .int x1), (2, .int x2)] → W p l e { frames := FR + 11, cells := mc, slots := ms, locals := LO + 256 } s m args below meth c H locs cells slots (jQ D dA H0 below s (jOc (fun v => some (va_rf v)) r) h' mc ms) (F0 m 53 ls []) := by
  have hx := cx.1
  have hb := cx.2.1
  have hown := cx.2.2.2.1
  have hts := cx.2.2.2.2.1
  have hm : h'.2.2.1 ≤ hs.2.2.1 + mc ∧ h'.2.2.2.1 ≤ hs.2.2.2.1 + ms := ⟨Nat.le_of_eq e1, Nat.le_of_eq e2⟩
  intro x1 x2 h H locs cells slots ls hf hS hl
  unfold fX2_part_53 at hf
  refine lv_aload_n (pc := 53) hx hb dX2_part_53 rfl (lv_at hl 0 rfl) ?_
  refine j_gI (pc := 54) cx hS hf fd_WornSkin_Reader_deep q218 dX2_part_54 (fun y1 hf => ?_)
  refine lv_iconst (pc := 57) (v := 5) hx hb dX2_part_57 rfl ?_
  refine lv_icmp_ne (pc := 58) (tgt := 67) hx hb dX2_part_58 (by decide) (fun hc => ?_) (fun hc => ?_)
  · have hf := jI_f hf hc
    refine lv_aload_n (pc := 67) hx hb dX2_part_67 rfl (lv_at hl 0 rfl) ?_
    refine lv_dup (pc := 68) hx hb dX2_part_68 rfl ?_
    refine j_gI (pc := 69) cx hS hf fd_WornSkin_Reader_at q217 dX2_part_69 (fun y2 hf => ?_)
    refine lv_iconst (pc := 72) (v := 1) hx hb dX2_part_72 rfl ?_
    refine lv_iadd (pc := 73) hx hb dX2_part_73 ?_
    refine j_pI (pc := 74) cx hS hf fp_WornSkin_Reader_at (Or.inl rfl) q217 dX2_part_74 (fun h H locs hf hS => ?_)
    refine lv_iload_n (pc := 77) hx hb dX2_part_77 rfl (lv_at hl 1 rfl) ?_
    refine lv_iconst (pc := 78) (v := (-1)) hx hb dX2_part_78 rfl ?_
    refine lv_icmp_eq (pc := 79) (tgt := 91) hx hb dX2_part_79 (by decide) (fun hc => ?_) (fun hc => ?_)
    · have hf := jI_t hf hc
      refine lv_iload_n (pc := 91) hx hb dX2_part_91 rfl (lv_at hl 2 rfl) ?_
      refine lv_if_ne (pc := 92) (tgt := 130) hx hb dX2_part_92 (by decide) (fun hc => ?_) (fun hc => ?_)
      · have hf := jI_f hf hc
        exact wX2_part_130 cx e1 e2 hfl ht a0 hth hrec _ _ _ _ _ _ _ hf hS (lv_sub hl [0, 2] rfl)
      · have hf := jI_t hf hc
        refine lv_aload_n (pc := 95) hx hb dX2_part_95 rfl (lv_at hl 0 rfl) ?_
        refine j_gR (pc := 96) cx hS hf fd_WornSkin_Reader_sort q214 dX2_part_96 (fun y3 hf => ?_)
        refine lv_aload_n (pc := 99) hx hb dX2_part_99 rfl (lv_at hl 0 rfl) ?_
        refine j_gI (pc := 100) cx hS hf fd_WornSkin_Reader_at q217 dX2_part_100 (fun y4 hf => ?_)
        refine lv_iconst (pc := 103) (v := 1) hx hb dX2_part_103 rfl ?_
        refine lv_isub (pc := 104) hx hb dX2_part_104 ?_
        refine j_aI (pc := 105) cx hS hf rfl dX2_part_105 (fun y5 hf => ?_)
        refine lv_iconst (pc := 106) (v := 2) hx hb dX2_part_106 rfl ?_
        refine lv_icmp_ne (pc := 107) (tgt := 130) hx hb dX2_part_107 (by decide) (fun hc => ?_) (fun hc => ?_)
        · have hf := jI_f hf hc
          exact wX2_part_130 cx e1 e2 hfl ht a0 hth hrec _ _ _ _ _ _ _ hf hS (lv_sub hl [0, 2] rfl)
        · have hf := jI_t hf hc
          refine j_new (pc := 110) cx hS hf cn_X16 q976 dX2_part_110 hm (fun q6 h H cells slots hf hS => ?_)
          refine lv_dup (pc := 113) hx hb dX2_part_113 rfl ?_
          refine lv_aload_n (pc := 114) hx hb dX2_part_114 rfl (lv_at hl 0 rfl) ?_
          refine j_gR (pc := 115) cx hS hf fd_WornSkin_Reader_value q215 dX2_part_115 (fun y7 hf => ?_)
          refine lv_aload_n (pc := 118) hx hb dX2_part_118 rfl (lv_at hl 0 rfl) ?_
          refine j_gI (pc := 119) cx hS hf fd_WornSkin_Reader_at q217 dX2_part_119 (fun y8 hf => ?_)
          refine lv_iconst (pc := 122) (v := 1) hx hb dX2_part_122 rfl ?_
          refine lv_isub (pc := 123) hx hb dX2_part_123 ?_
          refine j_aL (pc := 124) cx hS hf rfl dX2_part_124 (fun y9 hf => ?_)
          refine lv_l2i (pc := 125) (v := y9.toInt32) hx hb dX2_part_125 rfl ?_
          obtain ⟨_, h1, e9, hf⟩ := jB_some hf
          refine j_callI (pc := 126) (st1 := [.ref q6]) (As := [.int (y9.toInt32)]) (rest := [.ref q6]) cx hS rfl hl.1 hm (metX16_init l _ _ _ _ _ e9) (jle hf) rfl q980 q979 q978 q147 pdX16_init rfl rfl (Nat.le_of_ble_eq_true rfl) ⟨jfr1 (Nat.le_of_ble_eq_true rfl), jfr1 (Nat.le_of_ble_eq_true rfl)⟩ dX2_part_126 rfl (fun H locs cells slots hS => ?_)
          exact j_aretT (pc := 129) cx hS hf (Or.inl ⟨_, rfl⟩) e1 e2 dX2_part_129
    · have hf := jI_f hf hc
      refine j_new (pc := 82) cx hS hf cn_X15 q963 dX2_part_82 hm (fun q11 h H cells slots hf hS => ?_)
      refine lv_dup (pc := 85) hx hb dX2_part_85 rfl ?_
      refine lv_iload_n (pc := 86) hx hb dX2_part_86 rfl (lv_at hl 1 rfl) ?_
      obtain ⟨_, h1, e9, hf⟩ := jB_some hf
      refine j_callI (pc := 87) (st1 := [.ref q11]) (As := [.int x1]) (rest := [.ref q11]) cx hS rfl hl.1 hm (metX15_init l _ _ _ _ _ e9) (jle hf) rfl q967 q966 q965 q146 pdX15_init rfl rfl (Nat.le_of_ble_eq_true rfl) ⟨jfr1 (Nat.le_of_ble_eq_true rfl), jfr1 (Nat.le_of_ble_eq_true rfl)⟩ dX2_part_87 rfl (fun H locs cells slots hS => ?_)
      exact j_aretT (pc := 90) cx hS hf (Or.inl ⟨_, rfl⟩) e1 e2 dX2_part_90
  · have hf := jI_t hf hc
    refine lv_aload_n (pc := 61) hx hb dX2_part_61 rfl (lv_at hl 0 rfl) ?_
    refine lv_iconst (pc := 62) (v := 5) hx hb dX2_part_62 rfl ?_
    obtain ⟨y13, h1, e9, hf⟩ := jB_some hf
    refine j_callV (pc := 63) (st1 := [va_rf y13]) (As := [.int 5]) (rest := []) cx hS rfl hl.1 hm (metX2_wrong l hfl _ _ _ _ _ (hth.at hS) e9) (jle hf) (hth.at hS) rfl (lw_V q617 q619 qs5 q113 q620) pdX2_wrong rfl rfl (Nat.le_of_ble_eq_true rfl) ⟨jfr1 (Nat.le_of_ble_eq_true rfl), jfr1 (Nat.le_of_ble_eq_true rfl)⟩ dX2_part_63 rfl (fun H locs cells slots hS => ?_)
    exact j_athrow (pc := 66) (r := y13) cx hS ht hf e1 e2 dX2_part_66
theorem wX2_part_0 {N : Nat} {rec : jM (Option Nat ⊕ Nat)} {FR LO : Nat} {r : Option Nat ⊕ Nat} (cx : jCx p s m args meth c cX2_part "WornSkin$Reader" 4 (Option.some (Jvm.ClassFile.FieldType.object "WornSkin$Expression")) D dA H0 hs.2.2.2.2) (e1 : h'.2.2.1 = hs.2.2.1 + mc) (e2 : h'.2.2.2.1 = hs.2.2.2.1 + ms) (hfl : l.stackTraces = false) (ht : c.exceptionTable.toList = []) (a0 : Nat) (hth : jTh hs a0 1) (hrec : ∀ (h : jH) (r : Option Nat ⊕ Nat) (h1 : jH), rec.1 h = some (r, h1) → jcd h a0 = some 1 → jMet l yX2_part (ws_ yX2_part cX2_part 4 (Option.some (Jvm.ClassFile.FieldType.object "WornSkin$Expression"))) FR LO [.ref a0] h h1 (jOc (fun v => some (va_rf v)) r)) : ∀ (h : jH) (H : Heap) (locs : List Loc) (cells slots : Nat) (ls : Array Slot), (gX2_part N rec a0).1 h = some (r, h') → jS D dA H0 hs h H locs cells slots → lv_has ls 4 [(0, .ref a0)] → W p l e { frames := FR + 11, cells := mc, slots := ms, locals := LO + 256 } s m args below meth c H locs cells slots (jQ D dA H0 below s (jOc (fun v => some (va_rf v)) r) h' mc ms) (F0 m 0 ls []) := by
  have hx := cx.1
  have hb := cx.2.1
  have hown := cx.2.2.2.1
  have hts := cx.2.2.2.2.1
  have hm : h'.2.2.1 ≤ hs.2.2.1 + mc ∧ h'.2.2.2.1 ≤ hs.2.2.2.1 + ms := ⟨Nat.le_of_eq e1, Nat.le_of_eq e2⟩
  intro h H locs cells slots ls hf hS hl
  unfold gX2_part at hf
  refine lv_aload_n (pc := 0) hx hb dX2_part_0 rfl (lv_at hl 0 rfl) ?_
  refine lv_aload_n (pc := 1) hx hb dX2_part_1 rfl (lv_at hl 0 rfl) ?_
  refine j_gR (pc := 2) cx hS hf fd_WornSkin_Reader_facts q205 dX2_part_2 (fun y1 hf => ?_)
  obtain ⟨y2, h1, e9, hf⟩ := jB_some hf
  refine j_callV (pc := 5) (st1 := [.int y2]) (As := [va_rf y1]) (rest := []) cx hS rfl hl.1 hm (metX2_which l _ _ _ _ _ _ (hth.at hS) e9) (jle hf) (hth.at hS) rfl (lw_V q686 q688 qs8 q113 q689) pdX2_which rfl rfl (Nat.le_of_ble_eq_true rfl) ⟨jfr1 (Nat.le_of_ble_eq_true rfl), jfr1 (Nat.le_of_ble_eq_true rfl)⟩ dX2_part_5 rfl (fun H locs cells slots hS => ?_)
  refine lv_istore_n (pc := 8) (i := 1) (lv' := [(1, .int y2), (0, .ref a0)]) hx hb dX2_part_8 rfl hl (Nat.le_of_ble_eq_true rfl) rfl (fun ls hl => ?_)
  refine lv_aload_n (pc := 9) hx hb dX2_part_9 rfl (lv_at hl 1 rfl) ?_
  refine j_ldcS (pc := 10) cx hS rfl hf (tx := "not") (List.mem_of_getElem? (i := 21) rfl) dX2_part_10 (fun y3 hf => ?_)
  obtain ⟨y4, h1, e9, hf⟩ := jB_some hf
  refine j_callV (pc := 12) (st1 := [.int y4]) (As := [va_rf y3]) (rest := []) cx hS rfl hl.1 hm (metX2_isWord l _ _ _ _ _ _ (hth.at hS) e9) (jle hf) (hth.at hS) rfl (lw_V q582 q584 qs2 q113 q585) pdX2_isWord rfl rfl (Nat.le_of_ble_eq_true rfl) ⟨jfr1 (Nat.le_of_ble_eq_true rfl), jfr1 (Nat.le_of_ble_eq_true rfl)⟩ dX2_part_12 rfl (fun H locs cells slots hS => ?_)
  refine lv_istore_n (pc := 15) (i := 2) (lv' := [(2, .int y4), (1, .int y2), (0, .ref a0)]) hx hb dX2_part_15 rfl hl (Nat.le_of_ble_eq_true rfl) rfl (fun ls hl => ?_)
  refine lv_iload_n (pc := 16) hx hb dX2_part_16 rfl (lv_at hl 1 rfl) ?_
  refine lv_iconst (pc := 17) (v := (-1)) hx hb dX2_part_17 rfl ?_
  refine lv_icmp_ne (pc := 18) (tgt := 53) hx hb dX2_part_18 (by decide) (fun hc => ?_) (fun hc => ?_)
  · have hf := jI_f hf hc
    exact wX2_part_53 cx e1 e2 hfl ht a0 hth hrec _ _ _ _ _ _ _ _ hf hS (lv_sub hl [2, 1, 0] rfl)
  · have hf := jI_t hf hc
    refine lv_iload_n (pc := 21) hx hb dX2_part_21 rfl (lv_at hl 0 rfl) ?_
    refine lv_if_ne (pc := 22) (tgt := 53) hx hb dX2_part_22 (by decide) (fun hc => ?_) (fun hc => ?_)
    · have hf := jI_f hf hc
      exact wX2_part_53 cx e1 e2 hfl ht a0 hth hrec _ _ _ _ _ _ _ _ hf hS (lv_sub hl [2, 1, 0] rfl)
    · have hf := jI_t hf hc
      refine lv_aload_n (pc := 25) hx hb dX2_part_25 rfl (lv_at hl 2 rfl) ?_
      refine j_gR (pc := 26) cx hS hf fd_WornSkin_Reader_sort q214 dX2_part_26 (fun y5 hf => ?_)
      refine lv_aload_n (pc := 29) hx hb dX2_part_29 rfl (lv_at hl 2 rfl) ?_
      refine j_gI (pc := 30) cx hS hf fd_WornSkin_Reader_at q217 dX2_part_30 (fun y6 hf => ?_)
      refine j_aI (pc := 33) cx hS hf rfl dX2_part_33 (fun y7 hf => ?_)
      refine lv_iconst (pc := 34) (v := 2) hx hb dX2_part_34 rfl ?_
      refine lv_icmp_eq (pc := 35) (tgt := 53) hx hb dX2_part_35 (by decide) (fun hc => ?_) (fun hc => ?_)
      · have hf := jI_t hf hc
        exact wX2_part_53 cx e1 e2 hfl ht a0 hth hrec _ _ _ _ _ _ _ _ hf hS (lv_sub hl [2, 1, 0] rfl)
      · have hf := jI_f hf hc
        refine lv_aload_n (pc := 38) hx hb dX2_part_38 rfl (lv_at hl 2 rfl) ?_
        refine lv_bipush (pc := 39) (v := 40) hx hb dX2_part_39 rfl ?_
        obtain ⟨y8, h1, e9, hf⟩ := jB_some hf
        refine j_callV (pc := 41) (st1 := [.int y8]) (As := [.int 40]) (rest := []) cx hS rfl hl.1 hm (metX2_isSign l _ _ _ _ _ (hth.at hS) e9) (jle hf) (hth.at hS) rfl (lw_V q959 q961 qs28 q113 q962) pdX2_isSign rfl rfl (Nat.le_of_ble_eq_true rfl) ⟨jfr1 (Nat.le_of_ble_eq_true rfl), jfr1 (Nat.le_of_ble_eq_true rfl)⟩ dX2_part_41 rfl (fun H locs cells slots hS => ?_)
        refine lv_if_ne (pc := 44) (tgt := 53) hx hb dX2_part_44 (by decide) (fun hc => ?_) (fun hc => ?_)
        · have hf := jI_f hf hc
          exact wX2_part_53 cx e1 e2 hfl ht a0 hth hrec _ _ _ _ _ _ _ _ hf hS (lv_sub hl [2, 1, 0] rfl)
        · have hf := jI_t hf hc
          refine lv_aload_n (pc := 47) hx hb dX2_part_47 rfl (lv_at hl 2 rfl) ?_
          refine lv_iconst (pc := 48) (v := 1) hx hb dX2_part_48 rfl ?_
          obtain ⟨y9, h1, e9, hf⟩ := jB_some hf
          refine j_callV (pc := 49) (st1 := [va_rf y9]) (As := [.int 1]) (rest := []) cx hS rfl hl.1 hm (metX2_wrong l hfl _ _ _ _ _ (hth.at hS) e9) (jle hf) (hth.at hS) rfl (lw_V q617 q619 qs5 q113 q620) pdX2_wrong rfl rfl (Nat.le_of_ble_eq_true rfl) ⟨jfr1 (Nat.le_of_ble_eq_true rfl), jfr1 (Nat.le_of_ble_eq_true rfl)⟩ dX2_part_49 rfl (fun H locs cells slots hS => ?_)
          exact j_athrow (pc := 52) (r := y9) cx hS ht hf e1 e2 dX2_part_52
theorem megX2_part (l : Launch) (hfl : l.stackTraces = false) (N : Nat) (rec : jM (Option Nat ⊕ Nat)) (FR LO : Nat) (a0 : Nat) (h h' : jH) (r : Option Nat ⊕ Nat) (hth : jcd h a0 = some 1) (hrec : ∀ (h : jH) (r : Option Nat ⊕ Nat) (h1 : jH), rec.1 h = some (r, h1) → jcd h a0 = some 1 → jMet l yX2_part (ws_ yX2_part cX2_part 4 (Option.some (Jvm.ClassFile.FieldType.object "WornSkin$Expression"))) FR LO [.ref a0] h h1 (jOc (fun v => some (va_rf v)) r)) (hf : (gX2_part N rec a0).1 h = some (r, h')) : jMet l yX2_part (ws_ yX2_part cX2_part 4 (Option.some (Jvm.ClassFile.FieldType.object "WornSkin$Expression"))) (FR + 11) (LO + 256) [.ref a0] h h' (jOc (fun v => some (va_rf v)) r) := by
  refine jStartT rfl (jle hf) (Nat.le_of_ble_eq_true rfl) ?_
  intro p e s m below meth c D dA H0 mc ms ls ht cx hnm e1 e2 hS hl
  have hth := jTh.mk hS hth
  exact wX2_part_0 cx e1 e2 hfl ht a0 hth hrec  _ _ _ _ _ _ hf hS hl
def rX2_part (N : Nat) (a0 : Nat) : Nat → jM (Option Nat ⊕ Nat)
  | 0 => jE
  | d + 1 => gX2_part N (rX2_part N a0 d) a0
theorem merX2_part (l : Launch) (hfl : l.stackTraces = false) (N : Nat) (a0 : Nat) : ∀ (d : Nat) (h h' : jH) (r : Option Nat ⊕ Nat), jcd h a0 = some 1 → (rX2_part N a0 d).1 h = some (r, h') → jMet l yX2_part (ws_ yX2_part cX2_part 4 (Option.some (Jvm.ClassFile.FieldType.object "WornSkin$Expression"))) (11 * d) (256 * d) [.ref a0] h h' (jOc (fun v => some (va_rf v)) r) := by
  intro d
  induction d with
  | zero =>
    intro h h' r hth hf
    exact jE_f hf
  | succ d ih =>
    intro h h' r hth hf
    exact megX2_part l hfl N (rX2_part N a0 d) (11 * d) (256 * d) a0 h h' r hth (fun h r h1 hh hq => ih h h1 r hq hh) hf
def fX2_all (N : Nat) (a0 : Nat) : jM (Option Nat ⊕ Nat) := gX2_all N (rX2_part N a0 8) a0
theorem metX2_all (l : Launch) (hfl : l.stackTraces = false) (N : Nat) (a0 : Nat) (h h' : jH) (r : Option Nat ⊕ Nat) (hth : jcd h a0 = some 1) (hf : (fX2_all N a0).1 h = some (r, h')) : jMet l yX2_all (ws_ yX2_all cX2_all 5 (Option.some (Jvm.ClassFile.FieldType.object "WornSkin$Expression"))) (98) (2280) [.ref a0] h h' (jOc (fun v => some (va_rf v)) r) :=
  megX2_all l hfl N (rX2_part N a0 8) (11 * 8) (256 * 8) a0 h h' r hth (fun h r h1 hh hq => merX2_part l hfl N a0 8 h h1 r hq hh) hf
def fX2_whole (N : Nat) (a0 : Nat) : jM (Option Nat ⊕ Nat) := jB (jpI [1] 12 (some a0) 0) fun _ => jBT (fX2_all N a0) fun y1 => jR (.inl y1)
theorem wX2_whole_0 {N : Nat} {r : Option Nat ⊕ Nat} (cx : jCx p s m args meth c cX2_whole "WornSkin$Reader" 1 (Option.some (Jvm.ClassFile.FieldType.object "WornSkin$Expression")) D dA H0 hs.2.2.2.2) (e1 : h'.2.2.1 = hs.2.2.1 + mc) (e2 : h'.2.2.2.1 = hs.2.2.2.1 + ms) (hfl : l.stackTraces = false) (ht : c.exceptionTable.toList = []) (a0 : Nat) (hth : jTh hs a0 1) : ∀ (h : jH) (H : Heap) (locs : List Loc) (cells slots : Nat) (ls : Array Slot), (fX2_whole N a0).1 h = some (r, h') → jS D dA H0 hs h H locs cells slots → lv_has ls 1 [(0, .ref a0)] → W p l e { frames := 99, cells := mc, slots := ms, locals := 2304 } s m args below meth c H locs cells slots (jQ D dA H0 below s (jOc (fun v => some (va_rf v)) r) h' mc ms) (F0 m 0 ls []) := by
  have hx := cx.1
  have hb := cx.2.1
  have hown := cx.2.2.2.1
  have hts := cx.2.2.2.2.1
  have hm : h'.2.2.1 ≤ hs.2.2.1 + mc ∧ h'.2.2.2.1 ≤ hs.2.2.2.1 + ms := ⟨Nat.le_of_eq e1, Nat.le_of_eq e2⟩
  intro h H locs cells slots ls hf hS hl
  unfold fX2_whole at hf
  refine lv_aload_n (pc := 0) hx hb dX2_whole_0 rfl (lv_at hl 0 rfl) ?_
  refine lv_iconst (pc := 1) (v := 0) hx hb dX2_whole_1 rfl ?_
  refine j_pI (pc := 2) cx hS hf fp_WornSkin_Reader_deep (Or.inl rfl) q218 dX2_whole_2 (fun h H locs hf hS => ?_)
  refine lv_aload_n (pc := 5) hx hb dX2_whole_5 rfl (lv_at hl 0 rfl) ?_
  rcases jBT_some hf with ⟨y1, h1, e9, hf⟩ | ⟨x9, e9, ez⟩
  rotate_left
  · have ez : r = .inr x9 := ez
    subst ez
    exact j_callVX (pc := 6) (z := ((), h')) (As := []) (rest := []) cx hS rfl hl.1 hm (metX2_all l hfl _ _ _ _ _ (hth.at hS) e9) (jLe.rf _) (hth.at hS) rfl (lw_V q939 q941 qs23 q113 q942) pdX2_all rfl rfl (Nat.le_of_ble_eq_true rfl) ⟨Nat.le_of_ble_eq_true rfl, Nat.le_of_ble_eq_true rfl⟩ dX2_whole_6 (fun H locs cells slots hS => j_leaves cx hS ht e1 e2)
  refine j_callV (pc := 6) (st1 := [va_rf y1]) (As := []) (rest := []) cx hS rfl hl.1 hm (metX2_all l hfl _ _ _ _ _ (hth.at hS) e9) (jle hf) (hth.at hS) rfl (lw_V q939 q941 qs23 q113 q942) pdX2_all rfl rfl (Nat.le_of_ble_eq_true rfl) ⟨Nat.le_of_ble_eq_true rfl, Nat.le_of_ble_eq_true rfl⟩ dX2_whole_6 rfl (fun H locs cells slots hS => ?_)
  exact j_aretT (pc := 9) cx hS hf (Or.inl ⟨_, rfl⟩) e1 e2 dX2_whole_9
theorem metX2_whole (l : Launch) (hfl : l.stackTraces = false) (N : Nat) (a0 : Nat) (h h' : jH) (r : Option Nat ⊕ Nat) (hth : jcd h a0 = some 1) (hf : (fX2_whole N a0).1 h = some (r, h')) : jMet l yX2_whole (ws_ yX2_whole cX2_whole 1 (Option.some (Jvm.ClassFile.FieldType.object "WornSkin$Expression"))) (99) (2304) [.ref a0] h h' (jOc (fun v => some (va_rf v)) r) := by
  refine jStartT rfl (jle hf) (Nat.le_of_ble_eq_true rfl) ?_
  intro p e s m below meth c D dA H0 mc ms ls ht cx hnm e1 e2 hS hl
  have hth := jTh.mk hS hth
  exact wX2_whole_0 cx e1 e2 hfl ht a0 hth  _ _ _ _ _ _ hf hS hl
def fX2_shows (N : Nat) (a0 : Nat) : jM (Unit ⊕ Nat) := jB (jK 15) fun y1 => jB (fX2_isWord N a0 y1) fun y2 => if y2 = 0 then (jB (fX2_wrong a0 1) fun y10 => jB (jnn0 y10) fun b11 => jR (.inr b11)) else (jB (jgR [1] 5 (some a0)) fun y3 => jB (jgR [3] 6 y3) fun y4 => if y4 = none then (jB (jgI [1] 11 (some a0)) fun y5 => jB (jpI [1] 11 (some a0) (y5 + 1)) fun _ => jB (jgR [1] 5 (some a0)) fun y6 => jBT (fX2_whole N a0) fun y7 => jB (jpR [3] 6 y6 y7) fun _ => jR (.inl ())) else (jB (fX2_wrong a0 3) fun y8 => jB (jnn0 y8) fun b9 => jR (.inr b9)))
theorem wX2_shows_0 {N : Nat} {r : Unit ⊕ Nat} (cx : jCx p s m args meth c cX2_shows "WornSkin$Reader" 1 (Option.none : Option Jvm.ClassFile.FieldType) D dA H0 hs.2.2.2.2) (e1 : h'.2.2.1 = hs.2.2.1 + mc) (e2 : h'.2.2.2.1 = hs.2.2.2.1 + ms) (hfl : l.stackTraces = false) (ht : c.exceptionTable.toList = []) (a0 : Nat) (hth : jTh hs a0 1) : ∀ (h : jH) (H : Heap) (locs : List Loc) (cells slots : Nat) (ls : Array Slot), (fX2_shows N a0).1 h = some (r, h') → jS D dA H0 hs h H locs cells slots → lv_has ls 1 [(0, .ref a0)] → W p l e { frames := 100, cells := mc, slots := ms, locals := 2324 } s m args below meth c H locs cells slots (jQ D dA H0 below s (jOc (fun _ => none) r) h' mc ms) (F0 m 0 ls []) := by
  have hx := cx.1
  have hb := cx.2.1
  have hown := cx.2.2.2.1
  have hts := cx.2.2.2.2.1
  have hm : h'.2.2.1 ≤ hs.2.2.1 + mc ∧ h'.2.2.2.1 ≤ hs.2.2.2.1 + ms := ⟨Nat.le_of_eq e1, Nat.le_of_eq e2⟩
  intro h H locs cells slots ls hf hS hl
  unfold fX2_shows at hf
  refine lv_aload_n (pc := 0) hx hb dX2_shows_0 rfl (lv_at hl 0 rfl) ?_
  refine j_ldcS (pc := 1) cx hS rfl hf (tx := "shows") (List.mem_of_getElem? (i := 14) rfl) dX2_shows_1 (fun y1 hf => ?_)
  obtain ⟨y2, h1, e9, hf⟩ := jB_some hf
  refine j_callV (pc := 3) (st1 := [.int y2]) (As := [va_rf y1]) (rest := []) cx hS rfl hl.1 hm (metX2_isWord l _ _ _ _ _ _ (hth.at hS) e9) (jle hf) (hth.at hS) rfl (lw_V q582 q584 qs2 q113 q585) pdX2_isWord rfl rfl (Nat.le_of_ble_eq_true rfl) ⟨Nat.le_of_ble_eq_true rfl, Nat.le_of_ble_eq_true rfl⟩ dX2_shows_3 rfl (fun H locs cells slots hS => ?_)
  refine lv_if_ne (pc := 6) (tgt := 15) hx hb dX2_shows_6 (by decide) (fun hc => ?_) (fun hc => ?_)
  · have hf := jI_f hf hc
    refine lv_aload_n (pc := 15) hx hb dX2_shows_15 rfl (lv_at hl 0 rfl) ?_
    refine j_gR (pc := 16) cx hS hf fd_WornSkin_Reader_draft q210 dX2_shows_16 (fun y3 hf => ?_)
    refine j_gR (pc := 19) cx hS hf fd_WornSkin_Library_shows q344 dX2_shows_19 (fun y4 hf => ?_)
    refine j_ifnull (pc := 22) (tgt := 31) (r := y4) hx hb dX2_shows_22 (by decide) (fun hc => ?_) (fun hc => ?_)
    · have hf := jI_t hf hc
      refine lv_aload_n (pc := 31) hx hb dX2_shows_31 rfl (lv_at hl 0 rfl) ?_
      refine lv_dup (pc := 32) hx hb dX2_shows_32 rfl ?_
      refine j_gI (pc := 33) cx hS hf fd_WornSkin_Reader_at q217 dX2_shows_33 (fun y5 hf => ?_)
      refine lv_iconst (pc := 36) (v := 1) hx hb dX2_shows_36 rfl ?_
      refine lv_iadd (pc := 37) hx hb dX2_shows_37 ?_
      refine j_pI (pc := 38) cx hS hf fp_WornSkin_Reader_at (Or.inl rfl) q217 dX2_shows_38 (fun h H locs hf hS => ?_)
      refine lv_aload_n (pc := 41) hx hb dX2_shows_41 rfl (lv_at hl 0 rfl) ?_
      refine j_gR (pc := 42) cx hS hf fd_WornSkin_Reader_draft q210 dX2_shows_42 (fun y6 hf => ?_)
      refine lv_aload_n (pc := 45) hx hb dX2_shows_45 rfl (lv_at hl 0 rfl) ?_
      rcases jBT_some hf with ⟨y7, h1, e9, hf⟩ | ⟨x9, e9, ez⟩
      rotate_left
      · have ez : r = .inr x9 := ez
        subst ez
        exact j_callVX (pc := 46) (z := ((), h')) (As := []) (rest := [va_rf y6]) cx hS rfl hl.1 hm (metX2_whole l hfl _ _ _ _ _ (hth.at hS) e9) (jLe.rf _) (hth.at hS) rfl (lw_V q935 q937 qs22 q113 q938) pdX2_whole rfl rfl (by simp only [List.map_cons, List.map_nil, List.sum_cons, List.sum_nil, jrfc]; exact Nat.le_of_ble_eq_true rfl) ⟨Nat.le_of_ble_eq_true rfl, Nat.le_of_ble_eq_true rfl⟩ dX2_shows_46 (fun H locs cells slots hS => j_leaves cx hS ht e1 e2)
      refine j_callV (pc := 46) (st1 := [va_rf y7, va_rf y6]) (As := []) (rest := [va_rf y6]) cx hS rfl hl.1 hm (metX2_whole l hfl _ _ _ _ _ (hth.at hS) e9) (jle hf) (hth.at hS) rfl (lw_V q935 q937 qs22 q113 q938) pdX2_whole rfl rfl (by simp only [List.map_cons, List.map_nil, List.sum_cons, List.sum_nil, jrfc]; exact Nat.le_of_ble_eq_true rfl) ⟨Nat.le_of_ble_eq_true rfl, Nat.le_of_ble_eq_true rfl⟩ dX2_shows_46 rfl (fun H locs cells slots hS => ?_)
      refine j_pR (pc := 49) cx hS hf fp_WornSkin_Library_shows (Or.inl rfl) q344 dX2_shows_49 (fun h H locs hf hS => ?_)
      exact j_vretT (pc := 52) cx hS hf e1 e2 dX2_shows_52
    · have hf := jI_f hf hc
      refine lv_aload_n (pc := 25) hx hb dX2_shows_25 rfl (lv_at hl 0 rfl) ?_
      refine lv_iconst (pc := 26) (v := 3) hx hb dX2_shows_26 rfl ?_
      obtain ⟨y8, h1, e9, hf⟩ := jB_some hf
      refine j_callV (pc := 27) (st1 := [va_rf y8]) (As := [.int 3]) (rest := []) cx hS rfl hl.1 hm (metX2_wrong l hfl _ _ _ _ _ (hth.at hS) e9) (jle hf) (hth.at hS) rfl (lw_V q617 q619 qs5 q113 q620) pdX2_wrong rfl rfl (Nat.le_of_ble_eq_true rfl) ⟨Nat.le_of_ble_eq_true rfl, Nat.le_of_ble_eq_true rfl⟩ dX2_shows_27 rfl (fun H locs cells slots hS => ?_)
      exact j_athrow (pc := 30) (r := y8) cx hS ht hf e1 e2 dX2_shows_30
  · have hf := jI_t hf hc
    refine lv_aload_n (pc := 9) hx hb dX2_shows_9 rfl (lv_at hl 0 rfl) ?_
    refine lv_iconst (pc := 10) (v := 1) hx hb dX2_shows_10 rfl ?_
    obtain ⟨y10, h1, e9, hf⟩ := jB_some hf
    refine j_callV (pc := 11) (st1 := [va_rf y10]) (As := [.int 1]) (rest := []) cx hS rfl hl.1 hm (metX2_wrong l hfl _ _ _ _ _ (hth.at hS) e9) (jle hf) (hth.at hS) rfl (lw_V q617 q619 qs5 q113 q620) pdX2_wrong rfl rfl (Nat.le_of_ble_eq_true rfl) ⟨Nat.le_of_ble_eq_true rfl, Nat.le_of_ble_eq_true rfl⟩ dX2_shows_11 rfl (fun H locs cells slots hS => ?_)
    exact j_athrow (pc := 14) (r := y10) cx hS ht hf e1 e2 dX2_shows_14
theorem metX2_shows (l : Launch) (hfl : l.stackTraces = false) (N : Nat) (a0 : Nat) (h h' : jH) (r : Unit ⊕ Nat) (hth : jcd h a0 = some 1) (hf : (fX2_shows N a0).1 h = some (r, h')) : jMet l yX2_shows (ws_ yX2_shows cX2_shows 1 (Option.none : Option Jvm.ClassFile.FieldType)) (100) (2324) [.ref a0] h h' (jOc (fun _ => none) r) := by
  refine jStartT rfl (jle hf) (Nat.le_of_ble_eq_true rfl) ?_
  intro p e s m below meth c D dA H0 mc ms ls ht cx hnm e1 e2 hS hl
  have hth := jTh.mk hS hth
  exact wX2_shows_0 cx e1 e2 hfl ht a0 hth  _ _ _ _ _ _ hf hS hl
def fX2_library_104 (N : Nat) (a0 : Nat) : jM (Option Nat ⊕ Nat) := jB (jgR [1] 5 (some a0)) fun y1 => jR (.inl y1)
def fX2_library_95 (N : Nat) (k15 : jM (Option Nat ⊕ Nat)) (a0 : Nat) : jM (Option Nat ⊕ Nat) := jBT (fX2_sign a0 59) fun _ => k15
def fX2_library_15 (N : Nat) (a0 : Nat) : Nat → jM (Option Nat ⊕ Nat)
  | 0 => jE
  | n + 1 => jB (jgR [1] 8 (some a0)) fun y1 => jB (jgI [1] 11 (some a0)) fun y2 => jB (jaI 0 y1 y2) fun y3 => if y3 = 0 then (fX2_library_104 N a0) else (jB (jK 9) fun y4 => jB (fX2_isWord N a0 y4) fun y5 => if y5 = 0 then (jB (jK 12) fun y6 => jB (fX2_isWord N a0 y6) fun y7 => if y7 = 0 then (jB (jK 13) fun y8 => jB (fX2_isWord N a0 y8) fun y9 => if y9 = 0 then (jB (jK 14) fun y10 => jB (fX2_isWord N a0 y10) fun y11 => if y11 = 0 then (jBT (fX2_shows N a0) fun _ => fX2_library_95 N (fX2_library_15 N a0 n) a0) else (jBT (fX2_damp N a0) fun _ => fX2_library_95 N (fX2_library_15 N a0 n) a0)) else (jBT (fX2_text N a0) fun _ => fX2_library_95 N (fX2_library_15 N a0 n) a0)) else (jBT (fX2_hole N a0) fun _ => fX2_library_95 N (fX2_library_15 N a0 n) a0)) else (jBT (fX2_skin N a0) fun _ => fX2_library_95 N (fX2_library_15 N a0 n) a0))
def fX2_library (N : Nat) (a0 : Nat) : jM (Option Nat ⊕ Nat) := jB (fX2_cut N a0) fun _ => jB (jnw 3 8 [.null, .null, .null, .null, .null, .int 0, .null, .null]) fun q2 => jB (fX4_init q2) fun _ => jB (jpR [1] 5 (some a0) (some q2)) fun _ => fX2_library_15 N a0 N
theorem wX2_library_104 {N : Nat} {r : Option Nat ⊕ Nat} (cx : jCx p s m args meth c cX2_library "WornSkin$Reader" 1 (Option.some (Jvm.ClassFile.FieldType.object "WornSkin$Library")) D dA H0 hs.2.2.2.2) (e1 : h'.2.2.1 = hs.2.2.1 + mc) (e2 : h'.2.2.2.1 = hs.2.2.2.1 + ms) (hfl : l.stackTraces = false) (ht : c.exceptionTable.toList = []) (a0 : Nat) (hth : jTh hs a0 1) : ∀ (h : jH) (H : Heap) (locs : List Loc) (cells slots : Nat) (ls : Array Slot), (fX2_library_104 N a0).1 h = some (r, h') → jS D dA H0 hs h H locs cells slots → lv_has ls 1 [(0, .ref a0)] → W p l e { frames := 101, cells := mc, slots := ms, locals := 2344 } s m args below meth c H locs cells slots (jQ D dA H0 below s (jOc (fun v => some (va_rf v)) r) h' mc ms) (F0 m 104 ls []) := by
  have hx := cx.1
  have hb := cx.2.1
  have hown := cx.2.2.2.1
  have hts := cx.2.2.2.2.1
  have hm : h'.2.2.1 ≤ hs.2.2.1 + mc ∧ h'.2.2.2.1 ≤ hs.2.2.2.1 + ms := ⟨Nat.le_of_eq e1, Nat.le_of_eq e2⟩
  intro h H locs cells slots ls hf hS hl
  unfold fX2_library_104 at hf
  refine lv_aload_n (pc := 104) hx hb dX2_library_104 rfl (lv_at hl 0 rfl) ?_
  refine j_gR (pc := 105) cx hS hf fd_WornSkin_Reader_draft q210 dX2_library_105 (fun y1 hf => ?_)
  exact j_aretT (pc := 108) cx hS hf (Or.inl ⟨_, rfl⟩) e1 e2 dX2_library_108
theorem wX2_library_95 {N : Nat} {k15 : jM (Option Nat ⊕ Nat)} {r : Option Nat ⊕ Nat} (cx : jCx p s m args meth c cX2_library "WornSkin$Reader" 1 (Option.some (Jvm.ClassFile.FieldType.object "WornSkin$Library")) D dA H0 hs.2.2.2.2) (e1 : h'.2.2.1 = hs.2.2.1 + mc) (e2 : h'.2.2.2.1 = hs.2.2.2.1 + ms) (hfl : l.stackTraces = false) (ht : c.exceptionTable.toList = []) (a0 : Nat) (hth : jTh hs a0 1) (hk15 : ∀ (h : jH) (H : Heap) (locs : List Loc) (cells slots : Nat) (ls : Array Slot), (k15).1 h = some (r, h') → jS D dA H0 hs h H locs cells slots → lv_has ls 1 [(0, .ref a0)] → W p l e { frames := 101, cells := mc, slots := ms, locals := 2344 } s m args below meth c H locs cells slots (jQ D dA H0 below s (jOc (fun v => some (va_rf v)) r) h' mc ms) (F0 m 15 ls [])) : ∀ (h : jH) (H : Heap) (locs : List Loc) (cells slots : Nat) (ls : Array Slot), (fX2_library_95 N k15 a0).1 h = some (r, h') → jS D dA H0 hs h H locs cells slots → lv_has ls 1 [(0, .ref a0)] → W p l e { frames := 101, cells := mc, slots := ms, locals := 2344 } s m args below meth c H locs cells slots (jQ D dA H0 below s (jOc (fun v => some (va_rf v)) r) h' mc ms) (F0 m 95 ls []) := by
  have hx := cx.1
  have hb := cx.2.1
  have hown := cx.2.2.2.1
  have hts := cx.2.2.2.2.1
  have hm : h'.2.2.1 ≤ hs.2.2.1 + mc ∧ h'.2.2.2.1 ≤ hs.2.2.2.1 + ms := ⟨Nat.le_of_eq e1, Nat.le_of_eq e2⟩
  intro h H locs cells slots ls hf hS hl
  unfold fX2_library_95 at hf
  refine lv_aload_n (pc := 95) hx hb dX2_library_95 rfl (lv_at hl 0 rfl) ?_
  refine lv_bipush (pc := 96) (v := 59) hx hb dX2_library_96 rfl ?_
  rcases jBT_some hf with ⟨_, h1, e9, hf⟩ | ⟨x9, e9, ez⟩
  rotate_left
  · have ez : r = .inr x9 := ez
    subst ez
    exact j_callVX (pc := 98) (z := ((), h')) (As := [.int 59]) (rest := []) cx hS rfl hl.1 hm (metX2_sign l hfl _ _ _ _ _ (hth.at hS) e9) (jLe.rf _) (hth.at hS) rfl (lw_V q996 q998 qs29 q113 q999) pdX2_sign rfl rfl (Nat.le_of_ble_eq_true rfl) ⟨Nat.le_of_ble_eq_true rfl, Nat.le_of_ble_eq_true rfl⟩ dX2_library_98 (fun H locs cells slots hS => j_leaves cx hS ht e1 e2)
  refine j_callV (pc := 98) (st1 := []) (As := [.int 59]) (rest := []) cx hS rfl hl.1 hm (metX2_sign l hfl _ _ _ _ _ (hth.at hS) e9) (jle hf) (hth.at hS) rfl (lw_V q996 q998 qs29 q113 q999) pdX2_sign rfl rfl (Nat.le_of_ble_eq_true rfl) ⟨Nat.le_of_ble_eq_true rfl, Nat.le_of_ble_eq_true rfl⟩ dX2_library_98 rfl (fun H locs cells slots hS => ?_)
  refine lv_goto (pc := 101) (tgt := 15) hx hb dX2_library_101 (by decide) ?_
  exact hk15 _ _ _ _ _ _ hf hS hl
theorem wX2_library_15 {N : Nat} {r : Option Nat ⊕ Nat} (cx : jCx p s m args meth c cX2_library "WornSkin$Reader" 1 (Option.some (Jvm.ClassFile.FieldType.object "WornSkin$Library")) D dA H0 hs.2.2.2.2) (e1 : h'.2.2.1 = hs.2.2.1 + mc) (e2 : h'.2.2.2.1 = hs.2.2.2.1 + ms) (hfl : l.stackTraces = false) (ht : c.exceptionTable.toList = []) (a0 : Nat) (hth : jTh hs a0 1) : ∀ (n : Nat), ∀ (h : jH) (H : Heap) (locs : List Loc) (cells slots : Nat) (ls : Array Slot), (fX2_library_15 N a0 n).1 h = some (r, h') → jS D dA H0 hs h H locs cells slots → lv_has ls 1 [(0, .ref a0)] → W p l e { frames := 101, cells := mc, slots := ms, locals := 2344 } s m args below meth c H locs cells slots (jQ D dA H0 below s (jOc (fun v => some (va_rf v)) r) h' mc ms) (F0 m 15 ls []) := by
  have hx := cx.1
  have hb := cx.2.1
  have hown := cx.2.2.2.1
  have hts := cx.2.2.2.2.1
  have hm : h'.2.2.1 ≤ hs.2.2.1 + mc ∧ h'.2.2.2.1 ≤ hs.2.2.2.1 + ms := ⟨Nat.le_of_eq e1, Nat.le_of_eq e2⟩
  intro n
  induction n with
  | zero =>
    intro h H locs cells slots ls hf hS hl
    exact jE_f hf
  | succ n ih =>
    intro h H locs cells slots ls hf hS hl
    unfold fX2_library_15 at hf
    refine lv_aload_n (pc := 15) hx hb dX2_library_15 rfl (lv_at hl 0 rfl) ?_
    refine j_gR (pc := 16) cx hS hf fd_WornSkin_Reader_sort q214 dX2_library_16 (fun y1 hf => ?_)
    refine lv_aload_n (pc := 19) hx hb dX2_library_19 rfl (lv_at hl 0 rfl) ?_
    refine j_gI (pc := 20) cx hS hf fd_WornSkin_Reader_at q217 dX2_library_20 (fun y2 hf => ?_)
    refine j_aI (pc := 23) cx hS hf rfl dX2_library_23 (fun y3 hf => ?_)
    refine lv_if_eq (pc := 24) (tgt := 104) hx hb dX2_library_24 (by decide) (fun hc => ?_) (fun hc => ?_)
    · have hf := jI_t hf hc
      exact wX2_library_104 cx e1 e2 hfl ht a0 hth _ _ _ _ _ _ hf hS hl
    · have hf := jI_f hf hc
      refine lv_aload_n (pc := 27) hx hb dX2_library_27 rfl (lv_at hl 0 rfl) ?_
      refine j_ldcS (pc := 28) cx hS rfl hf (tx := "skin") (List.mem_of_getElem? (i := 8) rfl) dX2_library_28 (fun y4 hf => ?_)
      obtain ⟨y5, h1, e9, hf⟩ := jB_some hf
      refine j_callV (pc := 30) (st1 := [.int y5]) (As := [va_rf y4]) (rest := []) cx hS rfl hl.1 hm (metX2_isWord l _ _ _ _ _ _ (hth.at hS) e9) (jle hf) (hth.at hS) rfl (lw_V q582 q584 qs2 q113 q585) pdX2_isWord rfl rfl (Nat.le_of_ble_eq_true rfl) ⟨Nat.le_of_ble_eq_true rfl, Nat.le_of_ble_eq_true rfl⟩ dX2_library_30 rfl (fun H locs cells slots hS => ?_)
      refine lv_if_eq (pc := 33) (tgt := 43) hx hb dX2_library_33 (by decide) (fun hc => ?_) (fun hc => ?_)
      · have hf := jI_t hf hc
        refine lv_aload_n (pc := 43) hx hb dX2_library_43 rfl (lv_at hl 0 rfl) ?_
        refine j_ldcS (pc := 44) cx hS rfl hf (tx := "hole") (List.mem_of_getElem? (i := 11) rfl) dX2_library_44 (fun y6 hf => ?_)
        obtain ⟨y7, h1, e9, hf⟩ := jB_some hf
        refine j_callV (pc := 46) (st1 := [.int y7]) (As := [va_rf y6]) (rest := []) cx hS rfl hl.1 hm (metX2_isWord l _ _ _ _ _ _ (hth.at hS) e9) (jle hf) (hth.at hS) rfl (lw_V q582 q584 qs2 q113 q585) pdX2_isWord rfl rfl (Nat.le_of_ble_eq_true rfl) ⟨Nat.le_of_ble_eq_true rfl, Nat.le_of_ble_eq_true rfl⟩ dX2_library_46 rfl (fun H locs cells slots hS => ?_)
        refine lv_if_eq (pc := 49) (tgt := 59) hx hb dX2_library_49 (by decide) (fun hc => ?_) (fun hc => ?_)
        · have hf := jI_t hf hc
          refine lv_aload_n (pc := 59) hx hb dX2_library_59 rfl (lv_at hl 0 rfl) ?_
          refine j_ldcS (pc := 60) cx hS rfl hf (tx := "text") (List.mem_of_getElem? (i := 12) rfl) dX2_library_60 (fun y8 hf => ?_)
          obtain ⟨y9, h1, e9, hf⟩ := jB_some hf
          refine j_callV (pc := 62) (st1 := [.int y9]) (As := [va_rf y8]) (rest := []) cx hS rfl hl.1 hm (metX2_isWord l _ _ _ _ _ _ (hth.at hS) e9) (jle hf) (hth.at hS) rfl (lw_V q582 q584 qs2 q113 q585) pdX2_isWord rfl rfl (Nat.le_of_ble_eq_true rfl) ⟨Nat.le_of_ble_eq_true rfl, Nat.le_of_ble_eq_true rfl⟩ dX2_library_62 rfl (fun H locs cells slots hS => ?_)
          refine lv_if_eq (pc := 65) (tgt := 75) hx hb dX2_library_65 (by decide) (fun hc => ?_) (fun hc => ?_)
          · have hf := jI_t hf hc
            refine lv_aload_n (pc := 75) hx hb dX2_library_75 rfl (lv_at hl 0 rfl) ?_
            refine j_ldcS (pc := 76) cx hS rfl hf (tx := "damp") (List.mem_of_getElem? (i := 13) rfl) dX2_library_76 (fun y10 hf => ?_)
            obtain ⟨y11, h1, e9, hf⟩ := jB_some hf
            refine j_callV (pc := 78) (st1 := [.int y11]) (As := [va_rf y10]) (rest := []) cx hS rfl hl.1 hm (metX2_isWord l _ _ _ _ _ _ (hth.at hS) e9) (jle hf) (hth.at hS) rfl (lw_V q582 q584 qs2 q113 q585) pdX2_isWord rfl rfl (Nat.le_of_ble_eq_true rfl) ⟨Nat.le_of_ble_eq_true rfl, Nat.le_of_ble_eq_true rfl⟩ dX2_library_78 rfl (fun H locs cells slots hS => ?_)
            refine lv_if_eq (pc := 81) (tgt := 91) hx hb dX2_library_81 (by decide) (fun hc => ?_) (fun hc => ?_)
            · have hf := jI_t hf hc
              refine lv_aload_n (pc := 91) hx hb dX2_library_91 rfl (lv_at hl 0 rfl) ?_
              rcases jBT_some hf with ⟨_, h1, e9, hf⟩ | ⟨x9, e9, ez⟩
              rotate_left
              · have ez : r = .inr x9 := ez
                subst ez
                exact j_callVX (pc := 92) (z := ((), h')) (As := []) (rest := []) cx hS rfl hl.1 hm (metX2_shows l hfl _ _ _ _ _ (hth.at hS) e9) (jLe.rf _) (hth.at hS) rfl (lw_V q931 q933 qs21 q113 q934) pdX2_shows rfl rfl (Nat.le_of_ble_eq_true rfl) ⟨Nat.le_of_ble_eq_true rfl, Nat.le_of_ble_eq_true rfl⟩ dX2_library_92 (fun H locs cells slots hS => j_leaves cx hS ht e1 e2)
              refine j_callV (pc := 92) (st1 := []) (As := []) (rest := []) cx hS rfl hl.1 hm (metX2_shows l hfl _ _ _ _ _ (hth.at hS) e9) (jle hf) (hth.at hS) rfl (lw_V q931 q933 qs21 q113 q934) pdX2_shows rfl rfl (Nat.le_of_ble_eq_true rfl) ⟨Nat.le_of_ble_eq_true rfl, Nat.le_of_ble_eq_true rfl⟩ dX2_library_92 rfl (fun H locs cells slots hS => ?_)
              exact wX2_library_95 cx e1 e2 hfl ht a0 hth ih _ _ _ _ _ _ hf hS hl
            · have hf := jI_f hf hc
              refine lv_aload_n (pc := 84) hx hb dX2_library_84 rfl (lv_at hl 0 rfl) ?_
              rcases jBT_some hf with ⟨_, h1, e9, hf⟩ | ⟨x9, e9, ez⟩
              rotate_left
              · have ez : r = .inr x9 := ez
                subst ez
                exact j_callVX (pc := 85) (z := ((), h')) (As := []) (rest := []) cx hS rfl hl.1 hm (metX2_damp l hfl _ _ _ _ _ (hth.at hS) e9) (jLe.rf _) (hth.at hS) rfl (lw_V q923 q925 qs20 q113 q926) pdX2_damp rfl rfl (Nat.le_of_ble_eq_true rfl) ⟨Nat.le_of_ble_eq_true rfl, Nat.le_of_ble_eq_true rfl⟩ dX2_library_85 (fun H locs cells slots hS => j_leaves cx hS ht e1 e2)
              refine j_callV (pc := 85) (st1 := []) (As := []) (rest := []) cx hS rfl hl.1 hm (metX2_damp l hfl _ _ _ _ _ (hth.at hS) e9) (jle hf) (hth.at hS) rfl (lw_V q923 q925 qs20 q113 q926) pdX2_damp rfl rfl (Nat.le_of_ble_eq_true rfl) ⟨Nat.le_of_ble_eq_true rfl, Nat.le_of_ble_eq_true rfl⟩ dX2_library_85 rfl (fun H locs cells slots hS => ?_)
              refine lv_goto (pc := 88) (tgt := 95) hx hb dX2_library_88 (by decide) ?_
              exact wX2_library_95 cx e1 e2 hfl ht a0 hth ih _ _ _ _ _ _ hf hS hl
          · have hf := jI_f hf hc
            refine lv_aload_n (pc := 68) hx hb dX2_library_68 rfl (lv_at hl 0 rfl) ?_
            rcases jBT_some hf with ⟨_, h1, e9, hf⟩ | ⟨x9, e9, ez⟩
            rotate_left
            · have ez : r = .inr x9 := ez
              subst ez
              exact j_callVX (pc := 69) (z := ((), h')) (As := []) (rest := []) cx hS rfl hl.1 hm (metX2_text l hfl _ _ _ _ _ (hth.at hS) e9) (jLe.rf _) (hth.at hS) rfl (lw_V q866 q868 qs18 q113 q869) pdX2_text rfl rfl (Nat.le_of_ble_eq_true rfl) ⟨Nat.le_of_ble_eq_true rfl, Nat.le_of_ble_eq_true rfl⟩ dX2_library_69 (fun H locs cells slots hS => j_leaves cx hS ht e1 e2)
            refine j_callV (pc := 69) (st1 := []) (As := []) (rest := []) cx hS rfl hl.1 hm (metX2_text l hfl _ _ _ _ _ (hth.at hS) e9) (jle hf) (hth.at hS) rfl (lw_V q866 q868 qs18 q113 q869) pdX2_text rfl rfl (Nat.le_of_ble_eq_true rfl) ⟨Nat.le_of_ble_eq_true rfl, Nat.le_of_ble_eq_true rfl⟩ dX2_library_69 rfl (fun H locs cells slots hS => ?_)
            refine lv_goto (pc := 72) (tgt := 95) hx hb dX2_library_72 (by decide) ?_
            exact wX2_library_95 cx e1 e2 hfl ht a0 hth ih _ _ _ _ _ _ hf hS hl
        · have hf := jI_f hf hc
          refine lv_aload_n (pc := 52) hx hb dX2_library_52 rfl (lv_at hl 0 rfl) ?_
          rcases jBT_some hf with ⟨_, h1, e9, hf⟩ | ⟨x9, e9, ez⟩
          rotate_left
          · have ez : r = .inr x9 := ez
            subst ez
            exact j_callVX (pc := 53) (z := ((), h')) (As := []) (rest := []) cx hS rfl hl.1 hm (metX2_hole l hfl _ _ _ _ _ (hth.at hS) e9) (jLe.rf _) (hth.at hS) rfl (lw_V q854 q856 qs16 q113 q857) pdX2_hole rfl rfl (Nat.le_of_ble_eq_true rfl) ⟨Nat.le_of_ble_eq_true rfl, Nat.le_of_ble_eq_true rfl⟩ dX2_library_53 (fun H locs cells slots hS => j_leaves cx hS ht e1 e2)
          refine j_callV (pc := 53) (st1 := []) (As := []) (rest := []) cx hS rfl hl.1 hm (metX2_hole l hfl _ _ _ _ _ (hth.at hS) e9) (jle hf) (hth.at hS) rfl (lw_V q854 q856 qs16 q113 q857) pdX2_hole rfl rfl (Nat.le_of_ble_eq_true rfl) ⟨Nat.le_of_ble_eq_true rfl, Nat.le_of_ble_eq_true rfl⟩ dX2_library_53 rfl (fun H locs cells slots hS => ?_)
          refine lv_goto (pc := 56) (tgt := 95) hx hb dX2_library_56 (by decide) ?_
          exact wX2_library_95 cx e1 e2 hfl ht a0 hth ih _ _ _ _ _ _ hf hS hl
      · have hf := jI_f hf hc
        refine lv_aload_n (pc := 36) hx hb dX2_library_36 rfl (lv_at hl 0 rfl) ?_
        rcases jBT_some hf with ⟨_, h1, e9, hf⟩ | ⟨x9, e9, ez⟩
        rotate_left
        · have ez : r = .inr x9 := ez
          subst ez
          exact j_callVX (pc := 37) (z := ((), h')) (As := []) (rest := []) cx hS rfl hl.1 hm (metX2_skin l hfl _ _ _ _ _ (hth.at hS) e9) (jLe.rf _) (hth.at hS) rfl (lw_V q608 q610 qs3 q113 q611) pdX2_skin rfl rfl (Nat.le_of_ble_eq_true rfl) ⟨Nat.le_of_ble_eq_true rfl, Nat.le_of_ble_eq_true rfl⟩ dX2_library_37 (fun H locs cells slots hS => j_leaves cx hS ht e1 e2)
        refine j_callV (pc := 37) (st1 := []) (As := []) (rest := []) cx hS rfl hl.1 hm (metX2_skin l hfl _ _ _ _ _ (hth.at hS) e9) (jle hf) (hth.at hS) rfl (lw_V q608 q610 qs3 q113 q611) pdX2_skin rfl rfl (Nat.le_of_ble_eq_true rfl) ⟨Nat.le_of_ble_eq_true rfl, Nat.le_of_ble_eq_true rfl⟩ dX2_library_37 rfl (fun H locs cells slots hS => ?_)
        refine lv_goto (pc := 40) (tgt := 95) hx hb dX2_library_40 (by decide) ?_
        exact wX2_library_95 cx e1 e2 hfl ht a0 hth ih _ _ _ _ _ _ hf hS hl
theorem wX2_library_0 {N : Nat} {r : Option Nat ⊕ Nat} (cx : jCx p s m args meth c cX2_library "WornSkin$Reader" 1 (Option.some (Jvm.ClassFile.FieldType.object "WornSkin$Library")) D dA H0 hs.2.2.2.2) (e1 : h'.2.2.1 = hs.2.2.1 + mc) (e2 : h'.2.2.2.1 = hs.2.2.2.1 + ms) (hfl : l.stackTraces = false) (ht : c.exceptionTable.toList = []) (a0 : Nat) (hth : jTh hs a0 1) : ∀ (h : jH) (H : Heap) (locs : List Loc) (cells slots : Nat) (ls : Array Slot), (fX2_library N a0).1 h = some (r, h') → jS D dA H0 hs h H locs cells slots → lv_has ls 1 [(0, .ref a0)] → W p l e { frames := 101, cells := mc, slots := ms, locals := 2344 } s m args below meth c H locs cells slots (jQ D dA H0 below s (jOc (fun v => some (va_rf v)) r) h' mc ms) (F0 m 0 ls []) := by
  have hx := cx.1
  have hb := cx.2.1
  have hown := cx.2.2.2.1
  have hts := cx.2.2.2.2.1
  have hm : h'.2.2.1 ≤ hs.2.2.1 + mc ∧ h'.2.2.2.1 ≤ hs.2.2.2.1 + ms := ⟨Nat.le_of_eq e1, Nat.le_of_eq e2⟩
  intro h H locs cells slots ls hf hS hl
  unfold fX2_library at hf
  refine lv_aload_n (pc := 0) hx hb dX2_library_0 rfl (lv_at hl 0 rfl) ?_
  obtain ⟨_, h1, e9, hf⟩ := jB_some hf
  refine j_callV (pc := 1) (st1 := []) (As := []) (rest := []) cx hS rfl hl.1 hm (metX2_cut l _ _ _ _ _ (hth.at hS) e9) (jle hf) (hth.at hS) rfl (lw_V q479 q481 qs1 q113 q482) pdX2_cut rfl rfl (Nat.le_of_ble_eq_true rfl) ⟨Nat.le_of_ble_eq_true rfl, Nat.le_of_ble_eq_true rfl⟩ dX2_library_1 rfl (fun H locs cells slots hS => ?_)
  refine lv_aload_n (pc := 4) hx hb dX2_library_4 rfl (lv_at hl 0 rfl) ?_
  refine j_new (pc := 5) cx hS hf cn_X4 q580 dX2_library_5 hm (fun q2 h H cells slots hf hS => ?_)
  refine lv_dup (pc := 8) hx hb dX2_library_8 rfl ?_
  obtain ⟨_, h1, e9, hf⟩ := jB_some hf
  refine j_callIN (pc := 9) (st1 := [.ref q2, .ref a0]) (As := []) (rest := [.ref q2, .ref a0]) cx hS rfl hl.1 hm (metX4_init l _ _ _ _ e9) (jle hf) rfl q286 q285 q581 q115 pdX4_init rfl rfl (Nat.le_of_ble_eq_true rfl) ⟨Nat.le_of_ble_eq_true rfl, Nat.le_of_ble_eq_true rfl⟩ dX2_library_9 rfl (fun H locs cells slots hS => ?_)
  refine j_pR (pc := 12) cx hS hf fp_WornSkin_Reader_draft (Or.inl rfl) q210 dX2_library_12 (fun h H locs hf hS => ?_)
  exact wX2_library_15 cx e1 e2 hfl ht a0 hth N _ _ _ _ _ _ hf hS hl
theorem metX2_library (l : Launch) (hfl : l.stackTraces = false) (N : Nat) (a0 : Nat) (h h' : jH) (r : Option Nat ⊕ Nat) (hth : jcd h a0 = some 1) (hf : (fX2_library N a0).1 h = some (r, h')) : jMet l yX2_library (ws_ yX2_library cX2_library 1 (Option.some (Jvm.ClassFile.FieldType.object "WornSkin$Library"))) (101) (2344) [.ref a0] h h' (jOc (fun v => some (va_rf v)) r) := by
  refine jStartT rfl (jle hf) (Nat.le_of_ble_eq_true rfl) ?_
  intro p e s m below meth c D dA H0 mc ms ls ht cx hnm e1 e2 hS hl
  have hth := jTh.mk hS hth
  exact wX2_library_0 cx e1 e2 hfl ht a0 hth  _ _ _ _ _ _ hf hS hl
end
