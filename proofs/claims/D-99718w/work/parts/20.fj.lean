set_option maxRecDepth 100000
section
variable {p : Program} {l : Launch} {e : Env} {s : State} {m : MethodId} {args : Array Value} {below : List Frame} {meth : Method} {c : Code} {D : va_G} {dA : Nat → ClassId → Prop} {H0 : Heap} {hs h' : jH} {mc ms : Nat}
def fJ0_init (a0 : Nat) : jM Unit := jR ()
theorem wJ0_init_0 {r : Unit} (cx : jCx p s m args meth c cJ0_init "java/util/AbstractCollection" 1 (Option.none : Option Jvm.ClassFile.FieldType) D dA H0 hs.2.2.2.2) (e1 : h'.2.2.1 = hs.2.2.1 + mc) (e2 : h'.2.2.2.1 = hs.2.2.2.1 + ms) (hin : meth.name = "<init>") (a0 : Nat) : ∀ (h : jH) (H : Heap) (locs : List Loc) (cells slots : Nat) (ls : Array Slot), (fJ0_init a0).1 h = some (r, h') → jS D dA H0 hs h H locs cells slots → lv_has ls 1 [(0, .ref a0)] → W p l e { frames := 1, cells := mc, slots := ms, locals := 20 } s m args below meth c H locs cells slots (jQ D dA H0 below s (.returned none) h' mc ms) (F0 m 0 ls []) := by
  have hx := cx.1
  have hb := cx.2.1
  have hown := cx.2.2.2.1
  have hts := cx.2.2.2.2.1
  have hm : h'.2.2.1 ≤ hs.2.2.1 + mc ∧ h'.2.2.2.1 ≤ hs.2.2.2.1 + ms := ⟨Nat.le_of_eq e1, Nat.le_of_eq e2⟩
  intro h H locs cells slots ls hf hS hl
  unfold fJ0_init at hf
  refine lv_aload_n (pc := 0) hx hb dJ0_init_0 rfl (lv_at hl 0 rfl) ?_
  refine j_objInit (pc := 1) cx q299 q171 q172 hl.1 dJ0_init_1 (Nat.le_of_ble_eq_true rfl) (Nat.le_of_ble_eq_true rfl) ?_
  exact j_vret (pc := 4) cx hS hf e1 e2 dJ0_init_4
theorem metJ0_init (l : Launch) (a0 : Nat) (h h' : jH) (r : Unit) (hf : (fJ0_init a0).1 h = some (r, h')) : jMet l yJ0_init (ws_ yJ0_init cJ0_init 1 (Option.none : Option Jvm.ClassFile.FieldType)) (1) (20) [.ref a0] h h' (.returned none) := by
  refine jStart rfl (jle hf) (Nat.le_of_ble_eq_true rfl) ?_
  intro p e s m below meth c D dA H0 mc ms ls cx hnm e1 e2 hS hl
  exact wJ0_init_0 cx e1 e2 hnm a0  _ _ _ _ _ _ hf hS hl
def fJ1_init (a0 : Nat) : jM Unit := jB (fJ0_init a0) fun _ => jB (jpI [4] 0 (some a0) 0) fun _ => jR ()
theorem wJ1_init_0 {r : Unit} (cx : jCx p s m args meth c cJ1_init "java/util/AbstractList" 1 (Option.none : Option Jvm.ClassFile.FieldType) D dA H0 hs.2.2.2.2) (e1 : h'.2.2.1 = hs.2.2.1 + mc) (e2 : h'.2.2.2.1 = hs.2.2.2.1 + ms) (hin : meth.name = "<init>") (a0 : Nat) : ∀ (h : jH) (H : Heap) (locs : List Loc) (cells slots : Nat) (ls : Array Slot), (fJ1_init a0).1 h = some (r, h') → jS D dA H0 hs h H locs cells slots → lv_has ls 1 [(0, .ref a0)] → W p l e { frames := 2, cells := mc, slots := ms, locals := 40 } s m args below meth c H locs cells slots (jQ D dA H0 below s (.returned none) h' mc ms) (F0 m 0 ls []) := by
  have hx := cx.1
  have hb := cx.2.1
  have hown := cx.2.2.2.1
  have hts := cx.2.2.2.2.1
  have hm : h'.2.2.1 ≤ hs.2.2.1 + mc ∧ h'.2.2.2.1 ≤ hs.2.2.2.1 + ms := ⟨Nat.le_of_eq e1, Nat.le_of_eq e2⟩
  intro h H locs cells slots ls hf hS hl
  unfold fJ1_init at hf
  refine lv_aload_n (pc := 0) hx hb dJ1_init_0 rfl (lv_at hl 0 rfl) ?_
  obtain ⟨_, h1, e9, hf⟩ := jB_some hf
  refine j_callI (pc := 1) (st1 := []) (As := []) (rest := []) cx hS rfl hl.1 hm (metJ0_init l _ _ _ _ e9) (jle hf) rfl q298 q297 q296 q116 pdJ0_init rfl rfl (Nat.le_of_ble_eq_true rfl) ⟨Nat.le_of_ble_eq_true rfl, Nat.le_of_ble_eq_true rfl⟩ dJ1_init_1 rfl (fun H locs cells slots hS => ?_)
  refine lv_aload_n (pc := 4) hx hb dJ1_init_4 rfl (lv_at hl 0 rfl) ?_
  refine lv_iconst (pc := 5) (v := 0) hx hb dJ1_init_5 rfl ?_
  refine j_pI (pc := 6) cx hS hf fp_java_util_AbstractList_modCount (Or.inl rfl) q306 dJ1_init_6 (fun h H locs hf hS => ?_)
  exact j_vret (pc := 9) cx hS hf e1 e2 dJ1_init_9
theorem metJ1_init (l : Launch) (a0 : Nat) (h h' : jH) (r : Unit) (hf : (fJ1_init a0).1 h = some (r, h')) : jMet l yJ1_init (ws_ yJ1_init cJ1_init 1 (Option.none : Option Jvm.ClassFile.FieldType)) (2) (40) [.ref a0] h h' (.returned none) := by
  refine jStart rfl (jle hf) (Nat.le_of_ble_eq_true rfl) ?_
  intro p e s m below meth c D dA H0 mc ms ls cx hnm e1 e2 hS hl
  exact wJ1_init_0 cx e1 e2 hnm a0  _ _ _ _ _ _ hf hS hl
def fJ4_checkIndex_9 (x0 : Int32) (x1 : Int32) (x2 : Option Nat) : jM Int32 := jE
def fJ4_checkIndex (x0 : Int32) (x1 : Int32) (x2 : Option Nat) : jM Int32 := if x0 < 0 then (fJ4_checkIndex_9 x0 x1 x2) else (if x0 < x1 then (jR x0) else (fJ4_checkIndex_9 x0 x1 x2))
theorem wJ4_checkIndex_9 {r : Int32} (cx : jCx p s m args meth c cJ4_checkIndex "jdk/internal/util/Preconditions" 3 (Option.some Jvm.ClassFile.FieldType.int) D dA H0 hs.2.2.2.2) (e1 : h'.2.2.1 = hs.2.2.1 + mc) (e2 : h'.2.2.2.1 = hs.2.2.2.1 + ms) : ∀ (x0 : Int32) (x1 : Int32) (x2 : Option Nat), ∀ (h : jH) (H : Heap) (locs : List Loc) (cells slots : Nat) (ls : Array Slot), (fJ4_checkIndex_9 x0 x1 x2).1 h = some (r, h') → jS D dA H0 hs h H locs cells slots → lv_has ls 3 [(0, .int x0), (1, .int x1), (2, va_rf x2)] → W p l e { frames := 0, cells := mc, slots := ms, locals := 0 } s m args below meth c H locs cells slots (jQ D dA H0 below s (.returned (some (.int r))) h' mc ms) (F0 m 9 ls []) := by
  have hx := cx.1
  have hb := cx.2.1
  have hown := cx.2.2.2.1
  have hts := cx.2.2.2.2.1
  have hm : h'.2.2.1 ≤ hs.2.2.1 + mc ∧ h'.2.2.2.1 ≤ hs.2.2.2.1 + ms := ⟨Nat.le_of_eq e1, Nat.le_of_eq e2⟩
  intro x0 x1 x2 h H locs cells slots ls hf hS hl
  unfold fJ4_checkIndex_9 at hf
  refine j_aload_n (pc := 9) (r := x2) hx hb dJ4_checkIndex_9 rfl (lv_at hl 2 rfl) ?_
  refine lv_iload_n (pc := 10) hx hb dJ4_checkIndex_10 rfl (lv_at hl 0 rfl) ?_
  refine lv_iload_n (pc := 11) hx hb dJ4_checkIndex_11 rfl (lv_at hl 1 rfl) ?_
  exact jE_f hf
theorem wJ4_checkIndex_0 {r : Int32} (cx : jCx p s m args meth c cJ4_checkIndex "jdk/internal/util/Preconditions" 3 (Option.some Jvm.ClassFile.FieldType.int) D dA H0 hs.2.2.2.2) (e1 : h'.2.2.1 = hs.2.2.1 + mc) (e2 : h'.2.2.2.1 = hs.2.2.2.1 + ms) : ∀ (x0 : Int32) (x1 : Int32) (x2 : Option Nat), ∀ (h : jH) (H : Heap) (locs : List Loc) (cells slots : Nat) (ls : Array Slot), (fJ4_checkIndex x0 x1 x2).1 h = some (r, h') → jS D dA H0 hs h H locs cells slots → lv_has ls 3 [(0, .int x0), (1, .int x1), (2, va_rf x2)] → W p l e { frames := 0, cells := mc, slots := ms, locals := 0 } s m args below meth c H locs cells slots (jQ D dA H0 below s (.returned (some (.int r))) h' mc ms) (F0 m 0 ls []) := by
  have hx := cx.1
  have hb := cx.2.1
  have hown := cx.2.2.2.1
  have hts := cx.2.2.2.2.1
  have hm : h'.2.2.1 ≤ hs.2.2.1 + mc ∧ h'.2.2.2.1 ≤ hs.2.2.2.1 + ms := ⟨Nat.le_of_eq e1, Nat.le_of_eq e2⟩
  intro x0 x1 x2 h H locs cells slots ls hf hS hl
  unfold fJ4_checkIndex at hf
  refine lv_iload_n (pc := 0) hx hb dJ4_checkIndex_0 rfl (lv_at hl 0 rfl) ?_
  refine lv_if_lt (pc := 1) (tgt := 9) hx hb dJ4_checkIndex_1 (by decide) (fun hc => ?_) (fun hc => ?_)
  · have hf := jI_t hf hc
    exact wJ4_checkIndex_9 cx e1 e2 _ _ _ _ _ _ _ _ _ hf hS hl
  · have hf := jI_f hf hc
    refine lv_iload_n (pc := 4) hx hb dJ4_checkIndex_4 rfl (lv_at hl 0 rfl) ?_
    refine lv_iload_n (pc := 5) hx hb dJ4_checkIndex_5 rfl (lv_at hl 1 rfl) ?_
    refine lv_icmp_lt (pc := 6) (tgt := 16) hx hb dJ4_checkIndex_6 (by decide) (fun hc => ?_) (fun hc => ?_)
    · have hf := jI_t hf hc
      refine lv_iload_n (pc := 16) hx hb dJ4_checkIndex_16 rfl (lv_at hl 0 rfl) ?_
      exact j_iret (pc := 17) cx hS hf e1 e2 dJ4_checkIndex_17
    · have hf := jI_f hf hc
      exact wJ4_checkIndex_9 cx e1 e2 _ _ _ _ _ _ _ _ _ hf hS hl
theorem metJ4_checkIndex (l : Launch) (x0 : Int32) (x1 : Int32) (x2 : Option Nat) (h h' : jH) (r : Int32) (hf : (fJ4_checkIndex x0 x1 x2).1 h = some (r, h')) : jMet l yJ4_checkIndex (ws_ yJ4_checkIndex cJ4_checkIndex 3 (Option.some Jvm.ClassFile.FieldType.int)) (0) (0) [.int x0, .int x1, va_rf x2] h h' (.returned (some (.int r))) := by
  refine jStart rfl (jle hf) (by cases x2 <;> exact Nat.le_of_ble_eq_true rfl) ?_
  intro p e s m below meth c D dA H0 mc ms ls cx hnm e1 e2 hS hl
  have hl : lv_has ls 3 [(0, .int x0), (1, .int x1), (2, va_rf x2)] := by cases x2 <;> exact hl
  exact wJ4_checkIndex_0 cx e1 e2 _ _ _ _ _ _ _ _ _ hf hS hl
def fJ4_checkFromToIndex_14 (x0 : Int32) (x1 : Int32) (x2 : Int32) (x3 : Option Nat) : jM Int32 := jE
def fJ4_checkFromToIndex (x0 : Int32) (x1 : Int32) (x2 : Int32) (x3 : Option Nat) : jM Int32 := if x0 < 0 then (fJ4_checkFromToIndex_14 x0 x1 x2 x3) else (if x1 < x0 then (fJ4_checkFromToIndex_14 x0 x1 x2 x3) else (if x1 ≤ x2 then (jR x0) else (fJ4_checkFromToIndex_14 x0 x1 x2 x3)))
theorem wJ4_checkFromToIndex_14 {r : Int32} (cx : jCx p s m args meth c cJ4_checkFromToIndex "jdk/internal/util/Preconditions" 4 (Option.some Jvm.ClassFile.FieldType.int) D dA H0 hs.2.2.2.2) (e1 : h'.2.2.1 = hs.2.2.1 + mc) (e2 : h'.2.2.2.1 = hs.2.2.2.1 + ms) : ∀ (x0 : Int32) (x1 : Int32) (x2 : Int32) (x3 : Option Nat), ∀ (h : jH) (H : Heap) (locs : List Loc) (cells slots : Nat) (ls : Array Slot), (fJ4_checkFromToIndex_14 x0 x1 x2 x3).1 h = some (r, h') → jS D dA H0 hs h H locs cells slots → lv_has ls 4 [(0, .int x0), (1, .int x1), (2, .int x2), (3, va_rf x3)] → W p l e { frames := 0, cells := mc, slots := ms, locals := 0 } s m args below meth c H locs cells slots (jQ D dA H0 below s (.returned (some (.int r))) h' mc ms) (F0 m 14 ls []) := by
  have hx := cx.1
  have hb := cx.2.1
  have hown := cx.2.2.2.1
  have hts := cx.2.2.2.2.1
  have hm : h'.2.2.1 ≤ hs.2.2.1 + mc ∧ h'.2.2.2.1 ≤ hs.2.2.2.1 + ms := ⟨Nat.le_of_eq e1, Nat.le_of_eq e2⟩
  intro x0 x1 x2 x3 h H locs cells slots ls hf hS hl
  unfold fJ4_checkFromToIndex_14 at hf
  refine j_aload_n (pc := 14) (r := x3) hx hb dJ4_checkFromToIndex_14 rfl (lv_at hl 3 rfl) ?_
  refine lv_iload_n (pc := 15) hx hb dJ4_checkFromToIndex_15 rfl (lv_at hl 0 rfl) ?_
  refine lv_iload_n (pc := 16) hx hb dJ4_checkFromToIndex_16 rfl (lv_at hl 1 rfl) ?_
  refine lv_iload_n (pc := 17) hx hb dJ4_checkFromToIndex_17 rfl (lv_at hl 2 rfl) ?_
  exact jE_f hf
theorem wJ4_checkFromToIndex_0 {r : Int32} (cx : jCx p s m args meth c cJ4_checkFromToIndex "jdk/internal/util/Preconditions" 4 (Option.some Jvm.ClassFile.FieldType.int) D dA H0 hs.2.2.2.2) (e1 : h'.2.2.1 = hs.2.2.1 + mc) (e2 : h'.2.2.2.1 = hs.2.2.2.1 + ms) : ∀ (x0 : Int32) (x1 : Int32) (x2 : Int32) (x3 : Option Nat), ∀ (h : jH) (H : Heap) (locs : List Loc) (cells slots : Nat) (ls : Array Slot), (fJ4_checkFromToIndex x0 x1 x2 x3).1 h = some (r, h') → jS D dA H0 hs h H locs cells slots → lv_has ls 4 [(0, .int x0), (1, .int x1), (2, .int x2), (3, va_rf x3)] → W p l e { frames := 0, cells := mc, slots := ms, locals := 0 } s m args below meth c H locs cells slots (jQ D dA H0 below s (.returned (some (.int r))) h' mc ms) (F0 m 0 ls []) := by
  have hx := cx.1
  have hb := cx.2.1
  have hown := cx.2.2.2.1
  have hts := cx.2.2.2.2.1
  have hm : h'.2.2.1 ≤ hs.2.2.1 + mc ∧ h'.2.2.2.1 ≤ hs.2.2.2.1 + ms := ⟨Nat.le_of_eq e1, Nat.le_of_eq e2⟩
  intro x0 x1 x2 x3 h H locs cells slots ls hf hS hl
  unfold fJ4_checkFromToIndex at hf
  refine lv_iload_n (pc := 0) hx hb dJ4_checkFromToIndex_0 rfl (lv_at hl 0 rfl) ?_
  refine lv_if_lt (pc := 1) (tgt := 14) hx hb dJ4_checkFromToIndex_1 (by decide) (fun hc => ?_) (fun hc => ?_)
  · have hf := jI_t hf hc
    exact wJ4_checkFromToIndex_14 cx e1 e2 _ _ _ _ _ _ _ _ _ _ hf hS hl
  · have hf := jI_f hf hc
    refine lv_iload_n (pc := 4) hx hb dJ4_checkFromToIndex_4 rfl (lv_at hl 0 rfl) ?_
    refine lv_iload_n (pc := 5) hx hb dJ4_checkFromToIndex_5 rfl (lv_at hl 1 rfl) ?_
    refine lv_icmp_gt (pc := 6) (tgt := 14) hx hb dJ4_checkFromToIndex_6 (by decide) (fun hc => ?_) (fun hc => ?_)
    · have hf := jI_t hf hc
      exact wJ4_checkFromToIndex_14 cx e1 e2 _ _ _ _ _ _ _ _ _ _ hf hS hl
    · have hf := jI_f hf hc
      refine lv_iload_n (pc := 9) hx hb dJ4_checkFromToIndex_9 rfl (lv_at hl 1 rfl) ?_
      refine lv_iload_n (pc := 10) hx hb dJ4_checkFromToIndex_10 rfl (lv_at hl 2 rfl) ?_
      refine lv_icmp_le (pc := 11) (tgt := 22) hx hb dJ4_checkFromToIndex_11 (by decide) (fun hc => ?_) (fun hc => ?_)
      · have hf := jI_t hf hc
        refine lv_iload_n (pc := 22) hx hb dJ4_checkFromToIndex_22 rfl (lv_at hl 0 rfl) ?_
        exact j_iret (pc := 23) cx hS hf e1 e2 dJ4_checkFromToIndex_23
      · have hf := jI_f hf hc
        exact wJ4_checkFromToIndex_14 cx e1 e2 _ _ _ _ _ _ _ _ _ _ hf hS hl
theorem metJ4_checkFromToIndex (l : Launch) (x0 : Int32) (x1 : Int32) (x2 : Int32) (x3 : Option Nat) (h h' : jH) (r : Int32) (hf : (fJ4_checkFromToIndex x0 x1 x2 x3).1 h = some (r, h')) : jMet l yJ4_checkFromToIndex (ws_ yJ4_checkFromToIndex cJ4_checkFromToIndex 4 (Option.some Jvm.ClassFile.FieldType.int)) (0) (0) [.int x0, .int x1, .int x2, va_rf x3] h h' (.returned (some (.int r))) := by
  refine jStart rfl (jle hf) (by cases x3 <;> exact Nat.le_of_ble_eq_true rfl) ?_
  intro p e s m below meth c D dA H0 mc ms ls cx hnm e1 e2 hS hl
  have hl : lv_has ls 4 [(0, .int x0), (1, .int x1), (2, .int x2), (3, va_rf x3)] := by cases x3 <;> exact hl
  exact wJ4_checkFromToIndex_0 cx e1 e2 _ _ _ _ _ _ _ _ _ _ hf hS hl
def fJ3_checkIndex (x0 : Int32) (x1 : Int32) : jM Int32 := jB (fJ4_checkIndex x0 x1 none) fun y1 => jR y1
theorem wJ3_checkIndex_0 {r : Int32} (cx : jCx p s m args meth c cJ3_checkIndex "java/util/Objects" 2 (Option.some Jvm.ClassFile.FieldType.int) D dA H0 hs.2.2.2.2) (e1 : h'.2.2.1 = hs.2.2.1 + mc) (e2 : h'.2.2.2.1 = hs.2.2.2.1 + ms) : ∀ (x0 : Int32) (x1 : Int32), ∀ (h : jH) (H : Heap) (locs : List Loc) (cells slots : Nat) (ls : Array Slot), (fJ3_checkIndex x0 x1).1 h = some (r, h') → jS D dA H0 hs h H locs cells slots → lv_has ls 2 [(0, .int x0), (1, .int x1)] → W p l e { frames := 1, cells := mc, slots := ms, locals := 22 } s m args below meth c H locs cells slots (jQ D dA H0 below s (.returned (some (.int r))) h' mc ms) (F0 m 0 ls []) := by
  have hx := cx.1
  have hb := cx.2.1
  have hown := cx.2.2.2.1
  have hts := cx.2.2.2.2.1
  have hm : h'.2.2.1 ≤ hs.2.2.1 + mc ∧ h'.2.2.2.1 ≤ hs.2.2.2.1 + ms := ⟨Nat.le_of_eq e1, Nat.le_of_eq e2⟩
  intro x0 x1 h H locs cells slots ls hf hS hl
  unfold fJ3_checkIndex at hf
  refine lv_iload_n (pc := 0) hx hb dJ3_checkIndex_0 rfl (lv_at hl 0 rfl) ?_
  refine lv_iload_n (pc := 1) hx hb dJ3_checkIndex_1 rfl (lv_at hl 1 rfl) ?_
  refine lv_null (pc := 2) hx hb dJ3_checkIndex_2 ?_
  obtain ⟨y1, h1, e9, hf⟩ := jB_some hf
  refine j_callS (pc := 3) (st1 := [.int y1]) (As := [.int x0, .int x1, va_rf none]) (rest := []) cx hS rfl hl.1 hm (metJ4_checkIndex l _ _ _ _ _ _ e9) (jle hf) (lw_S q390 q391 q121 q392) pdJ4_checkIndex rfl rfl (Nat.le_of_ble_eq_true rfl) ⟨Nat.le_of_ble_eq_true rfl, Nat.le_of_ble_eq_true rfl⟩ dJ3_checkIndex_3 rfl (fun H locs cells slots hS => ?_)
  exact j_iret (pc := 6) cx hS hf e1 e2 dJ3_checkIndex_6
theorem metJ3_checkIndex (l : Launch) (x0 : Int32) (x1 : Int32) (h h' : jH) (r : Int32) (hf : (fJ3_checkIndex x0 x1).1 h = some (r, h')) : jMet l yJ3_checkIndex (ws_ yJ3_checkIndex cJ3_checkIndex 2 (Option.some Jvm.ClassFile.FieldType.int)) (1) (22) [.int x0, .int x1] h h' (.returned (some (.int r))) := by
  refine jStart rfl (jle hf) (Nat.le_of_ble_eq_true rfl) ?_
  intro p e s m below meth c D dA H0 mc ms ls cx hnm e1 e2 hS hl
  exact wJ3_checkIndex_0 cx e1 e2 _ _ _ _ _ _ _ _ hf hS hl
def fJ14_hugeLength (x0 : Int32) (x1 : Int32) : jM Int32 := if 0 ≤ (x0 + x1) then (if 2147483639 < (x0 + x1) then (jR (x0 + x1)) else (jR 2147483639)) else (jE)
theorem wJ14_hugeLength_0 {r : Int32} (cx : jCx p s m args meth c cJ14_hugeLength "jdk/internal/util/ArraysSupport" 3 (Option.some Jvm.ClassFile.FieldType.int) D dA H0 hs.2.2.2.2) (e1 : h'.2.2.1 = hs.2.2.1 + mc) (e2 : h'.2.2.2.1 = hs.2.2.2.1 + ms) : ∀ (x0 : Int32) (x1 : Int32), ∀ (h : jH) (H : Heap) (locs : List Loc) (cells slots : Nat) (ls : Array Slot), (fJ14_hugeLength x0 x1).1 h = some (r, h') → jS D dA H0 hs h H locs cells slots → lv_has ls 3 [(0, .int x0), (1, .int x1)] → W p l e { frames := 0, cells := mc, slots := ms, locals := 0 } s m args below meth c H locs cells slots (jQ D dA H0 below s (.returned (some (.int r))) h' mc ms) (F0 m 0 ls []) := by
  have hx := cx.1
  have hb := cx.2.1
  have hown := cx.2.2.2.1
  have hts := cx.2.2.2.2.1
  have hm : h'.2.2.1 ≤ hs.2.2.1 + mc ∧ h'.2.2.2.1 ≤ hs.2.2.2.1 + ms := ⟨Nat.le_of_eq e1, Nat.le_of_eq e2⟩
  intro x0 x1 h H locs cells slots ls hf hS hl
  unfold fJ14_hugeLength at hf
  refine lv_iload_n (pc := 0) hx hb dJ14_hugeLength_0 rfl (lv_at hl 0 rfl) ?_
  refine lv_iload_n (pc := 1) hx hb dJ14_hugeLength_1 rfl (lv_at hl 1 rfl) ?_
  refine lv_iadd (pc := 2) hx hb dJ14_hugeLength_2 ?_
  refine lv_istore_n (pc := 3) (i := 2) (lv' := [(2, .int (x0 + x1)), (0, .int x0), (1, .int x1)]) hx hb dJ14_hugeLength_3 rfl hl (Nat.le_of_ble_eq_true rfl) rfl (fun ls hl => ?_)
  refine lv_iload_n (pc := 4) hx hb dJ14_hugeLength_4 rfl (lv_at hl 0 rfl) ?_
  refine lv_if_ge (pc := 5) (tgt := 49) hx hb dJ14_hugeLength_5 (by decide) (fun hc => ?_) (fun hc => ?_)
  · have hf := jI_t hf hc
    refine lv_iload_n (pc := 49) hx hb dJ14_hugeLength_49 rfl (lv_at hl 0 rfl) ?_
    refine lv_ldc (pc := 50) (v := 2147483639) hx hb hown (hts _ q746) dJ14_hugeLength_50 ?_
    refine lv_icmp_gt (pc := 52) (tgt := 58) hx hb dJ14_hugeLength_52 (by decide) (fun hc => ?_) (fun hc => ?_)
    · have hf := jI_t hf hc
      refine lv_iload_n (pc := 58) hx hb dJ14_hugeLength_58 rfl (lv_at hl 0 rfl) ?_
      exact j_iret (pc := 59) cx hS hf e1 e2 dJ14_hugeLength_59
    · have hf := jI_f hf hc
      refine lv_ldc (pc := 55) (v := 2147483639) hx hb hown (hts _ q746) dJ14_hugeLength_55 ?_
      exact j_iret (pc := 57) cx hS hf e1 e2 dJ14_hugeLength_57
  · have hf := jI_f hf hc
    exact jE_f hf
theorem metJ14_hugeLength (l : Launch) (x0 : Int32) (x1 : Int32) (h h' : jH) (r : Int32) (hf : (fJ14_hugeLength x0 x1).1 h = some (r, h')) : jMet l yJ14_hugeLength (ws_ yJ14_hugeLength cJ14_hugeLength 3 (Option.some Jvm.ClassFile.FieldType.int)) (0) (0) [.int x0, .int x1] h h' (.returned (some (.int r))) := by
  refine jStart rfl (jle hf) (Nat.le_of_ble_eq_true rfl) ?_
  intro p e s m below meth c D dA H0 mc ms ls cx hnm e1 e2 hS hl
  exact wJ14_hugeLength_0 cx e1 e2 _ _ _ _ _ _ _ _ hf hS hl
def fJ14_newLength_21 (x0 : Int32) (x1 : Int32) : jM Int32 := jB (fJ14_hugeLength x0 x1) fun y1 => jR y1
def fJ14_newLength (x0 : Int32) (x1 : Int32) (x2 : Int32) : jM Int32 := if (x0 + (jmax x1 x2)) ≤ 0 then (fJ14_newLength_21 x0 x1) else (if 2147483639 < (x0 + (jmax x1 x2)) then (fJ14_newLength_21 x0 x1) else (jR (x0 + (jmax x1 x2))))
theorem wJ14_newLength_21 {r : Int32} (cx : jCx p s m args meth c cJ14_newLength "jdk/internal/util/ArraysSupport" 4 (Option.some Jvm.ClassFile.FieldType.int) D dA H0 hs.2.2.2.2) (e1 : h'.2.2.1 = hs.2.2.1 + mc) (e2 : h'.2.2.2.1 = hs.2.2.2.1 + ms) : ∀ (x0 : Int32) (x1 : Int32), ∀ (h : jH) (H : Heap) (locs : List Loc) (cells slots : Nat) (ls : Array Slot), (fJ14_newLength_21 x0 x1).1 h = some (r, h') → jS D dA H0 hs h H locs cells slots → lv_has ls 4 [(0, .int x0), (1, .int x1)] → W p l e { frames := 1, cells := mc, slots := ms, locals := 30 } s m args below meth c H locs cells slots (jQ D dA H0 below s (.returned (some (.int r))) h' mc ms) (F0 m 21 ls []) := by
  have hx := cx.1
  have hb := cx.2.1
  have hown := cx.2.2.2.1
  have hts := cx.2.2.2.2.1
  have hm : h'.2.2.1 ≤ hs.2.2.1 + mc ∧ h'.2.2.2.1 ≤ hs.2.2.2.1 + ms := ⟨Nat.le_of_eq e1, Nat.le_of_eq e2⟩
  intro x0 x1 h H locs cells slots ls hf hS hl
  unfold fJ14_newLength_21 at hf
  refine lv_iload_n (pc := 21) hx hb dJ14_newLength_21 rfl (lv_at hl 0 rfl) ?_
  refine lv_iload_n (pc := 22) hx hb dJ14_newLength_22 rfl (lv_at hl 1 rfl) ?_
  obtain ⟨y1, h1, e9, hf⟩ := jB_some hf
  refine j_callS (pc := 23) (st1 := [.int y1]) (As := [.int x0, .int x1]) (rest := []) cx hS rfl hl.1 hm (metJ14_hugeLength l _ _ _ _ _ e9) (jle hf) (lw_S q747 q748 q135 q749) pdJ14_hugeLength rfl rfl (Nat.le_of_ble_eq_true rfl) ⟨Nat.le_of_ble_eq_true rfl, Nat.le_of_ble_eq_true rfl⟩ dJ14_newLength_23 rfl (fun H locs cells slots hS => ?_)
  exact j_iret (pc := 26) cx hS hf e1 e2 dJ14_newLength_26
theorem wJ14_newLength_0 {r : Int32} (cx : jCx p s m args meth c cJ14_newLength "jdk/internal/util/ArraysSupport" 4 (Option.some Jvm.ClassFile.FieldType.int) D dA H0 hs.2.2.2.2) (e1 : h'.2.2.1 = hs.2.2.1 + mc) (e2 : h'.2.2.2.1 = hs.2.2.2.1 + ms) : ∀ (x0 : Int32) (x1 : Int32) (x2 : Int32), ∀ (h : jH) (H : Heap) (locs : List Loc) (cells slots : Nat) (ls : Array Slot), (fJ14_newLength x0 x1 x2).1 h = some (r, h') → jS D dA H0 hs h H locs cells slots → lv_has ls 4 [(0, .int x0), (1, .int x1), (2, .int x2)] → W p l e { frames := 1, cells := mc, slots := ms, locals := 30 } s m args below meth c H locs cells slots (jQ D dA H0 below s (.returned (some (.int r))) h' mc ms) (F0 m 0 ls []) := by
  have hx := cx.1
  have hb := cx.2.1
  have hown := cx.2.2.2.1
  have hts := cx.2.2.2.2.1
  have hm : h'.2.2.1 ≤ hs.2.2.1 + mc ∧ h'.2.2.2.1 ≤ hs.2.2.2.1 + ms := ⟨Nat.le_of_eq e1, Nat.le_of_eq e2⟩
  intro x0 x1 x2 h H locs cells slots ls hf hS hl
  unfold fJ14_newLength at hf
  refine lv_iload_n (pc := 0) hx hb dJ14_newLength_0 rfl (lv_at hl 0 rfl) ?_
  refine lv_iload_n (pc := 1) hx hb dJ14_newLength_1 rfl (lv_at hl 1 rfl) ?_
  refine lv_iload_n (pc := 2) hx hb dJ14_newLength_2 rfl (lv_at hl 2 rfl) ?_
  refine j_max (pc := 3) cx hS hl.1 (jle hf) hm q745 q523 q126 q524 (Nat.le_of_ble_eq_true rfl) (Nat.le_of_ble_eq_true rfl) dJ14_newLength_3 ?_
  refine lv_iadd (pc := 6) hx hb dJ14_newLength_6 ?_
  refine lv_istore_n (pc := 7) (i := 3) (lv' := [(3, .int (x0 + (jmax x1 x2))), (0, .int x0), (1, .int x1), (2, .int x2)]) hx hb dJ14_newLength_7 rfl hl (Nat.le_of_ble_eq_true rfl) rfl (fun ls hl => ?_)
  refine lv_iconst (pc := 8) (v := 0) hx hb dJ14_newLength_8 rfl ?_
  refine lv_iload_n (pc := 9) hx hb dJ14_newLength_9 rfl (lv_at hl 0 rfl) ?_
  refine lv_icmp_ge (pc := 10) (tgt := 21) hx hb dJ14_newLength_10 (by decide) (fun hc => ?_) (fun hc => ?_)
  · have hf := jI_t hf hc
    exact wJ14_newLength_21 cx e1 e2 _ _ _ _ _ _ _ _ hf hS (lv_sub hl [1, 2] rfl)
  · have hf := jI_f hf hc
    refine lv_iload_n (pc := 13) hx hb dJ14_newLength_13 rfl (lv_at hl 0 rfl) ?_
    refine lv_ldc (pc := 14) (v := 2147483639) hx hb hown (hts _ q746) dJ14_newLength_14 ?_
    refine lv_icmp_gt (pc := 16) (tgt := 21) hx hb dJ14_newLength_16 (by decide) (fun hc => ?_) (fun hc => ?_)
    · have hf := jI_t hf hc
      exact wJ14_newLength_21 cx e1 e2 _ _ _ _ _ _ _ _ hf hS (lv_sub hl [1, 2] rfl)
    · have hf := jI_f hf hc
      refine lv_iload_n (pc := 19) hx hb dJ14_newLength_19 rfl (lv_at hl 0 rfl) ?_
      exact j_iret (pc := 20) cx hS hf e1 e2 dJ14_newLength_20
theorem metJ14_newLength (l : Launch) (x0 : Int32) (x1 : Int32) (x2 : Int32) (h h' : jH) (r : Int32) (hf : (fJ14_newLength x0 x1 x2).1 h = some (r, h')) : jMet l yJ14_newLength (ws_ yJ14_newLength cJ14_newLength 4 (Option.some Jvm.ClassFile.FieldType.int)) (1) (30) [.int x0, .int x1, .int x2] h h' (.returned (some (.int r))) := by
  refine jStart rfl (jle hf) (Nat.le_of_ble_eq_true rfl) ?_
  intro p e s m below meth c D dA H0 mc ms ls cx hnm e1 e2 hS hl
  exact wJ14_newLength_0 cx e1 e2 _ _ _ _ _ _ _ _ _ hf hS hl
def fJ15_copyOf_2 (x0 : Option Nat) (x1 : Int32) (x2 : Option Nat) : jM (Option Nat) := jB (jK 55) fun y1 => if x2 = y1 then (jB (jnaR 4 x1) fun q2 => jB (jln x0) fun y3 => jB (jcpR 4 okl_java_lang_Object x0 0 (some q2) 0 (jmin y3 x1)) fun _ => jR (some q2)) else (jE)
theorem wJ15_copyOf_2_0 {r : Option Nat} (cx : jCx p s m args meth c cJ15_copyOf_2 "java/util/Arrays" 4 (Option.some (Jvm.ClassFile.FieldType.array (Jvm.ClassFile.FieldType.object "java/lang/Object"))) D dA H0 hs.2.2.2.2) (e1 : h'.2.2.1 = hs.2.2.1 + mc) (e2 : h'.2.2.2.1 = hs.2.2.2.1 + ms) : ∀ (x0 : Option Nat) (x1 : Int32) (x2 : Option Nat), ∀ (h : jH) (H : Heap) (locs : List Loc) (cells slots : Nat) (ls : Array Slot), (fJ15_copyOf_2 x0 x1 x2).1 h = some (r, h') → jS D dA H0 hs h H locs cells slots → lv_has ls 4 [(0, va_rf x0), (1, .int x1), (2, va_rf x2)] → W p l e { frames := 1, cells := mc, slots := ms, locals := 30 } s m args below meth c H locs cells slots (jQ D dA H0 below s (.returned (some (va_rf r))) h' mc ms) (F0 m 0 ls []) := by
  have hx := cx.1
  have hb := cx.2.1
  have hown := cx.2.2.2.1
  have hts := cx.2.2.2.2.1
  have hm : h'.2.2.1 ≤ hs.2.2.1 + mc ∧ h'.2.2.2.1 ≤ hs.2.2.2.1 + ms := ⟨Nat.le_of_eq e1, Nat.le_of_eq e2⟩
  intro x0 x1 x2 h H locs cells slots ls hf hS hl
  unfold fJ15_copyOf_2 at hf
  refine j_aload_n (pc := 0) (r := x2) hx hb dJ15_copyOf_2_0 rfl (lv_at hl 2 rfl) ?_
  refine j_ldcM (pc := 1) cx hS rfl hf q792 dJ15_copyOf_2_1 (fun y1 hf => ?_)
  refine lv_acmp_ne (pc := 3) (tgt := 13) (rx := x2) (ry := y1) hx hb dJ15_copyOf_2_3 (by decide) (fun hc => ?_) (fun hc => ?_)
  · have hf := jI_f hf hc
    refine j_aload_n (pc := 13) (r := x2) hx hb dJ15_copyOf_2_13 rfl (lv_at hl 2 rfl) ?_
    exact jE_f hf
  · have hf := jI_t hf hc
    refine lv_iload_n (pc := 6) hx hb dJ15_copyOf_2_6 rfl (lv_at hl 1 rfl) ?_
    refine j_naR (pc := 7) cx hS hf rfl q793 q301 dJ15_copyOf_2_7 hm (fun q2 h H cells slots hf hS => ?_)
    refine lv_goto (pc := 10) (tgt := 24) hx hb dJ15_copyOf_2_10 (by decide) ?_
    refine lv_astore_n (pc := 24) (i := 3) (lv' := [(3, .ref q2), (0, va_rf x0), (1, .int x1), (2, va_rf x2)]) hx hb dJ15_copyOf_2_24 rfl hl (Nat.le_of_ble_eq_true rfl) (by cases x2 <;> rfl) (fun ls hl => ?_)
    refine j_aload_n (pc := 25) (r := x0) hx hb dJ15_copyOf_2_25 rfl (lv_at hl 1 rfl) ?_
    refine lv_iconst (pc := 26) (v := 0) hx hb dJ15_copyOf_2_26 rfl ?_
    refine lv_aload_n (pc := 27) hx hb dJ15_copyOf_2_27 rfl (lv_at hl 0 rfl) ?_
    refine lv_iconst (pc := 28) (v := 0) hx hb dJ15_copyOf_2_28 rfl ?_
    refine j_aload_n (pc := 29) (r := x0) hx hb dJ15_copyOf_2_29 rfl (lv_at hl 1 rfl) ?_
    refine j_ln (pc := 30) cx hS hf dJ15_copyOf_2_30 (fun y3 hf => ?_)
    refine lv_iload_n (pc := 31) hx hb dJ15_copyOf_2_31 rfl (lv_at hl 2 rfl) ?_
    refine j_min (pc := 32) cx hS hl.1 (jle hf) hm q794 q526 q126 q527 (Nat.le_of_ble_eq_true rfl) (by simp only [List.map_cons, List.map_nil, List.sum_cons, List.sum_nil, jrfc]; exact Nat.le_of_ble_eq_true rfl) dJ15_copyOf_2_32 ?_
    refine j_cpR (pc := 35) cx hS hl.1 hf rfl ok_java_lang_Object q795 q797 q796 q137 (Nat.le_of_ble_eq_true rfl) (Nat.le_of_ble_eq_true rfl) dJ15_copyOf_2_35 (fun h H locs hf hS => ?_)
    refine lv_aload_n (pc := 38) hx hb dJ15_copyOf_2_38 rfl (lv_at hl 0 rfl) ?_
    exact j_aret (pc := 39) cx hS hf (Or.inr ⟨_, rfl⟩) e1 e2 dJ15_copyOf_2_39
theorem metJ15_copyOf_2 (l : Launch) (x0 : Option Nat) (x1 : Int32) (x2 : Option Nat) (h h' : jH) (r : Option Nat) (hf : (fJ15_copyOf_2 x0 x1 x2).1 h = some (r, h')) : jMet l yJ15_copyOf_2 (ws_ yJ15_copyOf_2 cJ15_copyOf_2 4 (Option.some (Jvm.ClassFile.FieldType.array (Jvm.ClassFile.FieldType.object "java/lang/Object")))) (1) (30) [va_rf x0, .int x1, va_rf x2] h h' (.returned (some (va_rf r))) := by
  refine jStart rfl (jle hf) (by cases x0 <;> cases x2 <;> exact Nat.le_of_ble_eq_true rfl) ?_
  intro p e s m below meth c D dA H0 mc ms ls cx hnm e1 e2 hS hl
  have hl : lv_has ls 4 [(0, va_rf x0), (1, .int x1), (2, va_rf x2)] := by cases x0 <;> cases x2 <;> exact hl
  exact wJ15_copyOf_2_0 cx e1 e2 _ _ _ _ _ _ _ _ _ hf hS hl
def fJ15_copyOf (x0 : Option Nat) (x1 : Int32) : jM (Option Nat) := jB (jgetC x0) fun y1 => jB (fJ15_copyOf_2 x0 x1 y1) fun y2 => jR y2
theorem wJ15_copyOf_0 {r : Option Nat} (cx : jCx p s m args meth c cJ15_copyOf "java/util/Arrays" 2 (Option.some (Jvm.ClassFile.FieldType.array (Jvm.ClassFile.FieldType.object "java/lang/Object"))) D dA H0 hs.2.2.2.2) (e1 : h'.2.2.1 = hs.2.2.1 + mc) (e2 : h'.2.2.2.1 = hs.2.2.2.1 + ms) : ∀ (x0 : Option Nat) (x1 : Int32), ∀ (h : jH) (H : Heap) (locs : List Loc) (cells slots : Nat) (ls : Array Slot), (fJ15_copyOf x0 x1).1 h = some (r, h') → jS D dA H0 hs h H locs cells slots → lv_has ls 2 [(0, va_rf x0), (1, .int x1)] → W p l e { frames := 2, cells := mc, slots := ms, locals := 53 } s m args below meth c H locs cells slots (jQ D dA H0 below s (.returned (some (va_rf r))) h' mc ms) (F0 m 0 ls []) := by
  have hx := cx.1
  have hb := cx.2.1
  have hown := cx.2.2.2.1
  have hts := cx.2.2.2.2.1
  have hm : h'.2.2.1 ≤ hs.2.2.1 + mc ∧ h'.2.2.2.1 ≤ hs.2.2.2.1 + ms := ⟨Nat.le_of_eq e1, Nat.le_of_eq e2⟩
  intro x0 x1 h H locs cells slots ls hf hS hl
  unfold fJ15_copyOf at hf
  refine j_aload_n (pc := 0) (r := x0) hx hb dJ15_copyOf_0 rfl (lv_at hl 0 rfl) ?_
  refine lv_iload_n (pc := 1) hx hb dJ15_copyOf_1 rfl (lv_at hl 1 rfl) ?_
  refine j_aload_n (pc := 2) (r := x0) hx hb dJ15_copyOf_2 rfl (lv_at hl 0 rfl) ?_
  refine j_getC (pc := 3) cx hS rfl hl.1 hf q753 q2359 q2358 q754 q788 (Nat.le_of_ble_eq_true rfl) (by simp only [List.map_cons, List.map_nil, List.sum_cons, List.sum_nil, jrfc]; exact Nat.le_of_ble_eq_true rfl) dJ15_copyOf_3 (fun y1 hf => ?_)
  obtain ⟨y2, h1, e9, hf⟩ := jB_some hf
  refine j_callS (pc := 6) (st1 := [va_rf y2]) (As := [va_rf x0, .int x1, va_rf y1]) (rest := []) cx hS rfl hl.1 hm (metJ15_copyOf_2 l _ _ _ _ _ _ e9) (jle hf) (lw_S q789 q790 q136 q791) pdJ15_copyOf_2 rfl rfl (Nat.le_of_ble_eq_true rfl) ⟨Nat.le_of_ble_eq_true rfl, Nat.le_of_ble_eq_true rfl⟩ dJ15_copyOf_6 rfl (fun H locs cells slots hS => ?_)
  exact j_aret (pc := 9) cx hS hf (Or.inr ⟨_, rfl⟩) e1 e2 dJ15_copyOf_9
theorem metJ15_copyOf (l : Launch) (x0 : Option Nat) (x1 : Int32) (h h' : jH) (r : Option Nat) (hf : (fJ15_copyOf x0 x1).1 h = some (r, h')) : jMet l yJ15_copyOf (ws_ yJ15_copyOf cJ15_copyOf 2 (Option.some (Jvm.ClassFile.FieldType.array (Jvm.ClassFile.FieldType.object "java/lang/Object")))) (2) (53) [va_rf x0, .int x1] h h' (.returned (some (va_rf r))) := by
  refine jStart rfl (jle hf) (by cases x0 <;> exact Nat.le_of_ble_eq_true rfl) ?_
  intro p e s m below meth c D dA H0 mc ms ls cx hnm e1 e2 hS hl
  have hl : lv_has ls 2 [(0, va_rf x0), (1, .int x1)] := by cases x0 <;> exact hl
  exact wJ15_copyOf_0 cx e1 e2 _ _ _ _ _ _ _ _ hf hS hl
def fJ2_init_60 (a0 : Nat) : jM Unit := jR ()
def fJ2_init (a0 : Nat) (x1 : Int32) : jM Unit := jB (fJ1_init a0) fun _ => if x1 ≤ 0 then (if x1 = 0 then (jB (jK 51) fun y2 => jB (jpR [4] 1 (some a0) y2) fun _ => fJ2_init_60 a0) else (jE)) else (jB (jnaR 4 x1) fun q3 => jB (jpR [4] 1 (some a0) (some q3)) fun _ => fJ2_init_60 a0)
theorem wJ2_init_60 {r : Unit} (cx : jCx p s m args meth c cJ2_init "java/util/ArrayList" 2 (Option.none : Option Jvm.ClassFile.FieldType) D dA H0 hs.2.2.2.2) (e1 : h'.2.2.1 = hs.2.2.1 + mc) (e2 : h'.2.2.2.1 = hs.2.2.2.1 + ms) (hin : meth.name = "<init>") (a0 : Nat) : ∀ (h : jH) (H : Heap) (locs : List Loc) (cells slots : Nat) (ls : Array Slot), (fJ2_init_60 a0).1 h = some (r, h') → jS D dA H0 hs h H locs cells slots → lv_has ls 2 [(0, .ref a0)] → W p l e { frames := 3, cells := mc, slots := ms, locals := 60 } s m args below meth c H locs cells slots (jQ D dA H0 below s (.returned none) h' mc ms) (F0 m 60 ls []) := by
  have hx := cx.1
  have hb := cx.2.1
  have hown := cx.2.2.2.1
  have hts := cx.2.2.2.2.1
  have hm : h'.2.2.1 ≤ hs.2.2.1 + mc ∧ h'.2.2.2.1 ≤ hs.2.2.2.1 + ms := ⟨Nat.le_of_eq e1, Nat.le_of_eq e2⟩
  intro h H locs cells slots ls hf hS hl
  unfold fJ2_init_60 at hf
  exact j_vret (pc := 60) cx hS hf e1 e2 dJ2_init_60
theorem wJ2_init_0 {r : Unit} (cx : jCx p s m args meth c cJ2_init "java/util/ArrayList" 2 (Option.none : Option Jvm.ClassFile.FieldType) D dA H0 hs.2.2.2.2) (e1 : h'.2.2.1 = hs.2.2.1 + mc) (e2 : h'.2.2.2.1 = hs.2.2.2.1 + ms) (hin : meth.name = "<init>") (a0 : Nat) : ∀ (x1 : Int32), ∀ (h : jH) (H : Heap) (locs : List Loc) (cells slots : Nat) (ls : Array Slot), (fJ2_init a0 x1).1 h = some (r, h') → jS D dA H0 hs h H locs cells slots → lv_has ls 2 [(0, .ref a0), (1, .int x1)] → W p l e { frames := 3, cells := mc, slots := ms, locals := 60 } s m args below meth c H locs cells slots (jQ D dA H0 below s (.returned none) h' mc ms) (F0 m 0 ls []) := by
  have hx := cx.1
  have hb := cx.2.1
  have hown := cx.2.2.2.1
  have hts := cx.2.2.2.2.1
  have hm : h'.2.2.1 ≤ hs.2.2.1 + mc ∧ h'.2.2.2.1 ≤ hs.2.2.2.1 + ms := ⟨Nat.le_of_eq e1, Nat.le_of_eq e2⟩
  intro x1 h H locs cells slots ls hf hS hl
  unfold fJ2_init at hf
  refine lv_aload_n (pc := 0) hx hb dJ2_init_0 rfl (lv_at hl 0 rfl) ?_
  obtain ⟨_, h1, e9, hf⟩ := jB_some hf
  refine j_callI (pc := 1) (st1 := []) (As := []) (rest := []) cx hS rfl hl.1 hm (metJ1_init l _ _ _ _ e9) (jle hf) rfl q295 q294 q293 q117 pdJ1_init rfl rfl (Nat.le_of_ble_eq_true rfl) ⟨Nat.le_of_ble_eq_true rfl, Nat.le_of_ble_eq_true rfl⟩ dJ2_init_1 rfl (fun H locs cells slots hS => ?_)
  refine lv_iload_n (pc := 4) hx hb dJ2_init_4 rfl (lv_at hl 1 rfl) ?_
  refine lv_if_le (pc := 5) (tgt := 19) hx hb dJ2_init_5 (by decide) (fun hc => ?_) (fun hc => ?_)
  · have hf := jI_t hf hc
    refine lv_iload_n (pc := 19) hx hb dJ2_init_19 rfl (lv_at hl 1 rfl) ?_
    refine lv_if_ne (pc := 20) (tgt := 33) hx hb dJ2_init_20 (by decide) (fun hc => ?_) (fun hc => ?_)
    · have hf := jI_f hf hc
      exact jE_f hf
    · have hf := jI_t hf hc
      refine lv_aload_n (pc := 23) hx hb dJ2_init_23 rfl (lv_at hl 0 rfl) ?_
      refine j_getsR (pc := 24) cx hS rfl hf (List.mem_of_getElem? (i := 0) rfl) rfl q302 dJ2_init_24 (fun y2 hf => ?_)
      refine j_pRa (pc := 27) cx hS hf fp_java_util_ArrayList_elementData (Or.inl rfl) q304 dJ2_init_27 (fun h H locs hf hS => ?_)
      refine lv_goto (pc := 30) (tgt := 60) hx hb dJ2_init_30 (by decide) ?_
      exact wJ2_init_60 cx e1 e2 hin a0 _ _ _ _ _ _ hf hS (lv_sub hl [0] rfl)
  · have hf := jI_f hf hc
    refine lv_aload_n (pc := 8) hx hb dJ2_init_8 rfl (lv_at hl 0 rfl) ?_
    refine lv_iload_n (pc := 9) hx hb dJ2_init_9 rfl (lv_at hl 1 rfl) ?_
    refine j_naR (pc := 10) cx hS hf rfl q300 q301 dJ2_init_10 hm (fun q3 h H cells slots hf hS => ?_)
    refine j_pRa (pc := 13) cx hS hf fp_java_util_ArrayList_elementData (Or.inl rfl) q304 dJ2_init_13 (fun h H locs hf hS => ?_)
    refine lv_goto (pc := 16) (tgt := 60) hx hb dJ2_init_16 (by decide) ?_
    exact wJ2_init_60 cx e1 e2 hin a0 _ _ _ _ _ _ hf hS (lv_sub hl [0] rfl)
theorem metJ2_init (l : Launch) (a0 : Nat) (x1 : Int32) (h h' : jH) (r : Unit) (hf : (fJ2_init a0 x1).1 h = some (r, h')) : jMet l yJ2_init (ws_ yJ2_init cJ2_init 2 (Option.none : Option Jvm.ClassFile.FieldType)) (3) (60) [.ref a0, .int x1] h h' (.returned none) := by
  refine jStart rfl (jle hf) (Nat.le_of_ble_eq_true rfl) ?_
  intro p e s m below meth c D dA H0 mc ms ls cx hnm e1 e2 hS hl
  exact wJ2_init_0 cx e1 e2 hnm a0 _ _ _ _ _ _ _ hf hS hl
def fJ2_size (a0 : Nat) : jM Int32 := jB (jgI [4] 2 (some a0)) fun y1 => jR y1
theorem wJ2_size_0 {r : Int32} (cx : jCx p s m args meth c cJ2_size "java/util/ArrayList" 1 (Option.some Jvm.ClassFile.FieldType.int) D dA H0 hs.2.2.2.2) (e1 : h'.2.2.1 = hs.2.2.1 + mc) (e2 : h'.2.2.2.1 = hs.2.2.2.1 + ms) (a0 : Nat) (hth : jTh hs a0 4) : ∀ (h : jH) (H : Heap) (locs : List Loc) (cells slots : Nat) (ls : Array Slot), (fJ2_size a0).1 h = some (r, h') → jS D dA H0 hs h H locs cells slots → lv_has ls 1 [(0, .ref a0)] → W p l e { frames := 0, cells := mc, slots := ms, locals := 0 } s m args below meth c H locs cells slots (jQ D dA H0 below s (.returned (some (.int r))) h' mc ms) (F0 m 0 ls []) := by
  have hx := cx.1
  have hb := cx.2.1
  have hown := cx.2.2.2.1
  have hts := cx.2.2.2.2.1
  have hm : h'.2.2.1 ≤ hs.2.2.1 + mc ∧ h'.2.2.2.1 ≤ hs.2.2.2.1 + ms := ⟨Nat.le_of_eq e1, Nat.le_of_eq e2⟩
  intro h H locs cells slots ls hf hS hl
  unfold fJ2_size at hf
  refine lv_aload_n (pc := 0) hx hb dJ2_size_0 rfl (lv_at hl 0 rfl) ?_
  refine j_gI (pc := 1) cx hS hf fd_java_util_ArrayList_size q305 dJ2_size_1 (fun y1 hf => ?_)
  exact j_iret (pc := 4) cx hS hf e1 e2 dJ2_size_4
theorem metJ2_size (l : Launch) (a0 : Nat) (h h' : jH) (r : Int32) (hth : jcd h a0 = some 4) (hf : (fJ2_size a0).1 h = some (r, h')) : jMet l yJ2_size (ws_ yJ2_size cJ2_size 1 (Option.some Jvm.ClassFile.FieldType.int)) (0) (0) [.ref a0] h h' (.returned (some (.int r))) := by
  refine jStart rfl (jle hf) (Nat.le_of_ble_eq_true rfl) ?_
  intro p e s m below meth c D dA H0 mc ms ls cx hnm e1 e2 hS hl
  have hth := jTh.mk hS hth
  exact wJ2_size_0 cx e1 e2 a0 hth  _ _ _ _ _ _ hf hS hl
def fJ2_elementData (a0 : Nat) (x1 : Int32) : jM (Option Nat) := jB (jgR [4] 1 (some a0)) fun y1 => jB (jaR 4 y1 x1) fun y2 => jR y2
theorem wJ2_elementData_0 {r : Option Nat} (cx : jCx p s m args meth c cJ2_elementData "java/util/ArrayList" 2 (Option.some (Jvm.ClassFile.FieldType.object "java/lang/Object")) D dA H0 hs.2.2.2.2) (e1 : h'.2.2.1 = hs.2.2.1 + mc) (e2 : h'.2.2.2.1 = hs.2.2.2.1 + ms) (a0 : Nat) (hth : jTh hs a0 4) : ∀ (x1 : Int32), ∀ (h : jH) (H : Heap) (locs : List Loc) (cells slots : Nat) (ls : Array Slot), (fJ2_elementData a0 x1).1 h = some (r, h') → jS D dA H0 hs h H locs cells slots → lv_has ls 2 [(0, .ref a0), (1, .int x1)] → W p l e { frames := 0, cells := mc, slots := ms, locals := 0 } s m args below meth c H locs cells slots (jQ D dA H0 below s (.returned (some (va_rf r))) h' mc ms) (F0 m 0 ls []) := by
  have hx := cx.1
  have hb := cx.2.1
  have hown := cx.2.2.2.1
  have hts := cx.2.2.2.2.1
  have hm : h'.2.2.1 ≤ hs.2.2.1 + mc ∧ h'.2.2.2.1 ≤ hs.2.2.2.1 + ms := ⟨Nat.le_of_eq e1, Nat.le_of_eq e2⟩
  intro x1 h H locs cells slots ls hf hS hl
  unfold fJ2_elementData at hf
  refine lv_aload_n (pc := 0) hx hb dJ2_elementData_0 rfl (lv_at hl 0 rfl) ?_
  refine j_gR (pc := 1) cx hS hf fd_java_util_ArrayList_elementData q304 dJ2_elementData_1 (fun y1 hf => ?_)
  refine lv_iload_n (pc := 4) hx hb dJ2_elementData_4 rfl (lv_at hl 1 rfl) ?_
  refine j_aR (pc := 5) cx hS hf rfl dJ2_elementData_5 (fun y2 hf => ?_)
  exact j_aret (pc := 6) cx hS hf (Or.inl ⟨_, rfl⟩) e1 e2 dJ2_elementData_6
theorem metJ2_elementData (l : Launch) (a0 : Nat) (x1 : Int32) (h h' : jH) (r : Option Nat) (hth : jcd h a0 = some 4) (hf : (fJ2_elementData a0 x1).1 h = some (r, h')) : jMet l yJ2_elementData (ws_ yJ2_elementData cJ2_elementData 2 (Option.some (Jvm.ClassFile.FieldType.object "java/lang/Object"))) (0) (0) [.ref a0, .int x1] h h' (.returned (some (va_rf r))) := by
  refine jStart rfl (jle hf) (Nat.le_of_ble_eq_true rfl) ?_
  intro p e s m below meth c D dA H0 mc ms ls cx hnm e1 e2 hS hl
  have hth := jTh.mk hS hth
  exact wJ2_elementData_0 cx e1 e2 a0 hth _ _ _ _ _ _ _ hf hS hl
def fJ2_get (a0 : Nat) (x1 : Int32) : jM (Option Nat) := jB (jgI [4] 2 (some a0)) fun y1 => jB (fJ3_checkIndex x1 y1) fun y2 => jB (fJ2_elementData a0 x1) fun y3 => jR y3
theorem wJ2_get_0 {r : Option Nat} (cx : jCx p s m args meth c cJ2_get "java/util/ArrayList" 2 (Option.some (Jvm.ClassFile.FieldType.object "java/lang/Object")) D dA H0 hs.2.2.2.2) (e1 : h'.2.2.1 = hs.2.2.1 + mc) (e2 : h'.2.2.2.1 = hs.2.2.2.1 + ms) (a0 : Nat) (hth : jTh hs a0 4) : ∀ (x1 : Int32), ∀ (h : jH) (H : Heap) (locs : List Loc) (cells slots : Nat) (ls : Array Slot), (fJ2_get a0 x1).1 h = some (r, h') → jS D dA H0 hs h H locs cells slots → lv_has ls 2 [(0, .ref a0), (1, .int x1)] → W p l e { frames := 2, cells := mc, slots := ms, locals := 43 } s m args below meth c H locs cells slots (jQ D dA H0 below s (.returned (some (va_rf r))) h' mc ms) (F0 m 0 ls []) := by
  have hx := cx.1
  have hb := cx.2.1
  have hown := cx.2.2.2.1
  have hts := cx.2.2.2.2.1
  have hm : h'.2.2.1 ≤ hs.2.2.1 + mc ∧ h'.2.2.2.1 ≤ hs.2.2.2.1 + ms := ⟨Nat.le_of_eq e1, Nat.le_of_eq e2⟩
  intro x1 h H locs cells slots ls hf hS hl
  unfold fJ2_get at hf
  refine lv_iload_n (pc := 0) hx hb dJ2_get_0 rfl (lv_at hl 1 rfl) ?_
  refine lv_aload_n (pc := 1) hx hb dJ2_get_1 rfl (lv_at hl 0 rfl) ?_
  refine j_gI (pc := 2) cx hS hf fd_java_util_ArrayList_size q305 dJ2_get_2 (fun y1 hf => ?_)
  obtain ⟨y2, h1, e9, hf⟩ := jB_some hf
  refine j_callS (pc := 5) (st1 := [.int y2]) (As := [.int x1, .int y1]) (rest := []) cx hS rfl hl.1 hm (metJ3_checkIndex l _ _ _ _ _ e9) (jle hf) (lw_S q387 q388 q120 q389) pdJ3_checkIndex rfl rfl (Nat.le_of_ble_eq_true rfl) ⟨Nat.le_of_ble_eq_true rfl, Nat.le_of_ble_eq_true rfl⟩ dJ2_get_5 rfl (fun H locs cells slots hS => ?_)
  refine lv_pop (pc := 8) hx hb dJ2_get_8 rfl ?_
  refine lv_aload_n (pc := 9) hx hb dJ2_get_9 rfl (lv_at hl 0 rfl) ?_
  refine lv_iload_n (pc := 10) hx hb dJ2_get_10 rfl (lv_at hl 1 rfl) ?_
  obtain ⟨y3, h1, e9, hf⟩ := jB_some hf
  refine j_callV (pc := 11) (st1 := [va_rf y3]) (As := [.int x1]) (rest := []) cx hS rfl hl.1 hm (metJ2_elementData l _ _ _ _ _ (hth.at hS) e9) (jle hf) (hth.at hS) rfl (lw_V q393 q394 q395 q118 q396) pdJ2_elementData rfl rfl (Nat.le_of_ble_eq_true rfl) ⟨Nat.le_of_ble_eq_true rfl, Nat.le_of_ble_eq_true rfl⟩ dJ2_get_11 rfl (fun H locs cells slots hS => ?_)
  exact j_aret (pc := 14) cx hS hf (Or.inl ⟨_, rfl⟩) e1 e2 dJ2_get_14
theorem metJ2_get (l : Launch) (a0 : Nat) (x1 : Int32) (h h' : jH) (r : Option Nat) (hth : jcd h a0 = some 4) (hf : (fJ2_get a0 x1).1 h = some (r, h')) : jMet l yJ2_get (ws_ yJ2_get cJ2_get 2 (Option.some (Jvm.ClassFile.FieldType.object "java/lang/Object"))) (2) (43) [.ref a0, .int x1] h h' (.returned (some (va_rf r))) := by
  refine jStart rfl (jle hf) (Nat.le_of_ble_eq_true rfl) ?_
  intro p e s m below meth c D dA H0 mc ms ls cx hnm e1 e2 hS hl
  have hth := jTh.mk hS hth
  exact wJ2_get_0 cx e1 e2 a0 hth _ _ _ _ _ _ _ hf hS hl
def fJ2_init_2 (a0 : Nat) : jM Unit := jB (fJ1_init a0) fun _ => jB (jK 52) fun y2 => jB (jpR [4] 1 (some a0) y2) fun _ => jR ()
theorem wJ2_init_2_0 {r : Unit} (cx : jCx p s m args meth c cJ2_init_2 "java/util/ArrayList" 1 (Option.none : Option Jvm.ClassFile.FieldType) D dA H0 hs.2.2.2.2) (e1 : h'.2.2.1 = hs.2.2.1 + mc) (e2 : h'.2.2.2.1 = hs.2.2.2.1 + ms) (hin : meth.name = "<init>") (a0 : Nat) : ∀ (h : jH) (H : Heap) (locs : List Loc) (cells slots : Nat) (ls : Array Slot), (fJ2_init_2 a0).1 h = some (r, h') → jS D dA H0 hs h H locs cells slots → lv_has ls 1 [(0, .ref a0)] → W p l e { frames := 3, cells := mc, slots := ms, locals := 60 } s m args below meth c H locs cells slots (jQ D dA H0 below s (.returned none) h' mc ms) (F0 m 0 ls []) := by
  have hx := cx.1
  have hb := cx.2.1
  have hown := cx.2.2.2.1
  have hts := cx.2.2.2.2.1
  have hm : h'.2.2.1 ≤ hs.2.2.1 + mc ∧ h'.2.2.2.1 ≤ hs.2.2.2.1 + ms := ⟨Nat.le_of_eq e1, Nat.le_of_eq e2⟩
  intro h H locs cells slots ls hf hS hl
  unfold fJ2_init_2 at hf
  refine lv_aload_n (pc := 0) hx hb dJ2_init_2_0 rfl (lv_at hl 0 rfl) ?_
  obtain ⟨_, h1, e9, hf⟩ := jB_some hf
  refine j_callI (pc := 1) (st1 := []) (As := []) (rest := []) cx hS rfl hl.1 hm (metJ1_init l _ _ _ _ e9) (jle hf) rfl q295 q294 q293 q117 pdJ1_init rfl rfl (Nat.le_of_ble_eq_true rfl) ⟨Nat.le_of_ble_eq_true rfl, Nat.le_of_ble_eq_true rfl⟩ dJ2_init_2_1 rfl (fun H locs cells slots hS => ?_)
  refine lv_aload_n (pc := 4) hx hb dJ2_init_2_4 rfl (lv_at hl 0 rfl) ?_
  refine j_getsR (pc := 5) cx hS rfl hf (List.mem_of_getElem? (i := 1) rfl) rfl q403 dJ2_init_2_5 (fun y2 hf => ?_)
  refine j_pRa (pc := 8) cx hS hf fp_java_util_ArrayList_elementData (Or.inl rfl) q304 dJ2_init_2_8 (fun h H locs hf hS => ?_)
  exact j_vret (pc := 11) cx hS hf e1 e2 dJ2_init_2_11
theorem metJ2_init_2 (l : Launch) (a0 : Nat) (h h' : jH) (r : Unit) (hf : (fJ2_init_2 a0).1 h = some (r, h')) : jMet l yJ2_init_2 (ws_ yJ2_init_2 cJ2_init_2 1 (Option.none : Option Jvm.ClassFile.FieldType)) (3) (60) [.ref a0] h h' (.returned none) := by
  refine jStart rfl (jle hf) (Nat.le_of_ble_eq_true rfl) ?_
  intro p e s m below meth c D dA H0 mc ms ls cx hnm e1 e2 hS hl
  exact wJ2_init_2_0 cx e1 e2 hnm a0  _ _ _ _ _ _ hf hS hl
def fJ2_grow_2_20 (a0 : Nat) (x1 : Int32) (x2 : Int32) : jM (Option Nat) := jB (fJ14_newLength x2 (x1 - x2) (x2 >>> (1 &&& 31))) fun y1 => jB (jgR [4] 1 (some a0)) fun y2 => jB (fJ15_copyOf y2 y1) fun y3 => jB (jpR [4] 1 (some a0) y3) fun _ => jR y3
def fJ2_grow_2 (a0 : Nat) (x1 : Int32) : jM (Option Nat) := jB (jgR [4] 1 (some a0)) fun y1 => jB (jln y1) fun y2 => if 0 < y2 then (fJ2_grow_2_20 a0 x1 y2) else (jB (jgR [4] 1 (some a0)) fun y3 => jB (jK 52) fun y4 => if y3 = y4 then (jB (jnaR 4 (jmax 10 x1)) fun q5 => jB (jpR [4] 1 (some a0) (some q5)) fun _ => jR (some q5)) else (fJ2_grow_2_20 a0 x1 y2))
theorem wJ2_grow_2_20 {r : Option Nat} (cx : jCx p s m args meth c cJ2_grow_2 "java/util/ArrayList" 4 (Option.some (Jvm.ClassFile.FieldType.array (Jvm.ClassFile.FieldType.object "java/lang/Object"))) D dA H0 hs.2.2.2.2) (e1 : h'.2.2.1 = hs.2.2.1 + mc) (e2 : h'.2.2.2.1 = hs.2.2.2.1 + ms) (a0 : Nat) (hth : jTh hs a0 4) : ∀ (x1 : Int32) (x2 : Int32), ∀ (h : jH) (H : Heap) (locs : List Loc) (cells slots : Nat) (ls : Array Slot), (fJ2_grow_2_20 a0 x1 x2).1 h = some (r, h') → jS D dA H0 hs h H locs cells slots → lv_has ls 4 [(0, .ref a0), (1, .int x1), (2, .int x2)] → W p l e { frames := 3, cells := mc, slots := ms, locals := 74 } s m args below meth c H locs cells slots (jQ D dA H0 below s (.returned (some (va_rf r))) h' mc ms) (F0 m 20 ls []) := by
  have hx := cx.1
  have hb := cx.2.1
  have hown := cx.2.2.2.1
  have hts := cx.2.2.2.2.1
  have hm : h'.2.2.1 ≤ hs.2.2.1 + mc ∧ h'.2.2.2.1 ≤ hs.2.2.2.1 + ms := ⟨Nat.le_of_eq e1, Nat.le_of_eq e2⟩
  intro x1 x2 h H locs cells slots ls hf hS hl
  unfold fJ2_grow_2_20 at hf
  refine lv_iload_n (pc := 20) hx hb dJ2_grow_2_20 rfl (lv_at hl 2 rfl) ?_
  refine lv_iload_n (pc := 21) hx hb dJ2_grow_2_21 rfl (lv_at hl 1 rfl) ?_
  refine lv_iload_n (pc := 22) hx hb dJ2_grow_2_22 rfl (lv_at hl 2 rfl) ?_
  refine lv_isub (pc := 23) hx hb dJ2_grow_2_23 ?_
  refine lv_iload_n (pc := 24) hx hb dJ2_grow_2_24 rfl (lv_at hl 2 rfl) ?_
  refine lv_iconst (pc := 25) (v := 1) hx hb dJ2_grow_2_25 rfl ?_
  refine lv_ishr (pc := 26) hx hb dJ2_grow_2_26 ?_
  obtain ⟨y1, h1, e9, hf⟩ := jB_some hf
  refine j_callS (pc := 27) (st1 := [.int y1]) (As := [.int x2, .int (x1 - x2), .int (x2 >>> (1 &&& 31))]) (rest := []) cx hS rfl hl.1 hm (metJ14_newLength l _ _ _ _ _ _ e9) (jle hf) (lw_S q742 q743 q135 q744) pdJ14_newLength rfl rfl (Nat.le_of_ble_eq_true rfl) ⟨Nat.le_of_ble_eq_true rfl, Nat.le_of_ble_eq_true rfl⟩ dJ2_grow_2_27 rfl (fun H locs cells slots hS => ?_)
  refine lv_istore_n (pc := 30) (i := 3) (lv' := [(3, .int y1), (0, .ref a0), (1, .int x1), (2, .int x2)]) hx hb dJ2_grow_2_30 rfl hl (Nat.le_of_ble_eq_true rfl) rfl (fun ls hl => ?_)
  refine lv_aload_n (pc := 31) hx hb dJ2_grow_2_31 rfl (lv_at hl 1 rfl) ?_
  refine lv_aload_n (pc := 32) hx hb dJ2_grow_2_32 rfl (lv_at hl 1 rfl) ?_
  refine j_gR (pc := 33) cx hS hf fd_java_util_ArrayList_elementData q304 dJ2_grow_2_33 (fun y2 hf => ?_)
  refine lv_iload_n (pc := 36) hx hb dJ2_grow_2_36 rfl (lv_at hl 0 rfl) ?_
  obtain ⟨y3, h1, e9, hf⟩ := jB_some hf
  refine j_callS (pc := 37) (st1 := [va_rf y3, .ref a0]) (As := [va_rf y2, .int y1]) (rest := [.ref a0]) cx hS rfl hl.1 hm (metJ15_copyOf l _ _ _ _ _ e9) (jle hf) (lw_S q750 q751 q136 q752) pdJ15_copyOf rfl rfl (Nat.le_of_ble_eq_true rfl) ⟨Nat.le_of_ble_eq_true rfl, Nat.le_of_ble_eq_true rfl⟩ dJ2_grow_2_37 rfl (fun H locs cells slots hS => ?_)
  refine lv_dup_x1 (pc := 40) hx hb dJ2_grow_2_40 (jrfc _) rfl ?_
  refine j_pRa (pc := 41) cx hS hf fp_java_util_ArrayList_elementData (Or.inl rfl) q304 dJ2_grow_2_41 (fun h H locs hf hS => ?_)
  exact j_aret (pc := 44) cx hS hf (Or.inr ⟨_, rfl⟩) e1 e2 dJ2_grow_2_44
theorem wJ2_grow_2_0 {r : Option Nat} (cx : jCx p s m args meth c cJ2_grow_2 "java/util/ArrayList" 4 (Option.some (Jvm.ClassFile.FieldType.array (Jvm.ClassFile.FieldType.object "java/lang/Object"))) D dA H0 hs.2.2.2.2) (e1 : h'.2.2.1 = hs.2.2.1 + mc) (e2 : h'.2.2.2.1 = hs.2.2.2.1 + ms) (a0 : Nat) (hth : jTh hs a0 4) : ∀ (x1 : Int32), ∀ (h : jH) (H : Heap) (locs : List Loc) (cells slots : Nat) (ls : Array Slot), (fJ2_grow_2 a0 x1).1 h = some (r, h') → jS D dA H0 hs h H locs cells slots → lv_has ls 4 [(0, .ref a0), (1, .int x1)] → W p l e { frames := 3, cells := mc, slots := ms, locals := 74 } s m args below meth c H locs cells slots (jQ D dA H0 below s (.returned (some (va_rf r))) h' mc ms) (F0 m 0 ls []) := by
  have hx := cx.1
  have hb := cx.2.1
  have hown := cx.2.2.2.1
  have hts := cx.2.2.2.2.1
  have hm : h'.2.2.1 ≤ hs.2.2.1 + mc ∧ h'.2.2.2.1 ≤ hs.2.2.2.1 + ms := ⟨Nat.le_of_eq e1, Nat.le_of_eq e2⟩
  intro x1 h H locs cells slots ls hf hS hl
  unfold fJ2_grow_2 at hf
  refine lv_aload_n (pc := 0) hx hb dJ2_grow_2_0 rfl (lv_at hl 0 rfl) ?_
  refine j_gR (pc := 1) cx hS hf fd_java_util_ArrayList_elementData q304 dJ2_grow_2_1 (fun y1 hf => ?_)
  refine j_ln (pc := 4) cx hS hf dJ2_grow_2_4 (fun y2 hf => ?_)
  refine lv_istore_n (pc := 5) (i := 2) (lv' := [(2, .int y2), (0, .ref a0), (1, .int x1)]) hx hb dJ2_grow_2_5 rfl hl (Nat.le_of_ble_eq_true rfl) rfl (fun ls hl => ?_)
  refine lv_iload_n (pc := 6) hx hb dJ2_grow_2_6 rfl (lv_at hl 0 rfl) ?_
  refine lv_if_gt (pc := 7) (tgt := 20) hx hb dJ2_grow_2_7 (by decide) (fun hc => ?_) (fun hc => ?_)
  · have hf := jI_t hf hc
    exact wJ2_grow_2_20 cx e1 e2 a0 hth _ _ _ _ _ _ _ _ hf hS (lv_sub hl [1, 2, 0] rfl)
  · have hf := jI_f hf hc
    refine lv_aload_n (pc := 10) hx hb dJ2_grow_2_10 rfl (lv_at hl 1 rfl) ?_
    refine j_gR (pc := 11) cx hS hf fd_java_util_ArrayList_elementData q304 dJ2_grow_2_11 (fun y3 hf => ?_)
    refine j_getsR (pc := 14) cx hS rfl hf (List.mem_of_getElem? (i := 1) rfl) rfl q403 dJ2_grow_2_14 (fun y4 hf => ?_)
    refine lv_acmp_eq (pc := 17) (tgt := 45) (rx := y3) (ry := y4) hx hb dJ2_grow_2_17 (by decide) (fun hc => ?_) (fun hc => ?_)
    · have hf := jI_t hf hc
      refine lv_aload_n (pc := 45) hx hb dJ2_grow_2_45 rfl (lv_at hl 1 rfl) ?_
      refine lv_bipush (pc := 46) (v := 10) hx hb dJ2_grow_2_46 rfl ?_
      refine lv_iload_n (pc := 48) hx hb dJ2_grow_2_48 rfl (lv_at hl 2 rfl) ?_
      refine j_max (pc := 49) cx hS hl.1 (jle hf) hm q798 q523 q126 q524 (Nat.le_of_ble_eq_true rfl) (Nat.le_of_ble_eq_true rfl) dJ2_grow_2_49 ?_
      refine j_naR (pc := 52) cx hS hf rfl q300 q301 dJ2_grow_2_52 hm (fun q5 h H cells slots hf hS => ?_)
      refine lv_dup_x1 (pc := 55) hx hb dJ2_grow_2_55 rfl rfl ?_
      refine j_pRa (pc := 56) cx hS hf fp_java_util_ArrayList_elementData (Or.inl rfl) q304 dJ2_grow_2_56 (fun h H locs hf hS => ?_)
      exact j_aret (pc := 59) cx hS hf (Or.inr ⟨_, rfl⟩) e1 e2 dJ2_grow_2_59
    · have hf := jI_f hf hc
      exact wJ2_grow_2_20 cx e1 e2 a0 hth _ _ _ _ _ _ _ _ hf hS (lv_sub hl [1, 2, 0] rfl)
theorem metJ2_grow_2 (l : Launch) (a0 : Nat) (x1 : Int32) (h h' : jH) (r : Option Nat) (hth : jcd h a0 = some 4) (hf : (fJ2_grow_2 a0 x1).1 h = some (r, h')) : jMet l yJ2_grow_2 (ws_ yJ2_grow_2 cJ2_grow_2 4 (Option.some (Jvm.ClassFile.FieldType.array (Jvm.ClassFile.FieldType.object "java/lang/Object")))) (3) (74) [.ref a0, .int x1] h h' (.returned (some (va_rf r))) := by
  refine jStart rfl (jle hf) (Nat.le_of_ble_eq_true rfl) ?_
  intro p e s m below meth c D dA H0 mc ms ls cx hnm e1 e2 hS hl
  have hth := jTh.mk hS hth
  exact wJ2_grow_2_0 cx e1 e2 a0 hth _ _ _ _ _ _ _ hf hS hl
def fJ2_grow (a0 : Nat) : jM (Option Nat) := jB (jgI [4] 2 (some a0)) fun y1 => jB (fJ2_grow_2 a0 (y1 + 1)) fun y2 => jR y2
theorem wJ2_grow_0 {r : Option Nat} (cx : jCx p s m args meth c cJ2_grow "java/util/ArrayList" 1 (Option.some (Jvm.ClassFile.FieldType.array (Jvm.ClassFile.FieldType.object "java/lang/Object"))) D dA H0 hs.2.2.2.2) (e1 : h'.2.2.1 = hs.2.2.1 + mc) (e2 : h'.2.2.2.1 = hs.2.2.2.1 + ms) (a0 : Nat) (hth : jTh hs a0 4) : ∀ (h : jH) (H : Heap) (locs : List Loc) (cells slots : Nat) (ls : Array Slot), (fJ2_grow a0).1 h = some (r, h') → jS D dA H0 hs h H locs cells slots → lv_has ls 1 [(0, .ref a0)] → W p l e { frames := 4, cells := mc, slots := ms, locals := 97 } s m args below meth c H locs cells slots (jQ D dA H0 below s (.returned (some (va_rf r))) h' mc ms) (F0 m 0 ls []) := by
  have hx := cx.1
  have hb := cx.2.1
  have hown := cx.2.2.2.1
  have hts := cx.2.2.2.2.1
  have hm : h'.2.2.1 ≤ hs.2.2.1 + mc ∧ h'.2.2.2.1 ≤ hs.2.2.2.1 + ms := ⟨Nat.le_of_eq e1, Nat.le_of_eq e2⟩
  intro h H locs cells slots ls hf hS hl
  unfold fJ2_grow at hf
  refine lv_aload_n (pc := 0) hx hb dJ2_grow_0 rfl (lv_at hl 0 rfl) ?_
  refine lv_aload_n (pc := 1) hx hb dJ2_grow_1 rfl (lv_at hl 0 rfl) ?_
  refine j_gI (pc := 2) cx hS hf fd_java_util_ArrayList_size q305 dJ2_grow_2 (fun y1 hf => ?_)
  refine lv_iconst (pc := 5) (v := 1) hx hb dJ2_grow_5 rfl ?_
  refine lv_iadd (pc := 6) hx hb dJ2_grow_6 ?_
  obtain ⟨y2, h1, e9, hf⟩ := jB_some hf
  refine j_callV (pc := 7) (st1 := [va_rf y2]) (As := [.int (y1 + 1)]) (rest := []) cx hS rfl hl.1 hm (metJ2_grow_2 l _ _ _ _ _ (hth.at hS) e9) (jle hf) (hth.at hS) rfl (lw_V q738 q740 qs11 q118 q741) pdJ2_grow_2 rfl rfl (Nat.le_of_ble_eq_true rfl) ⟨Nat.le_of_ble_eq_true rfl, Nat.le_of_ble_eq_true rfl⟩ dJ2_grow_7 rfl (fun H locs cells slots hS => ?_)
  exact j_aret (pc := 10) cx hS hf (Or.inr ⟨_, rfl⟩) e1 e2 dJ2_grow_10
theorem metJ2_grow (l : Launch) (a0 : Nat) (h h' : jH) (r : Option Nat) (hth : jcd h a0 = some 4) (hf : (fJ2_grow a0).1 h = some (r, h')) : jMet l yJ2_grow (ws_ yJ2_grow cJ2_grow 1 (Option.some (Jvm.ClassFile.FieldType.array (Jvm.ClassFile.FieldType.object "java/lang/Object")))) (4) (97) [.ref a0] h h' (.returned (some (va_rf r))) := by
  refine jStart rfl (jle hf) (Nat.le_of_ble_eq_true rfl) ?_
  intro p e s m below meth c D dA H0 mc ms ls cx hnm e1 e2 hS hl
  have hth := jTh.mk hS hth
  exact wJ2_grow_0 cx e1 e2 a0 hth  _ _ _ _ _ _ hf hS hl
def fJ2_add_2_11 (a0 : Nat) (x1 : Option Nat) (x2 : Option Nat) (x3 : Int32) : jM Unit := jB (jsR 4 okl_java_lang_Object x2 x3 x1) fun _ => jB (jpI [4] 2 (some a0) (x3 + 1)) fun _ => jR ()
def fJ2_add_2 (a0 : Nat) (x1 : Option Nat) (x2 : Option Nat) (x3 : Int32) : jM Unit := jB (jln x2) fun y1 => if x3 = y1 then (jB (fJ2_grow a0) fun y2 => fJ2_add_2_11 a0 x1 y2 x3) else (fJ2_add_2_11 a0 x1 x2 x3)
theorem wJ2_add_2_11 {r : Unit} (cx : jCx p s m args meth c cJ2_add_2 "java/util/ArrayList" 4 (Option.none : Option Jvm.ClassFile.FieldType) D dA H0 hs.2.2.2.2) (e1 : h'.2.2.1 = hs.2.2.1 + mc) (e2 : h'.2.2.2.1 = hs.2.2.2.1 + ms) (a0 : Nat) (hth : jTh hs a0 4) : ∀ (x1 : Option Nat) (x2 : Option Nat) (x3 : Int32), ∀ (h : jH) (H : Heap) (locs : List Loc) (cells slots : Nat) (ls : Array Slot), (fJ2_add_2_11 a0 x1 x2 x3).1 h = some (r, h') → jS D dA H0 hs h H locs cells slots → lv_has ls 4 [(0, .ref a0), (1, va_rf x1), (2, va_rf x2), (3, .int x3)] → W p l e { frames := 5, cells := mc, slots := ms, locals := 117 } s m args below meth c H locs cells slots (jQ D dA H0 below s (.returned none) h' mc ms) (F0 m 11 ls []) := by
  have hx := cx.1
  have hb := cx.2.1
  have hown := cx.2.2.2.1
  have hts := cx.2.2.2.2.1
  have hm : h'.2.2.1 ≤ hs.2.2.1 + mc ∧ h'.2.2.2.1 ≤ hs.2.2.2.1 + ms := ⟨Nat.le_of_eq e1, Nat.le_of_eq e2⟩
  intro x1 x2 x3 h H locs cells slots ls hf hS hl
  unfold fJ2_add_2_11 at hf
  refine j_aload_n (pc := 11) (r := x2) hx hb dJ2_add_2_11 rfl (lv_at hl 2 rfl) ?_
  refine lv_iload_n (pc := 12) hx hb dJ2_add_2_12 rfl (lv_at hl 3 rfl) ?_
  refine j_aload_n (pc := 13) (r := x1) hx hb dJ2_add_2_13 rfl (lv_at hl 1 rfl) ?_
  refine j_sR (pc := 14) cx hS hf rfl ok_java_lang_Object dJ2_add_2_14 (fun h H locs hf hS => ?_)
  refine lv_aload_n (pc := 15) hx hb dJ2_add_2_15 rfl (lv_at hl 0 rfl) ?_
  refine lv_iload_n (pc := 16) hx hb dJ2_add_2_16 rfl (lv_at hl 3 rfl) ?_
  refine lv_iconst (pc := 17) (v := 1) hx hb dJ2_add_2_17 rfl ?_
  refine lv_iadd (pc := 18) hx hb dJ2_add_2_18 ?_
  refine j_pI (pc := 19) cx hS hf fp_java_util_ArrayList_size (Or.inl rfl) q305 dJ2_add_2_19 (fun h H locs hf hS => ?_)
  exact j_vret (pc := 22) cx hS hf e1 e2 dJ2_add_2_22
theorem wJ2_add_2_0 {r : Unit} (cx : jCx p s m args meth c cJ2_add_2 "java/util/ArrayList" 4 (Option.none : Option Jvm.ClassFile.FieldType) D dA H0 hs.2.2.2.2) (e1 : h'.2.2.1 = hs.2.2.1 + mc) (e2 : h'.2.2.2.1 = hs.2.2.2.1 + ms) (a0 : Nat) (hth : jTh hs a0 4) : ∀ (x1 : Option Nat) (x2 : Option Nat) (x3 : Int32), ∀ (h : jH) (H : Heap) (locs : List Loc) (cells slots : Nat) (ls : Array Slot), (fJ2_add_2 a0 x1 x2 x3).1 h = some (r, h') → jS D dA H0 hs h H locs cells slots → lv_has ls 4 [(0, .ref a0), (1, va_rf x1), (2, va_rf x2), (3, .int x3)] → W p l e { frames := 5, cells := mc, slots := ms, locals := 117 } s m args below meth c H locs cells slots (jQ D dA H0 below s (.returned none) h' mc ms) (F0 m 0 ls []) := by
  have hx := cx.1
  have hb := cx.2.1
  have hown := cx.2.2.2.1
  have hts := cx.2.2.2.2.1
  have hm : h'.2.2.1 ≤ hs.2.2.1 + mc ∧ h'.2.2.2.1 ≤ hs.2.2.2.1 + ms := ⟨Nat.le_of_eq e1, Nat.le_of_eq e2⟩
  intro x1 x2 x3 h H locs cells slots ls hf hS hl
  unfold fJ2_add_2 at hf
  refine lv_iload_n (pc := 0) hx hb dJ2_add_2_0 rfl (lv_at hl 3 rfl) ?_
  refine j_aload_n (pc := 1) (r := x2) hx hb dJ2_add_2_1 rfl (lv_at hl 2 rfl) ?_
  refine j_ln (pc := 2) cx hS hf dJ2_add_2_2 (fun y1 hf => ?_)
  refine lv_icmp_ne (pc := 3) (tgt := 11) hx hb dJ2_add_2_3 (by decide) (fun hc => ?_) (fun hc => ?_)
  · have hf := jI_f hf hc
    exact wJ2_add_2_11 cx e1 e2 a0 hth _ _ _ _ _ _ _ _ _ hf hS hl
  · have hf := jI_t hf hc
    refine lv_aload_n (pc := 6) hx hb dJ2_add_2_6 rfl (lv_at hl 0 rfl) ?_
    obtain ⟨y2, h1, e9, hf⟩ := jB_some hf
    refine j_callV (pc := 7) (st1 := [va_rf y2]) (As := []) (rest := []) cx hS rfl hl.1 hm (metJ2_grow l _ _ _ _ (hth.at hS) e9) (jle hf) (hth.at hS) rfl (lw_V q734 q736 qs10 q118 q737) pdJ2_grow rfl rfl (Nat.le_of_ble_eq_true rfl) ⟨Nat.le_of_ble_eq_true rfl, Nat.le_of_ble_eq_true rfl⟩ dJ2_add_2_7 rfl (fun H locs cells slots hS => ?_)
    refine j_astore_n (pc := 10) (i := 2) (r := y2) (lv' := [(2, va_rf y2), (0, .ref a0), (1, va_rf x1), (3, .int x3)]) hx hb dJ2_add_2_10 rfl hl (Nat.le_of_ble_eq_true rfl) (by cases x1 <;> rfl) (fun ls hl => ?_)
    exact wJ2_add_2_11 cx e1 e2 a0 hth _ _ _ _ _ _ _ _ _ hf hS (lv_sub hl [1, 2, 0, 3] rfl)
theorem metJ2_add_2 (l : Launch) (a0 : Nat) (x1 : Option Nat) (x2 : Option Nat) (x3 : Int32) (h h' : jH) (r : Unit) (hth : jcd h a0 = some 4) (hf : (fJ2_add_2 a0 x1 x2 x3).1 h = some (r, h')) : jMet l yJ2_add_2 (ws_ yJ2_add_2 cJ2_add_2 4 (Option.none : Option Jvm.ClassFile.FieldType)) (5) (117) [.ref a0, va_rf x1, va_rf x2, .int x3] h h' (.returned none) := by
  refine jStart rfl (jle hf) (by cases x1 <;> cases x2 <;> exact Nat.le_of_ble_eq_true rfl) ?_
  intro p e s m below meth c D dA H0 mc ms ls cx hnm e1 e2 hS hl
  have hl : lv_has ls 4 [(0, .ref a0), (1, va_rf x1), (2, va_rf x2), (3, .int x3)] := by cases x1 <;> cases x2 <;> exact hl
  have hth := jTh.mk hS hth
  exact wJ2_add_2_0 cx e1 e2 a0 hth _ _ _ _ _ _ _ _ _ hf hS hl
def fJ2_add (a0 : Nat) (x1 : Option Nat) : jM Int32 := jB (jgI [4] 0 (some a0)) fun y1 => jB (jpI [4] 0 (some a0) (y1 + 1)) fun _ => jB (jgR [4] 1 (some a0)) fun y2 => jB (jgI [4] 2 (some a0)) fun y3 => jB (fJ2_add_2 a0 x1 y2 y3) fun _ => jRn .boolean 1
theorem wJ2_add_0 {r : Int32} (cx : jCx p s m args meth c cJ2_add "java/util/ArrayList" 2 (Option.some Jvm.ClassFile.FieldType.boolean) D dA H0 hs.2.2.2.2) (e1 : h'.2.2.1 = hs.2.2.1 + mc) (e2 : h'.2.2.2.1 = hs.2.2.2.1 + ms) (a0 : Nat) (hth : jTh hs a0 4) : ∀ (x1 : Option Nat), ∀ (h : jH) (H : Heap) (locs : List Loc) (cells slots : Nat) (ls : Array Slot), (fJ2_add a0 x1).1 h = some (r, h') → jS D dA H0 hs h H locs cells slots → lv_has ls 2 [(0, .ref a0), (1, va_rf x1)] → W p l e { frames := 6, cells := mc, slots := ms, locals := 140 } s m args below meth c H locs cells slots (jQ D dA H0 below s (.returned (some (.int r))) h' mc ms) (F0 m 0 ls []) := by
  have hx := cx.1
  have hb := cx.2.1
  have hown := cx.2.2.2.1
  have hts := cx.2.2.2.2.1
  have hm : h'.2.2.1 ≤ hs.2.2.1 + mc ∧ h'.2.2.2.1 ≤ hs.2.2.2.1 + ms := ⟨Nat.le_of_eq e1, Nat.le_of_eq e2⟩
  intro x1 h H locs cells slots ls hf hS hl
  unfold fJ2_add at hf
  refine lv_aload_n (pc := 0) hx hb dJ2_add_0 rfl (lv_at hl 0 rfl) ?_
  refine lv_dup (pc := 1) hx hb dJ2_add_1 rfl ?_
  refine j_gIs (pc := 2) cx hS hf fd_java_util_ArrayList_modCount q308 q307 dJ2_add_2 (fun y1 hf => ?_)
  refine lv_iconst (pc := 5) (v := 1) hx hb dJ2_add_5 rfl ?_
  refine lv_iadd (pc := 6) hx hb dJ2_add_6 ?_
  refine j_pIs (pc := 7) cx hS hf fp_java_util_ArrayList_modCount q308 q307 dJ2_add_7 (fun h H locs hf hS => ?_)
  refine lv_aload_n (pc := 10) hx hb dJ2_add_10 rfl (lv_at hl 0 rfl) ?_
  refine j_aload_n (pc := 11) (r := x1) hx hb dJ2_add_11 rfl (lv_at hl 1 rfl) ?_
  refine lv_aload_n (pc := 12) hx hb dJ2_add_12 rfl (lv_at hl 0 rfl) ?_
  refine j_gR (pc := 13) cx hS hf fd_java_util_ArrayList_elementData q304 dJ2_add_13 (fun y2 hf => ?_)
  refine lv_aload_n (pc := 16) hx hb dJ2_add_16 rfl (lv_at hl 0 rfl) ?_
  refine j_gI (pc := 17) cx hS hf fd_java_util_ArrayList_size q305 dJ2_add_17 (fun y3 hf => ?_)
  obtain ⟨_, h1, e9, hf⟩ := jB_some hf
  refine j_callV (pc := 20) (st1 := []) (As := [va_rf x1, va_rf y2, .int y3]) (rest := []) cx hS rfl hl.1 hm (metJ2_add_2 l _ _ _ _ _ _ _ (hth.at hS) e9) (jle hf) (hth.at hS) rfl (lw_V q730 q732 qs9 q118 q733) pdJ2_add_2 rfl rfl (Nat.le_of_ble_eq_true rfl) ⟨Nat.le_of_ble_eq_true rfl, Nat.le_of_ble_eq_true rfl⟩ dJ2_add_20 rfl (fun H locs cells slots hS => ?_)
  refine lv_iconst (pc := 23) (v := 1) hx hb dJ2_add_23 rfl ?_
  exact j_zret (pc := 24) cx (Or.inl rfl) hS hf e1 e2 dJ2_add_24
theorem metJ2_add (l : Launch) (a0 : Nat) (x1 : Option Nat) (h h' : jH) (r : Int32) (hth : jcd h a0 = some 4) (hf : (fJ2_add a0 x1).1 h = some (r, h')) : jMet l yJ2_add (ws_ yJ2_add cJ2_add 2 (Option.some Jvm.ClassFile.FieldType.boolean)) (6) (140) [.ref a0, va_rf x1] h h' (.returned (some (.int r))) := by
  refine jStart rfl (jle hf) (by cases x1 <;> exact Nat.le_of_ble_eq_true rfl) ?_
  intro p e s m below meth c D dA H0 mc ms ls cx hnm e1 e2 hS hl
  have hl : lv_has ls 2 [(0, .ref a0), (1, va_rf x1)] := by cases x1 <;> exact hl
  have hth := jTh.mk hS hth
  exact wJ2_add_0 cx e1 e2 a0 hth _ _ _ _ _ _ _ hf hS hl
def fJ2_clear_42 (N : Nat) (a0 : Nat) : jM Unit := jR ()
def fJ2_clear_27 (N : Nat) (a0 : Nat) : Nat → Option Nat → Int32 → Int32 → jM Unit
  | 0, _, _, _ => jE
  | n + 1, x1, x2, x3 => if x2 ≤ x3 then (fJ2_clear_42 N a0) else (jB (jsR 4 okl_java_lang_Object x1 x3 none) fun _ => fJ2_clear_27 N a0 n x1 x2 (x3 + 1))
def fJ2_clear (N : Nat) (a0 : Nat) : jM Unit := jB (jgI [4] 0 (some a0)) fun y1 => jB (jpI [4] 0 (some a0) (y1 + 1)) fun _ => jB (jgR [4] 1 (some a0)) fun y2 => jB (jgI [4] 2 (some a0)) fun y3 => jB (jpI [4] 2 (some a0) 0) fun _ => fJ2_clear_27 N a0 N y2 y3 0
theorem wJ2_clear_42 {N : Nat} {r : Unit} (cx : jCx p s m args meth c cJ2_clear "java/util/ArrayList" 4 (Option.none : Option Jvm.ClassFile.FieldType) D dA H0 hs.2.2.2.2) (e1 : h'.2.2.1 = hs.2.2.1 + mc) (e2 : h'.2.2.2.1 = hs.2.2.2.1 + ms) (a0 : Nat) (hth : jTh hs a0 4) : ∀ (h : jH) (H : Heap) (locs : List Loc) (cells slots : Nat) (ls : Array Slot), (fJ2_clear_42 N a0).1 h = some (r, h') → jS D dA H0 hs h H locs cells slots → lv_has ls 4 [(0, .ref a0)] → W p l e { frames := 0, cells := mc, slots := ms, locals := 0 } s m args below meth c H locs cells slots (jQ D dA H0 below s (.returned none) h' mc ms) (F0 m 42 ls []) := by
  have hx := cx.1
  have hb := cx.2.1
  have hown := cx.2.2.2.1
  have hts := cx.2.2.2.2.1
  have hm : h'.2.2.1 ≤ hs.2.2.1 + mc ∧ h'.2.2.2.1 ≤ hs.2.2.2.1 + ms := ⟨Nat.le_of_eq e1, Nat.le_of_eq e2⟩
  intro h H locs cells slots ls hf hS hl
  unfold fJ2_clear_42 at hf
  exact j_vret (pc := 42) cx hS hf e1 e2 dJ2_clear_42
theorem wJ2_clear_27 {N : Nat} {r : Unit} (cx : jCx p s m args meth c cJ2_clear "java/util/ArrayList" 4 (Option.none : Option Jvm.ClassFile.FieldType) D dA H0 hs.2.2.2.2) (e1 : h'.2.2.1 = hs.2.2.1 + mc) (e2 : h'.2.2.2.1 = hs.2.2.2.1 + ms) (a0 : Nat) (hth : jTh hs a0 4) : ∀ (n : Nat) (x1 : Option Nat) (x2 : Int32) (x3 : Int32), ∀ (h : jH) (H : Heap) (locs : List Loc) (cells slots : Nat) (ls : Array Slot), (fJ2_clear_27 N a0 n x1 x2 x3).1 h = some (r, h') → jS D dA H0 hs h H locs cells slots → lv_has ls 4 [(0, .ref a0), (1, va_rf x1), (2, .int x2), (3, .int x3)] → W p l e { frames := 0, cells := mc, slots := ms, locals := 0 } s m args below meth c H locs cells slots (jQ D dA H0 below s (.returned none) h' mc ms) (F0 m 27 ls []) := by
  have hx := cx.1
  have hb := cx.2.1
  have hown := cx.2.2.2.1
  have hts := cx.2.2.2.2.1
  have hm : h'.2.2.1 ≤ hs.2.2.1 + mc ∧ h'.2.2.2.1 ≤ hs.2.2.2.1 + ms := ⟨Nat.le_of_eq e1, Nat.le_of_eq e2⟩
  intro n
  induction n with
  | zero =>
    intro x1 x2 x3 h H locs cells slots ls hf hS hl
    exact jE_f hf
  | succ n ih =>
    intro x1 x2 x3 h H locs cells slots ls hf hS hl
    unfold fJ2_clear_27 at hf
    refine lv_iload_n (pc := 27) hx hb dJ2_clear_27 rfl (lv_at hl 3 rfl) ?_
    refine lv_iload_n (pc := 28) hx hb dJ2_clear_28 rfl (lv_at hl 2 rfl) ?_
    refine lv_icmp_ge (pc := 29) (tgt := 42) hx hb dJ2_clear_29 (by decide) (fun hc => ?_) (fun hc => ?_)
    · have hf := jI_t hf hc
      exact wJ2_clear_42 cx e1 e2 a0 hth _ _ _ _ _ _ hf hS (lv_sub hl [0] rfl)
    · have hf := jI_f hf hc
      refine j_aload_n (pc := 32) (r := x1) hx hb dJ2_clear_32 rfl (lv_at hl 1 rfl) ?_
      refine lv_iload_n (pc := 33) hx hb dJ2_clear_33 rfl (lv_at hl 3 rfl) ?_
      refine lv_null (pc := 34) hx hb dJ2_clear_34 ?_
      refine j_sR (pc := 35) cx hS hf rfl ok_java_lang_Object dJ2_clear_35 (fun h H locs hf hS => ?_)
      refine lv_iinc (pc := 36) (v := (x3 + 1)) (lv' := [(3, .int (x3 + 1)), (0, .ref a0), (1, va_rf x1), (2, .int x2)]) hx hb dJ2_clear_36 hl (k := 3) rfl rfl (Nat.le_of_ble_eq_true rfl) rfl (fun ls hl => ?_)
      refine lv_goto (pc := 39) (tgt := 27) hx hb dJ2_clear_39 (by decide) ?_
      exact ih _ _ _ _ _ _ _ _ _ hf hS (lv_sub hl [1, 2, 3, 0] rfl)
theorem wJ2_clear_0 {N : Nat} {r : Unit} (cx : jCx p s m args meth c cJ2_clear "java/util/ArrayList" 4 (Option.none : Option Jvm.ClassFile.FieldType) D dA H0 hs.2.2.2.2) (e1 : h'.2.2.1 = hs.2.2.1 + mc) (e2 : h'.2.2.2.1 = hs.2.2.2.1 + ms) (a0 : Nat) (hth : jTh hs a0 4) : ∀ (h : jH) (H : Heap) (locs : List Loc) (cells slots : Nat) (ls : Array Slot), (fJ2_clear N a0).1 h = some (r, h') → jS D dA H0 hs h H locs cells slots → lv_has ls 4 [(0, .ref a0)] → W p l e { frames := 0, cells := mc, slots := ms, locals := 0 } s m args below meth c H locs cells slots (jQ D dA H0 below s (.returned none) h' mc ms) (F0 m 0 ls []) := by
  have hx := cx.1
  have hb := cx.2.1
  have hown := cx.2.2.2.1
  have hts := cx.2.2.2.2.1
  have hm : h'.2.2.1 ≤ hs.2.2.1 + mc ∧ h'.2.2.2.1 ≤ hs.2.2.2.1 + ms := ⟨Nat.le_of_eq e1, Nat.le_of_eq e2⟩
  intro h H locs cells slots ls hf hS hl
  unfold fJ2_clear at hf
  refine lv_aload_n (pc := 0) hx hb dJ2_clear_0 rfl (lv_at hl 0 rfl) ?_
  refine lv_dup (pc := 1) hx hb dJ2_clear_1 rfl ?_
  refine j_gIs (pc := 2) cx hS hf fd_java_util_ArrayList_modCount q308 q307 dJ2_clear_2 (fun y1 hf => ?_)
  refine lv_iconst (pc := 5) (v := 1) hx hb dJ2_clear_5 rfl ?_
  refine lv_iadd (pc := 6) hx hb dJ2_clear_6 ?_
  refine j_pIs (pc := 7) cx hS hf fp_java_util_ArrayList_modCount q308 q307 dJ2_clear_7 (fun h H locs hf hS => ?_)
  refine lv_aload_n (pc := 10) hx hb dJ2_clear_10 rfl (lv_at hl 0 rfl) ?_
  refine j_gR (pc := 11) cx hS hf fd_java_util_ArrayList_elementData q304 dJ2_clear_11 (fun y2 hf => ?_)
  refine j_astore_n (pc := 14) (i := 1) (r := y2) (lv' := [(1, va_rf y2), (0, .ref a0)]) hx hb dJ2_clear_14 rfl hl (Nat.le_of_ble_eq_true rfl) rfl (fun ls hl => ?_)
  refine lv_aload_n (pc := 15) hx hb dJ2_clear_15 rfl (lv_at hl 1 rfl) ?_
  refine j_gI (pc := 16) cx hS hf fd_java_util_ArrayList_size q305 dJ2_clear_16 (fun y3 hf => ?_)
  refine lv_istore_n (pc := 19) (i := 2) (lv' := [(2, .int y3), (1, va_rf y2), (0, .ref a0)]) hx hb dJ2_clear_19 rfl hl (Nat.le_of_ble_eq_true rfl) (by cases y2 <;> rfl) (fun ls hl => ?_)
  refine lv_aload_n (pc := 20) hx hb dJ2_clear_20 rfl (lv_at hl 2 rfl) ?_
  refine lv_iconst (pc := 21) (v := 0) hx hb dJ2_clear_21 rfl ?_
  refine lv_dup_x1 (pc := 22) hx hb dJ2_clear_22 rfl rfl ?_
  refine j_pI (pc := 23) cx hS hf fp_java_util_ArrayList_size (Or.inl rfl) q305 dJ2_clear_23 (fun h H locs hf hS => ?_)
  refine lv_istore_n (pc := 26) (i := 3) (lv' := [(3, .int 0), (2, .int y3), (1, va_rf y2), (0, .ref a0)]) hx hb dJ2_clear_26 rfl hl (Nat.le_of_ble_eq_true rfl) rfl (fun ls hl => ?_)
  exact wJ2_clear_27 cx e1 e2 a0 hth N _ _ _ _ _ _ _ _ _ hf hS (lv_sub hl [3, 2, 1, 0] rfl)
theorem metJ2_clear (l : Launch) (N : Nat) (a0 : Nat) (h h' : jH) (r : Unit) (hth : jcd h a0 = some 4) (hf : (fJ2_clear N a0).1 h = some (r, h')) : jMet l yJ2_clear (ws_ yJ2_clear cJ2_clear 4 (Option.none : Option Jvm.ClassFile.FieldType)) (0) (0) [.ref a0] h h' (.returned none) := by
  refine jStart rfl (jle hf) (Nat.le_of_ble_eq_true rfl) ?_
  intro p e s m below meth c D dA H0 mc ms ls cx hnm e1 e2 hS hl
  have hth := jTh.mk hS hth
  exact wJ2_clear_0 cx e1 e2 a0 hth  _ _ _ _ _ _ hf hS hl
def fJ2_fastRemove_34 (a0 : Nat) (x1 : Option Nat) (x3 : Int32) : jM Unit := jB (jpI [4] 2 (some a0) x3) fun _ => jB (jsR 4 okl_java_lang_Object x1 x3 none) fun _ => jR ()
def fJ2_fastRemove (a0 : Nat) (x1 : Option Nat) (x2 : Int32) : jM Unit := jB (jgI [4] 0 (some a0)) fun y1 => jB (jpI [4] 0 (some a0) (y1 + 1)) fun _ => jB (jgI [4] 2 (some a0)) fun y2 => if (y2 - 1) ≤ x2 then (fJ2_fastRemove_34 a0 x1 (y2 - 1)) else (jB (jcpR 4 okl_java_lang_Object x1 (x2 + 1) x1 x2 ((y2 - 1) - x2)) fun _ => fJ2_fastRemove_34 a0 x1 (y2 - 1))
theorem wJ2_fastRemove_34 {r : Unit} (cx : jCx p s m args meth c cJ2_fastRemove "java/util/ArrayList" 4 (Option.none : Option Jvm.ClassFile.FieldType) D dA H0 hs.2.2.2.2) (e1 : h'.2.2.1 = hs.2.2.1 + mc) (e2 : h'.2.2.2.1 = hs.2.2.2.1 + ms) (a0 : Nat) (hth : jTh hs a0 4) : ∀ (x1 : Option Nat) (x3 : Int32), ∀ (h : jH) (H : Heap) (locs : List Loc) (cells slots : Nat) (ls : Array Slot), (fJ2_fastRemove_34 a0 x1 x3).1 h = some (r, h') → jS D dA H0 hs h H locs cells slots → lv_has ls 4 [(0, .ref a0), (1, va_rf x1), (3, .int x3)] → W p l e { frames := 1, cells := mc, slots := ms, locals := 30 } s m args below meth c H locs cells slots (jQ D dA H0 below s (.returned none) h' mc ms) (F0 m 34 ls []) := by
  have hx := cx.1
  have hb := cx.2.1
  have hown := cx.2.2.2.1
  have hts := cx.2.2.2.2.1
  have hm : h'.2.2.1 ≤ hs.2.2.1 + mc ∧ h'.2.2.2.1 ≤ hs.2.2.2.1 + ms := ⟨Nat.le_of_eq e1, Nat.le_of_eq e2⟩
  intro x1 x3 h H locs cells slots ls hf hS hl
  unfold fJ2_fastRemove_34 at hf
  refine j_aload_n (pc := 34) (r := x1) hx hb dJ2_fastRemove_34 rfl (lv_at hl 1 rfl) ?_
  refine lv_aload_n (pc := 35) hx hb dJ2_fastRemove_35 rfl (lv_at hl 0 rfl) ?_
  refine lv_iload_n (pc := 36) hx hb dJ2_fastRemove_36 rfl (lv_at hl 2 rfl) ?_
  refine lv_dup_x1 (pc := 37) hx hb dJ2_fastRemove_37 rfl rfl ?_
  refine j_pI (pc := 38) cx hS hf fp_java_util_ArrayList_size (Or.inl rfl) q305 dJ2_fastRemove_38 (fun h H locs hf hS => ?_)
  refine lv_null (pc := 41) hx hb dJ2_fastRemove_41 ?_
  refine j_sR (pc := 42) cx hS hf rfl ok_java_lang_Object dJ2_fastRemove_42 (fun h H locs hf hS => ?_)
  exact j_vret (pc := 43) cx hS hf e1 e2 dJ2_fastRemove_43
theorem wJ2_fastRemove_0 {r : Unit} (cx : jCx p s m args meth c cJ2_fastRemove "java/util/ArrayList" 4 (Option.none : Option Jvm.ClassFile.FieldType) D dA H0 hs.2.2.2.2) (e1 : h'.2.2.1 = hs.2.2.1 + mc) (e2 : h'.2.2.2.1 = hs.2.2.2.1 + ms) (a0 : Nat) (hth : jTh hs a0 4) : ∀ (x1 : Option Nat) (x2 : Int32), ∀ (h : jH) (H : Heap) (locs : List Loc) (cells slots : Nat) (ls : Array Slot), (fJ2_fastRemove a0 x1 x2).1 h = some (r, h') → jS D dA H0 hs h H locs cells slots → lv_has ls 4 [(0, .ref a0), (1, va_rf x1), (2, .int x2)] → W p l e { frames := 1, cells := mc, slots := ms, locals := 30 } s m args below meth c H locs cells slots (jQ D dA H0 below s (.returned none) h' mc ms) (F0 m 0 ls []) := by
  have hx := cx.1
  have hb := cx.2.1
  have hown := cx.2.2.2.1
  have hts := cx.2.2.2.2.1
  have hm : h'.2.2.1 ≤ hs.2.2.1 + mc ∧ h'.2.2.2.1 ≤ hs.2.2.2.1 + ms := ⟨Nat.le_of_eq e1, Nat.le_of_eq e2⟩
  intro x1 x2 h H locs cells slots ls hf hS hl
  unfold fJ2_fastRemove at hf
  refine lv_aload_n (pc := 0) hx hb dJ2_fastRemove_0 rfl (lv_at hl 0 rfl) ?_
  refine lv_dup (pc := 1) hx hb dJ2_fastRemove_1 rfl ?_
  refine j_gIs (pc := 2) cx hS hf fd_java_util_ArrayList_modCount q308 q307 dJ2_fastRemove_2 (fun y1 hf => ?_)
  refine lv_iconst (pc := 5) (v := 1) hx hb dJ2_fastRemove_5 rfl ?_
  refine lv_iadd (pc := 6) hx hb dJ2_fastRemove_6 ?_
  refine j_pIs (pc := 7) cx hS hf fp_java_util_ArrayList_modCount q308 q307 dJ2_fastRemove_7 (fun h H locs hf hS => ?_)
  refine lv_aload_n (pc := 10) hx hb dJ2_fastRemove_10 rfl (lv_at hl 0 rfl) ?_
  refine j_gI (pc := 11) cx hS hf fd_java_util_ArrayList_size q305 dJ2_fastRemove_11 (fun y2 hf => ?_)
  refine lv_iconst (pc := 14) (v := 1) hx hb dJ2_fastRemove_14 rfl ?_
  refine lv_isub (pc := 15) hx hb dJ2_fastRemove_15 ?_
  refine lv_dup (pc := 16) hx hb dJ2_fastRemove_16 rfl ?_
  refine lv_istore_n (pc := 17) (i := 3) (lv' := [(3, .int (y2 - 1)), (0, .ref a0), (1, va_rf x1), (2, .int x2)]) hx hb dJ2_fastRemove_17 rfl hl (Nat.le_of_ble_eq_true rfl) rfl (fun ls hl => ?_)
  refine lv_iload_n (pc := 18) hx hb dJ2_fastRemove_18 rfl (lv_at hl 3 rfl) ?_
  refine lv_icmp_le (pc := 19) (tgt := 34) hx hb dJ2_fastRemove_19 (by decide) (fun hc => ?_) (fun hc => ?_)
  · have hf := jI_t hf hc
    exact wJ2_fastRemove_34 cx e1 e2 a0 hth _ _ _ _ _ _ _ _ hf hS (lv_sub hl [1, 2, 0] rfl)
  · have hf := jI_f hf hc
    refine j_aload_n (pc := 22) (r := x1) hx hb dJ2_fastRemove_22 rfl (lv_at hl 2 rfl) ?_
    refine lv_iload_n (pc := 23) hx hb dJ2_fastRemove_23 rfl (lv_at hl 3 rfl) ?_
    refine lv_iconst (pc := 24) (v := 1) hx hb dJ2_fastRemove_24 rfl ?_
    refine lv_iadd (pc := 25) hx hb dJ2_fastRemove_25 ?_
    refine j_aload_n (pc := 26) (r := x1) hx hb dJ2_fastRemove_26 rfl (lv_at hl 2 rfl) ?_
    refine lv_iload_n (pc := 27) hx hb dJ2_fastRemove_27 rfl (lv_at hl 3 rfl) ?_
    refine lv_iload_n (pc := 28) hx hb dJ2_fastRemove_28 rfl (lv_at hl 0 rfl) ?_
    refine lv_iload_n (pc := 29) hx hb dJ2_fastRemove_29 rfl (lv_at hl 3 rfl) ?_
    refine lv_isub (pc := 30) hx hb dJ2_fastRemove_30 ?_
    refine j_cpR (pc := 31) cx hS hl.1 hf rfl ok_java_lang_Object q1360 q797 q796 q137 (Nat.le_of_ble_eq_true rfl) (Nat.le_of_ble_eq_true rfl) dJ2_fastRemove_31 (fun h H locs hf hS => ?_)
    exact wJ2_fastRemove_34 cx e1 e2 a0 hth _ _ _ _ _ _ _ _ hf hS (lv_sub hl [1, 2, 0] rfl)
theorem metJ2_fastRemove (l : Launch) (a0 : Nat) (x1 : Option Nat) (x2 : Int32) (h h' : jH) (r : Unit) (hth : jcd h a0 = some 4) (hf : (fJ2_fastRemove a0 x1 x2).1 h = some (r, h')) : jMet l yJ2_fastRemove (ws_ yJ2_fastRemove cJ2_fastRemove 4 (Option.none : Option Jvm.ClassFile.FieldType)) (1) (30) [.ref a0, va_rf x1, .int x2] h h' (.returned none) := by
  refine jStart rfl (jle hf) (by cases x1 <;> exact Nat.le_of_ble_eq_true rfl) ?_
  intro p e s m below meth c D dA H0 mc ms ls cx hnm e1 e2 hS hl
  have hl : lv_has ls 4 [(0, .ref a0), (1, va_rf x1), (2, .int x2)] := by cases x1 <;> exact hl
  have hth := jTh.mk hS hth
  exact wJ2_fastRemove_0 cx e1 e2 a0 hth _ _ _ _ _ _ _ _ hf hS hl
def fJ2_remove (a0 : Nat) (x1 : Int32) : jM (Option Nat) := jB (jgI [4] 2 (some a0)) fun y1 => jB (fJ3_checkIndex x1 y1) fun y2 => jB (jgR [4] 1 (some a0)) fun y3 => jB (jaR 4 y3 x1) fun y4 => jB (fJ2_fastRemove a0 y3 x1) fun _ => jR y4
theorem wJ2_remove_0 {r : Option Nat} (cx : jCx p s m args meth c cJ2_remove "java/util/ArrayList" 4 (Option.some (Jvm.ClassFile.FieldType.object "java/lang/Object")) D dA H0 hs.2.2.2.2) (e1 : h'.2.2.1 = hs.2.2.1 + mc) (e2 : h'.2.2.2.1 = hs.2.2.2.1 + ms) (a0 : Nat) (hth : jTh hs a0 4) : ∀ (x1 : Int32), ∀ (h : jH) (H : Heap) (locs : List Loc) (cells slots : Nat) (ls : Array Slot), (fJ2_remove a0 x1).1 h = some (r, h') → jS D dA H0 hs h H locs cells slots → lv_has ls 4 [(0, .ref a0), (1, .int x1)] → W p l e { frames := 2, cells := mc, slots := ms, locals := 53 } s m args below meth c H locs cells slots (jQ D dA H0 below s (.returned (some (va_rf r))) h' mc ms) (F0 m 0 ls []) := by
  have hx := cx.1
  have hb := cx.2.1
  have hown := cx.2.2.2.1
  have hts := cx.2.2.2.2.1
  have hm : h'.2.2.1 ≤ hs.2.2.1 + mc ∧ h'.2.2.2.1 ≤ hs.2.2.2.1 + ms := ⟨Nat.le_of_eq e1, Nat.le_of_eq e2⟩
  intro x1 h H locs cells slots ls hf hS hl
  unfold fJ2_remove at hf
  refine lv_iload_n (pc := 0) hx hb dJ2_remove_0 rfl (lv_at hl 1 rfl) ?_
  refine lv_aload_n (pc := 1) hx hb dJ2_remove_1 rfl (lv_at hl 0 rfl) ?_
  refine j_gI (pc := 2) cx hS hf fd_java_util_ArrayList_size q305 dJ2_remove_2 (fun y1 hf => ?_)
  obtain ⟨y2, h1, e9, hf⟩ := jB_some hf
  refine j_callS (pc := 5) (st1 := [.int y2]) (As := [.int x1, .int y1]) (rest := []) cx hS rfl hl.1 hm (metJ3_checkIndex l _ _ _ _ _ e9) (jle hf) (lw_S q387 q388 q120 q389) pdJ3_checkIndex rfl rfl (Nat.le_of_ble_eq_true rfl) ⟨Nat.le_of_ble_eq_true rfl, Nat.le_of_ble_eq_true rfl⟩ dJ2_remove_5 rfl (fun H locs cells slots hS => ?_)
  refine lv_pop (pc := 8) hx hb dJ2_remove_8 rfl ?_
  refine lv_aload_n (pc := 9) hx hb dJ2_remove_9 rfl (lv_at hl 0 rfl) ?_
  refine j_gR (pc := 10) cx hS hf fd_java_util_ArrayList_elementData q304 dJ2_remove_10 (fun y3 hf => ?_)
  refine j_astore_n (pc := 13) (i := 2) (r := y3) (lv' := [(2, va_rf y3), (0, .ref a0), (1, .int x1)]) hx hb dJ2_remove_13 rfl hl (Nat.le_of_ble_eq_true rfl) rfl (fun ls hl => ?_)
  refine j_aload_n (pc := 14) (r := y3) hx hb dJ2_remove_14 rfl (lv_at hl 0 rfl) ?_
  refine lv_iload_n (pc := 15) hx hb dJ2_remove_15 rfl (lv_at hl 2 rfl) ?_
  refine j_aR (pc := 16) cx hS hf rfl dJ2_remove_16 (fun y4 hf => ?_)
  refine j_astore_n (pc := 17) (i := 3) (r := y4) (lv' := [(3, va_rf y4), (2, va_rf y3), (0, .ref a0), (1, .int x1)]) hx hb dJ2_remove_17 rfl hl (Nat.le_of_ble_eq_true rfl) (by cases y3 <;> rfl) (fun ls hl => ?_)
  refine lv_aload_n (pc := 18) hx hb dJ2_remove_18 rfl (lv_at hl 2 rfl) ?_
  refine j_aload_n (pc := 19) (r := y3) hx hb dJ2_remove_19 rfl (lv_at hl 1 rfl) ?_
  refine lv_iload_n (pc := 20) hx hb dJ2_remove_20 rfl (lv_at hl 3 rfl) ?_
  obtain ⟨_, h1, e9, hf⟩ := jB_some hf
  refine j_callV (pc := 21) (st1 := []) (As := [va_rf y3, .int x1]) (rest := []) cx hS rfl hl.1 hm (metJ2_fastRemove l _ _ _ _ _ _ (hth.at hS) e9) (jle hf) (hth.at hS) rfl (lw_V q1356 q1358 qs41 q118 q1359) pdJ2_fastRemove rfl rfl (Nat.le_of_ble_eq_true rfl) ⟨Nat.le_of_ble_eq_true rfl, Nat.le_of_ble_eq_true rfl⟩ dJ2_remove_21 rfl (fun H locs cells slots hS => ?_)
  refine j_aload_n (pc := 24) (r := y4) hx hb dJ2_remove_24 rfl (lv_at hl 0 rfl) ?_
  exact j_aret (pc := 25) cx hS hf (Or.inl ⟨_, rfl⟩) e1 e2 dJ2_remove_25
theorem metJ2_remove (l : Launch) (a0 : Nat) (x1 : Int32) (h h' : jH) (r : Option Nat) (hth : jcd h a0 = some 4) (hf : (fJ2_remove a0 x1).1 h = some (r, h')) : jMet l yJ2_remove (ws_ yJ2_remove cJ2_remove 4 (Option.some (Jvm.ClassFile.FieldType.object "java/lang/Object"))) (2) (53) [.ref a0, .int x1] h h' (.returned (some (va_rf r))) := by
  refine jStart rfl (jle hf) (Nat.le_of_ble_eq_true rfl) ?_
  intro p e s m below meth c D dA H0 mc ms ls cx hnm e1 e2 hS hl
  have hth := jTh.mk hS hth
  exact wJ2_remove_0 cx e1 e2 a0 hth _ _ _ _ _ _ _ hf hS hl
def fJ2_isEmpty_12 (a0 : Nat) (v0 : Int32) : jM Int32 := jRn .boolean v0
def fJ2_isEmpty (a0 : Nat) : jM Int32 := jB (jgI [4] 2 (some a0)) fun y1 => if y1 = 0 then (fJ2_isEmpty_12 a0 1) else (fJ2_isEmpty_12 a0 0)
theorem wJ2_isEmpty_12 {r : Int32} (cx : jCx p s m args meth c cJ2_isEmpty "java/util/ArrayList" 1 (Option.some Jvm.ClassFile.FieldType.boolean) D dA H0 hs.2.2.2.2) (e1 : h'.2.2.1 = hs.2.2.1 + mc) (e2 : h'.2.2.2.1 = hs.2.2.2.1 + ms) (a0 : Nat) (hth : jTh hs a0 4) : ∀ (v0 : Int32), ∀ (h : jH) (H : Heap) (locs : List Loc) (cells slots : Nat) (ls : Array Slot), (fJ2_isEmpty_12 a0 v0).1 h = some (r, h') → jS D dA H0 hs h H locs cells slots → lv_has ls 1 [(0, .ref a0)] → W p l e { frames := 0, cells := mc, slots := ms, locals := 0 } s m args below meth c H locs cells slots (jQ D dA H0 below s (.returned (some (.int r))) h' mc ms) (F0 m 12 ls [.int v0]) := by
  have hx := cx.1
  have hb := cx.2.1
  have hown := cx.2.2.2.1
  have hts := cx.2.2.2.2.1
  have hm : h'.2.2.1 ≤ hs.2.2.1 + mc ∧ h'.2.2.2.1 ≤ hs.2.2.2.1 + ms := ⟨Nat.le_of_eq e1, Nat.le_of_eq e2⟩
  intro v0 h H locs cells slots ls hf hS hl
  unfold fJ2_isEmpty_12 at hf
  exact j_zret (pc := 12) cx (Or.inl rfl) hS hf e1 e2 dJ2_isEmpty_12
theorem wJ2_isEmpty_0 {r : Int32} (cx : jCx p s m args meth c cJ2_isEmpty "java/util/ArrayList" 1 (Option.some Jvm.ClassFile.FieldType.boolean) D dA H0 hs.2.2.2.2) (e1 : h'.2.2.1 = hs.2.2.1 + mc) (e2 : h'.2.2.2.1 = hs.2.2.2.1 + ms) (a0 : Nat) (hth : jTh hs a0 4) : ∀ (h : jH) (H : Heap) (locs : List Loc) (cells slots : Nat) (ls : Array Slot), (fJ2_isEmpty a0).1 h = some (r, h') → jS D dA H0 hs h H locs cells slots → lv_has ls 1 [(0, .ref a0)] → W p l e { frames := 0, cells := mc, slots := ms, locals := 0 } s m args below meth c H locs cells slots (jQ D dA H0 below s (.returned (some (.int r))) h' mc ms) (F0 m 0 ls []) := by
  have hx := cx.1
  have hb := cx.2.1
  have hown := cx.2.2.2.1
  have hts := cx.2.2.2.2.1
  have hm : h'.2.2.1 ≤ hs.2.2.1 + mc ∧ h'.2.2.2.1 ≤ hs.2.2.2.1 + ms := ⟨Nat.le_of_eq e1, Nat.le_of_eq e2⟩
  intro h H locs cells slots ls hf hS hl
  unfold fJ2_isEmpty at hf
  refine lv_aload_n (pc := 0) hx hb dJ2_isEmpty_0 rfl (lv_at hl 0 rfl) ?_
  refine j_gI (pc := 1) cx hS hf fd_java_util_ArrayList_size q305 dJ2_isEmpty_1 (fun y1 hf => ?_)
  refine lv_if_ne (pc := 4) (tgt := 11) hx hb dJ2_isEmpty_4 (by decide) (fun hc => ?_) (fun hc => ?_)
  · have hf := jI_f hf hc
    refine lv_iconst (pc := 11) (v := 0) hx hb dJ2_isEmpty_11 rfl ?_
    exact wJ2_isEmpty_12 cx e1 e2 a0 hth _ _ _ _ _ _ _ hf hS hl
  · have hf := jI_t hf hc
    refine lv_iconst (pc := 7) (v := 1) hx hb dJ2_isEmpty_7 rfl ?_
    refine lv_goto (pc := 8) (tgt := 12) hx hb dJ2_isEmpty_8 (by decide) ?_
    exact wJ2_isEmpty_12 cx e1 e2 a0 hth _ _ _ _ _ _ _ hf hS hl
theorem metJ2_isEmpty (l : Launch) (a0 : Nat) (h h' : jH) (r : Int32) (hth : jcd h a0 = some 4) (hf : (fJ2_isEmpty a0).1 h = some (r, h')) : jMet l yJ2_isEmpty (ws_ yJ2_isEmpty cJ2_isEmpty 1 (Option.some Jvm.ClassFile.FieldType.boolean)) (0) (0) [.ref a0] h h' (.returned (some (.int r))) := by
  refine jStart rfl (jle hf) (Nat.le_of_ble_eq_true rfl) ?_
  intro p e s m below meth c D dA H0 mc ms ls cx hnm e1 e2 hS hl
  have hth := jTh.mk hS hth
  exact wJ2_isEmpty_0 cx e1 e2 a0 hth  _ _ _ _ _ _ hf hS hl
def fJ5_isLatin1_18 (a0 : Nat) (v0 : Int32) : jM Int32 := jRn .boolean v0
def fJ5_isLatin1_17 (a0 : Nat) : jM Int32 := fJ5_isLatin1_18 a0 0
def fJ5_isLatin1 (a0 : Nat) : jM Int32 := if (1 : Int32) = 0 then (fJ5_isLatin1_17 a0) else (jB (jgI [33] 1 (some a0)) fun y1 => if y1 = 0 then (fJ5_isLatin1_18 a0 1) else (fJ5_isLatin1_17 a0))
theorem wJ5_isLatin1_18 {r : Int32} (cx : jCx p s m args meth c cJ5_isLatin1 "java/lang/String" 1 (Option.some Jvm.ClassFile.FieldType.boolean) D dA H0 hs.2.2.2.2) (e1 : h'.2.2.1 = hs.2.2.1 + mc) (e2 : h'.2.2.2.1 = hs.2.2.2.1 + ms) (a0 : Nat) (hth : jTh hs a0 33) : ∀ (v0 : Int32), ∀ (h : jH) (H : Heap) (locs : List Loc) (cells slots : Nat) (ls : Array Slot), (fJ5_isLatin1_18 a0 v0).1 h = some (r, h') → jS D dA H0 hs h H locs cells slots → lv_has ls 1 [(0, .ref a0)] → W p l e { frames := 0, cells := mc, slots := ms, locals := 0 } s m args below meth c H locs cells slots (jQ D dA H0 below s (.returned (some (.int r))) h' mc ms) (F0 m 18 ls [.int v0]) := by
  have hx := cx.1
  have hb := cx.2.1
  have hown := cx.2.2.2.1
  have hts := cx.2.2.2.2.1
  have hm : h'.2.2.1 ≤ hs.2.2.1 + mc ∧ h'.2.2.2.1 ≤ hs.2.2.2.1 + ms := ⟨Nat.le_of_eq e1, Nat.le_of_eq e2⟩
  intro v0 h H locs cells slots ls hf hS hl
  unfold fJ5_isLatin1_18 at hf
  exact j_zret (pc := 18) cx (Or.inl rfl) hS hf e1 e2 dJ5_isLatin1_18
theorem wJ5_isLatin1_17 {r : Int32} (cx : jCx p s m args meth c cJ5_isLatin1 "java/lang/String" 1 (Option.some Jvm.ClassFile.FieldType.boolean) D dA H0 hs.2.2.2.2) (e1 : h'.2.2.1 = hs.2.2.1 + mc) (e2 : h'.2.2.2.1 = hs.2.2.2.1 + ms) (a0 : Nat) (hth : jTh hs a0 33) : ∀ (h : jH) (H : Heap) (locs : List Loc) (cells slots : Nat) (ls : Array Slot), (fJ5_isLatin1_17 a0).1 h = some (r, h') → jS D dA H0 hs h H locs cells slots → lv_has ls 1 [(0, .ref a0)] → W p l e { frames := 0, cells := mc, slots := ms, locals := 0 } s m args below meth c H locs cells slots (jQ D dA H0 below s (.returned (some (.int r))) h' mc ms) (F0 m 17 ls []) := by
  have hx := cx.1
  have hb := cx.2.1
  have hown := cx.2.2.2.1
  have hts := cx.2.2.2.2.1
  have hm : h'.2.2.1 ≤ hs.2.2.1 + mc ∧ h'.2.2.2.1 ≤ hs.2.2.2.1 + ms := ⟨Nat.le_of_eq e1, Nat.le_of_eq e2⟩
  intro h H locs cells slots ls hf hS hl
  unfold fJ5_isLatin1_17 at hf
  refine lv_iconst (pc := 17) (v := 0) hx hb dJ5_isLatin1_17 rfl ?_
  exact wJ5_isLatin1_18 cx e1 e2 a0 hth _ _ _ _ _ _ _ hf hS hl
theorem wJ5_isLatin1_0 {r : Int32} (cx : jCx p s m args meth c cJ5_isLatin1 "java/lang/String" 1 (Option.some Jvm.ClassFile.FieldType.boolean) D dA H0 hs.2.2.2.2) (e1 : h'.2.2.1 = hs.2.2.1 + mc) (e2 : h'.2.2.2.1 = hs.2.2.2.1 + ms) (a0 : Nat) (hth : jTh hs a0 33) : ∀ (h : jH) (H : Heap) (locs : List Loc) (cells slots : Nat) (ls : Array Slot), (fJ5_isLatin1 a0).1 h = some (r, h') → jS D dA H0 hs h H locs cells slots → lv_has ls 1 [(0, .ref a0)] → W p l e { frames := 0, cells := mc, slots := ms, locals := 0 } s m args below meth c H locs cells slots (jQ D dA H0 below s (.returned (some (.int r))) h' mc ms) (F0 m 0 ls []) := by
  have hx := cx.1
  have hb := cx.2.1
  have hown := cx.2.2.2.1
  have hts := cx.2.2.2.2.1
  have hm : h'.2.2.1 ≤ hs.2.2.1 + mc ∧ h'.2.2.2.1 ≤ hs.2.2.2.1 + ms := ⟨Nat.le_of_eq e1, Nat.le_of_eq e2⟩
  intro h H locs cells slots ls hf hS hl
  unfold fJ5_isLatin1 at hf
  refine j_gets (pc := 0) (v := .int 1) cx hS (List.mem_of_getElem? (i := 5) rfl) rfl q506 dJ5_isLatin1_0 ?_
  refine lv_if_eq (pc := 3) (tgt := 17) hx hb dJ5_isLatin1_3 (by decide) (fun hc => ?_) (fun hc => ?_)
  · have hf := jI_t hf hc
    exact wJ5_isLatin1_17 cx e1 e2 a0 hth _ _ _ _ _ _ hf hS hl
  · have hf := jI_f hf hc
    refine lv_aload_n (pc := 6) hx hb dJ5_isLatin1_6 rfl (lv_at hl 0 rfl) ?_
    refine j_gI (pc := 7) cx hS hf fd_java_lang_String_coder q2367 dJ5_isLatin1_7 (fun y1 hf => ?_)
    refine lv_if_ne (pc := 10) (tgt := 17) hx hb dJ5_isLatin1_10 (by decide) (fun hc => ?_) (fun hc => ?_)
    · have hf := jI_f hf hc
      exact wJ5_isLatin1_17 cx e1 e2 a0 hth _ _ _ _ _ _ hf hS hl
    · have hf := jI_t hf hc
      refine lv_iconst (pc := 13) (v := 1) hx hb dJ5_isLatin1_13 rfl ?_
      refine lv_goto (pc := 14) (tgt := 18) hx hb dJ5_isLatin1_14 (by decide) ?_
      exact wJ5_isLatin1_18 cx e1 e2 a0 hth _ _ _ _ _ _ _ hf hS hl
theorem metJ5_isLatin1 (l : Launch) (a0 : Nat) (h h' : jH) (r : Int32) (hth : jcd h a0 = some 33) (hf : (fJ5_isLatin1 a0).1 h = some (r, h')) : jMet l yJ5_isLatin1 (ws_ yJ5_isLatin1 cJ5_isLatin1 1 (Option.some Jvm.ClassFile.FieldType.boolean)) (0) (0) [.ref a0] h h' (.returned (some (.int r))) := by
  refine jStart rfl (jle hf) (Nat.le_of_ble_eq_true rfl) ?_
  intro p e s m below meth c D dA H0 mc ms ls cx hnm e1 e2 hS hl
  have hth := jTh.mk hS hth
  exact wJ5_isLatin1_0 cx e1 e2 a0 hth  _ _ _ _ _ _ hf hS hl
def fJ5_coder_14 (a0 : Nat) (v0 : Int32) : jM Int32 := jRn .byte v0
def fJ5_coder (a0 : Nat) : jM Int32 := if (1 : Int32) = 0 then (fJ5_coder_14 a0 1) else (jB (jgI [33] 1 (some a0)) fun y1 => fJ5_coder_14 a0 y1)
theorem wJ5_coder_14 {r : Int32} (cx : jCx p s m args meth c cJ5_coder "java/lang/String" 1 (Option.some Jvm.ClassFile.FieldType.byte) D dA H0 hs.2.2.2.2) (e1 : h'.2.2.1 = hs.2.2.1 + mc) (e2 : h'.2.2.2.1 = hs.2.2.2.1 + ms) (a0 : Nat) (hth : jTh hs a0 33) : ∀ (v0 : Int32), ∀ (h : jH) (H : Heap) (locs : List Loc) (cells slots : Nat) (ls : Array Slot), (fJ5_coder_14 a0 v0).1 h = some (r, h') → jS D dA H0 hs h H locs cells slots → lv_has ls 1 [(0, .ref a0)] → W p l e { frames := 0, cells := mc, slots := ms, locals := 0 } s m args below meth c H locs cells slots (jQ D dA H0 below s (.returned (some (.int r))) h' mc ms) (F0 m 14 ls [.int v0]) := by
  have hx := cx.1
  have hb := cx.2.1
  have hown := cx.2.2.2.1
  have hts := cx.2.2.2.2.1
  have hm : h'.2.2.1 ≤ hs.2.2.1 + mc ∧ h'.2.2.2.1 ≤ hs.2.2.2.1 + ms := ⟨Nat.le_of_eq e1, Nat.le_of_eq e2⟩
  intro v0 h H locs cells slots ls hf hS hl
  unfold fJ5_coder_14 at hf
  exact j_zret (pc := 14) cx (Or.inr (Or.inl rfl)) hS hf e1 e2 dJ5_coder_14
theorem wJ5_coder_0 {r : Int32} (cx : jCx p s m args meth c cJ5_coder "java/lang/String" 1 (Option.some Jvm.ClassFile.FieldType.byte) D dA H0 hs.2.2.2.2) (e1 : h'.2.2.1 = hs.2.2.1 + mc) (e2 : h'.2.2.2.1 = hs.2.2.2.1 + ms) (a0 : Nat) (hth : jTh hs a0 33) : ∀ (h : jH) (H : Heap) (locs : List Loc) (cells slots : Nat) (ls : Array Slot), (fJ5_coder a0).1 h = some (r, h') → jS D dA H0 hs h H locs cells slots → lv_has ls 1 [(0, .ref a0)] → W p l e { frames := 0, cells := mc, slots := ms, locals := 0 } s m args below meth c H locs cells slots (jQ D dA H0 below s (.returned (some (.int r))) h' mc ms) (F0 m 0 ls []) := by
  have hx := cx.1
  have hb := cx.2.1
  have hown := cx.2.2.2.1
  have hts := cx.2.2.2.2.1
  have hm : h'.2.2.1 ≤ hs.2.2.1 + mc ∧ h'.2.2.2.1 ≤ hs.2.2.2.1 + ms := ⟨Nat.le_of_eq e1, Nat.le_of_eq e2⟩
  intro h H locs cells slots ls hf hS hl
  unfold fJ5_coder at hf
  refine j_gets (pc := 0) (v := .int 1) cx hS (List.mem_of_getElem? (i := 5) rfl) rfl q506 dJ5_coder_0 ?_
  refine lv_if_eq (pc := 3) (tgt := 13) hx hb dJ5_coder_3 (by decide) (fun hc => ?_) (fun hc => ?_)
  · have hf := jI_t hf hc
    refine lv_iconst (pc := 13) (v := 1) hx hb dJ5_coder_13 rfl ?_
    exact wJ5_coder_14 cx e1 e2 a0 hth _ _ _ _ _ _ _ hf hS hl
  · have hf := jI_f hf hc
    refine lv_aload_n (pc := 6) hx hb dJ5_coder_6 rfl (lv_at hl 0 rfl) ?_
    refine j_gI (pc := 7) cx hS hf fd_java_lang_String_coder q2367 dJ5_coder_7 (fun y1 hf => ?_)
    refine lv_goto (pc := 10) (tgt := 14) hx hb dJ5_coder_10 (by decide) ?_
    exact wJ5_coder_14 cx e1 e2 a0 hth _ _ _ _ _ _ _ hf hS hl
theorem metJ5_coder (l : Launch) (a0 : Nat) (h h' : jH) (r : Int32) (hth : jcd h a0 = some 33) (hf : (fJ5_coder a0).1 h = some (r, h')) : jMet l yJ5_coder (ws_ yJ5_coder cJ5_coder 1 (Option.some Jvm.ClassFile.FieldType.byte)) (0) (0) [.ref a0] h h' (.returned (some (.int r))) := by
  refine jStart rfl (jle hf) (Nat.le_of_ble_eq_true rfl) ?_
  intro p e s m below meth c D dA H0 mc ms ls cx hnm e1 e2 hS hl
  have hth := jTh.mk hS hth
  exact wJ5_coder_0 cx e1 e2 a0 hth  _ _ _ _ _ _ hf hS hl
def fJ5_length (a0 : Nat) : jM Int32 := jB (jgR [33] 0 (some a0)) fun y1 => jB (jln y1) fun y2 => jB (fJ5_coder a0) fun y3 => jR (y2 >>> (y3 &&& 31))
theorem wJ5_length_0 {r : Int32} (cx : jCx p s m args meth c cJ5_length "java/lang/String" 1 (Option.some Jvm.ClassFile.FieldType.int) D dA H0 hs.2.2.2.2) (e1 : h'.2.2.1 = hs.2.2.1 + mc) (e2 : h'.2.2.2.1 = hs.2.2.2.1 + ms) (a0 : Nat) (hth : jTh hs a0 33) : ∀ (h : jH) (H : Heap) (locs : List Loc) (cells slots : Nat) (ls : Array Slot), (fJ5_length a0).1 h = some (r, h') → jS D dA H0 hs h H locs cells slots → lv_has ls 1 [(0, .ref a0)] → W p l e { frames := 1, cells := mc, slots := ms, locals := 20 } s m args below meth c H locs cells slots (jQ D dA H0 below s (.returned (some (.int r))) h' mc ms) (F0 m 0 ls []) := by
  have hx := cx.1
  have hb := cx.2.1
  have hown := cx.2.2.2.1
  have hts := cx.2.2.2.2.1
  have hm : h'.2.2.1 ≤ hs.2.2.1 + mc ∧ h'.2.2.2.1 ≤ hs.2.2.2.1 + ms := ⟨Nat.le_of_eq e1, Nat.le_of_eq e2⟩
  intro h H locs cells slots ls hf hS hl
  unfold fJ5_length at hf
  refine lv_aload_n (pc := 0) hx hb dJ5_length_0 rfl (lv_at hl 0 rfl) ?_
  refine j_gR (pc := 1) cx hS hf fd_java_lang_String_value q2368 dJ5_length_1 (fun y1 hf => ?_)
  refine j_ln (pc := 4) cx hS hf dJ5_length_4 (fun y2 hf => ?_)
  refine lv_aload_n (pc := 5) hx hb dJ5_length_5 rfl (lv_at hl 0 rfl) ?_
  obtain ⟨y3, h1, e9, hf⟩ := jB_some hf
  refine j_callV (pc := 6) (st1 := [.int y3, .int y2]) (As := []) (rest := [.int y2]) cx hS rfl hl.1 hm (metJ5_coder l _ _ _ _ (hth.at hS) e9) (jle hf) (hth.at hS) rfl (lw_V q512 q513 q514 q124 q515) pdJ5_coder rfl rfl (Nat.le_of_ble_eq_true rfl) ⟨Nat.le_of_ble_eq_true rfl, Nat.le_of_ble_eq_true rfl⟩ dJ5_length_6 rfl (fun H locs cells slots hS => ?_)
  refine lv_ishr (pc := 9) hx hb dJ5_length_9 ?_
  exact j_iret (pc := 10) cx hS hf e1 e2 dJ5_length_10
theorem metJ5_length (l : Launch) (a0 : Nat) (h h' : jH) (r : Int32) (hth : jcd h a0 = some 33) (hf : (fJ5_length a0).1 h = some (r, h')) : jMet l yJ5_length (ws_ yJ5_length cJ5_length 1 (Option.some Jvm.ClassFile.FieldType.int)) (1) (20) [.ref a0] h h' (.returned (some (.int r))) := by
  refine jStart rfl (jle hf) (Nat.le_of_ble_eq_true rfl) ?_
  intro p e s m below meth c D dA H0 mc ms ls cx hnm e1 e2 hS hl
  have hth := jTh.mk hS hth
  exact wJ5_length_0 cx e1 e2 a0 hth  _ _ _ _ _ _ hf hS hl
def fJ6_canEncode_16 (v0 : Int32) : jM Int32 := jRn .boolean v0
def fJ6_canEncode_15 : jM Int32 := fJ6_canEncode_16 0
def fJ6_canEncode (x0 : Int32) : jM Int32 := if x0 < 0 then (fJ6_canEncode_15) else (if 255 < x0 then (fJ6_canEncode_15) else (fJ6_canEncode_16 1))
theorem wJ6_canEncode_16 {r : Int32} (cx : jCx p s m args meth c cJ6_canEncode "java/lang/StringLatin1" 1 (Option.some Jvm.ClassFile.FieldType.boolean) D dA H0 hs.2.2.2.2) (e1 : h'.2.2.1 = hs.2.2.1 + mc) (e2 : h'.2.2.2.1 = hs.2.2.2.1 + ms) : ∀ (v0 : Int32), ∀ (h : jH) (H : Heap) (locs : List Loc) (cells slots : Nat) (ls : Array Slot), (fJ6_canEncode_16 v0).1 h = some (r, h') → jS D dA H0 hs h H locs cells slots → lv_has ls 1 [] → W p l e { frames := 0, cells := mc, slots := ms, locals := 0 } s m args below meth c H locs cells slots (jQ D dA H0 below s (.returned (some (.int r))) h' mc ms) (F0 m 16 ls [.int v0]) := by
  have hx := cx.1
  have hb := cx.2.1
  have hown := cx.2.2.2.1
  have hts := cx.2.2.2.2.1
  have hm : h'.2.2.1 ≤ hs.2.2.1 + mc ∧ h'.2.2.2.1 ≤ hs.2.2.2.1 + ms := ⟨Nat.le_of_eq e1, Nat.le_of_eq e2⟩
  intro v0 h H locs cells slots ls hf hS hl
  unfold fJ6_canEncode_16 at hf
  exact j_zret (pc := 16) cx (Or.inl rfl) hS hf e1 e2 dJ6_canEncode_16
theorem wJ6_canEncode_15 {r : Int32} (cx : jCx p s m args meth c cJ6_canEncode "java/lang/StringLatin1" 1 (Option.some Jvm.ClassFile.FieldType.boolean) D dA H0 hs.2.2.2.2) (e1 : h'.2.2.1 = hs.2.2.1 + mc) (e2 : h'.2.2.2.1 = hs.2.2.2.1 + ms) : ∀ (h : jH) (H : Heap) (locs : List Loc) (cells slots : Nat) (ls : Array Slot), (fJ6_canEncode_15).1 h = some (r, h') → jS D dA H0 hs h H locs cells slots → lv_has ls 1 [] → W p l e { frames := 0, cells := mc, slots := ms, locals := 0 } s m args below meth c H locs cells slots (jQ D dA H0 below s (.returned (some (.int r))) h' mc ms) (F0 m 15 ls []) := by
  have hx := cx.1
  have hb := cx.2.1
  have hown := cx.2.2.2.1
  have hts := cx.2.2.2.2.1
  have hm : h'.2.2.1 ≤ hs.2.2.1 + mc ∧ h'.2.2.2.1 ≤ hs.2.2.2.1 + ms := ⟨Nat.le_of_eq e1, Nat.le_of_eq e2⟩
  intro h H locs cells slots ls hf hS hl
  unfold fJ6_canEncode_15 at hf
  refine lv_iconst (pc := 15) (v := 0) hx hb dJ6_canEncode_15 rfl ?_
  exact wJ6_canEncode_16 cx e1 e2 _ _ _ _ _ _ _ hf hS hl
theorem wJ6_canEncode_0 {r : Int32} (cx : jCx p s m args meth c cJ6_canEncode "java/lang/StringLatin1" 1 (Option.some Jvm.ClassFile.FieldType.boolean) D dA H0 hs.2.2.2.2) (e1 : h'.2.2.1 = hs.2.2.1 + mc) (e2 : h'.2.2.2.1 = hs.2.2.2.1 + ms) : ∀ (x0 : Int32), ∀ (h : jH) (H : Heap) (locs : List Loc) (cells slots : Nat) (ls : Array Slot), (fJ6_canEncode x0).1 h = some (r, h') → jS D dA H0 hs h H locs cells slots → lv_has ls 1 [(0, .int x0)] → W p l e { frames := 0, cells := mc, slots := ms, locals := 0 } s m args below meth c H locs cells slots (jQ D dA H0 below s (.returned (some (.int r))) h' mc ms) (F0 m 0 ls []) := by
  have hx := cx.1
  have hb := cx.2.1
  have hown := cx.2.2.2.1
  have hts := cx.2.2.2.2.1
  have hm : h'.2.2.1 ≤ hs.2.2.1 + mc ∧ h'.2.2.2.1 ≤ hs.2.2.2.1 + ms := ⟨Nat.le_of_eq e1, Nat.le_of_eq e2⟩
  intro x0 h H locs cells slots ls hf hS hl
  unfold fJ6_canEncode at hf
  refine lv_iload_n (pc := 0) hx hb dJ6_canEncode_0 rfl (lv_at hl 0 rfl) ?_
  refine lv_if_lt (pc := 1) (tgt := 15) hx hb dJ6_canEncode_1 (by decide) (fun hc => ?_) (fun hc => ?_)
  · have hf := jI_t hf hc
    exact wJ6_canEncode_15 cx e1 e2 _ _ _ _ _ _ hf hS (lv_sub hl [] rfl)
  · have hf := jI_f hf hc
    refine lv_iload_n (pc := 4) hx hb dJ6_canEncode_4 rfl (lv_at hl 0 rfl) ?_
    refine lv_sipush (pc := 5) (v := 255) hx hb dJ6_canEncode_5 rfl ?_
    refine lv_icmp_gt (pc := 8) (tgt := 15) hx hb dJ6_canEncode_8 (by decide) (fun hc => ?_) (fun hc => ?_)
    · have hf := jI_t hf hc
      exact wJ6_canEncode_15 cx e1 e2 _ _ _ _ _ _ hf hS (lv_sub hl [] rfl)
    · have hf := jI_f hf hc
      refine lv_iconst (pc := 11) (v := 1) hx hb dJ6_canEncode_11 rfl ?_
      refine lv_goto (pc := 12) (tgt := 16) hx hb dJ6_canEncode_12 (by decide) ?_
      exact wJ6_canEncode_16 cx e1 e2 _ _ _ _ _ _ _ hf hS (lv_sub hl [] rfl)
theorem metJ6_canEncode (l : Launch) (x0 : Int32) (h h' : jH) (r : Int32) (hf : (fJ6_canEncode x0).1 h = some (r, h')) : jMet l yJ6_canEncode (ws_ yJ6_canEncode cJ6_canEncode 1 (Option.some Jvm.ClassFile.FieldType.boolean)) (0) (0) [.int x0] h h' (.returned (some (.int r))) := by
  refine jStart rfl (jle hf) (Nat.le_of_ble_eq_true rfl) ?_
  intro p e s m below meth c D dA H0 mc ms ls cx hnm e1 e2 hS hl
  exact wJ6_canEncode_0 cx e1 e2 _ _ _ _ _ _ _ hf hS hl
def fJ6_indexOfChar_31 (N : Nat) : jM Int32 := jR (-1)
def fJ6_indexOfChar_22 (N : Nat) (x5 : Int32) : jM Int32 := jR x5
def fJ6_indexOfChar_7 (N : Nat) : Nat → Option Nat → Int32 → Int32 → Int32 → jM Int32
  | 0, _, _, _, _ => jE
  | n + 1, x0, x3, x4, x5 => if x3 ≤ x5 then (fJ6_indexOfChar_31 N) else (jB (jaI 3 x0 x5) fun y1 => if y1 = x4 then (fJ6_indexOfChar_22 N x5) else (fJ6_indexOfChar_7 N n x0 x3 x4 (x5 + 1)))
def fJ6_indexOfChar (N : Nat) (x0 : Option Nat) (x1 : Int32) (x2 : Int32) (x3 : Int32) : jM Int32 := fJ6_indexOfChar_7 N N x0 x3 (x1.toInt8.toInt32) x2
theorem wJ6_indexOfChar_31 {N : Nat} {r : Int32} (cx : jCx p s m args meth c cJ6_indexOfChar "java/lang/StringLatin1" 6 (Option.some Jvm.ClassFile.FieldType.int) D dA H0 hs.2.2.2.2) (e1 : h'.2.2.1 = hs.2.2.1 + mc) (e2 : h'.2.2.2.1 = hs.2.2.2.1 + ms) : ∀ (h : jH) (H : Heap) (locs : List Loc) (cells slots : Nat) (ls : Array Slot), (fJ6_indexOfChar_31 N).1 h = some (r, h') → jS D dA H0 hs h H locs cells slots → lv_has ls 6 [] → W p l e { frames := 0, cells := mc, slots := ms, locals := 0 } s m args below meth c H locs cells slots (jQ D dA H0 below s (.returned (some (.int r))) h' mc ms) (F0 m 31 ls []) := by
  have hx := cx.1
  have hb := cx.2.1
  have hown := cx.2.2.2.1
  have hts := cx.2.2.2.2.1
  have hm : h'.2.2.1 ≤ hs.2.2.1 + mc ∧ h'.2.2.2.1 ≤ hs.2.2.2.1 + ms := ⟨Nat.le_of_eq e1, Nat.le_of_eq e2⟩
  intro h H locs cells slots ls hf hS hl
  unfold fJ6_indexOfChar_31 at hf
  refine lv_iconst (pc := 31) (v := (-1)) hx hb dJ6_indexOfChar_31 rfl ?_
  exact j_iret (pc := 32) cx hS hf e1 e2 dJ6_indexOfChar_32
theorem wJ6_indexOfChar_22 {N : Nat} {r : Int32} (cx : jCx p s m args meth c cJ6_indexOfChar "java/lang/StringLatin1" 6 (Option.some Jvm.ClassFile.FieldType.int) D dA H0 hs.2.2.2.2) (e1 : h'.2.2.1 = hs.2.2.1 + mc) (e2 : h'.2.2.2.1 = hs.2.2.2.1 + ms) : ∀ (x5 : Int32), ∀ (h : jH) (H : Heap) (locs : List Loc) (cells slots : Nat) (ls : Array Slot), (fJ6_indexOfChar_22 N x5).1 h = some (r, h') → jS D dA H0 hs h H locs cells slots → lv_has ls 6 [(5, .int x5)] → W p l e { frames := 0, cells := mc, slots := ms, locals := 0 } s m args below meth c H locs cells slots (jQ D dA H0 below s (.returned (some (.int r))) h' mc ms) (F0 m 22 ls []) := by
  have hx := cx.1
  have hb := cx.2.1
  have hown := cx.2.2.2.1
  have hts := cx.2.2.2.2.1
  have hm : h'.2.2.1 ≤ hs.2.2.1 + mc ∧ h'.2.2.2.1 ≤ hs.2.2.2.1 + ms := ⟨Nat.le_of_eq e1, Nat.le_of_eq e2⟩
  intro x5 h H locs cells slots ls hf hS hl
  unfold fJ6_indexOfChar_22 at hf
  refine lv_iload (pc := 22) hx hb dJ6_indexOfChar_22 (lv_at hl 0 rfl) ?_
  exact j_iret (pc := 24) cx hS hf e1 e2 dJ6_indexOfChar_24
theorem wJ6_indexOfChar_7 {N : Nat} {r : Int32} (cx : jCx p s m args meth c cJ6_indexOfChar "java/lang/StringLatin1" 6 (Option.some Jvm.ClassFile.FieldType.int) D dA H0 hs.2.2.2.2) (e1 : h'.2.2.1 = hs.2.2.1 + mc) (e2 : h'.2.2.2.1 = hs.2.2.2.1 + ms) : ∀ (n : Nat) (x0 : Option Nat) (x3 : Int32) (x4 : Int32) (x5 : Int32), ∀ (h : jH) (H : Heap) (locs : List Loc) (cells slots : Nat) (ls : Array Slot), (fJ6_indexOfChar_7 N n x0 x3 x4 x5).1 h = some (r, h') → jS D dA H0 hs h H locs cells slots → lv_has ls 6 [(0, va_rf x0), (3, .int x3), (4, .int x4), (5, .int x5)] → W p l e { frames := 0, cells := mc, slots := ms, locals := 0 } s m args below meth c H locs cells slots (jQ D dA H0 below s (.returned (some (.int r))) h' mc ms) (F0 m 7 ls []) := by
  have hx := cx.1
  have hb := cx.2.1
  have hown := cx.2.2.2.1
  have hts := cx.2.2.2.2.1
  have hm : h'.2.2.1 ≤ hs.2.2.1 + mc ∧ h'.2.2.2.1 ≤ hs.2.2.2.1 + ms := ⟨Nat.le_of_eq e1, Nat.le_of_eq e2⟩
  intro n
  induction n with
  | zero =>
    intro x0 x3 x4 x5 h H locs cells slots ls hf hS hl
    exact jE_f hf
  | succ n ih =>
    intro x0 x3 x4 x5 h H locs cells slots ls hf hS hl
    unfold fJ6_indexOfChar_7 at hf
    refine lv_iload (pc := 7) hx hb dJ6_indexOfChar_7 (lv_at hl 3 rfl) ?_
    refine lv_iload_n (pc := 9) hx hb dJ6_indexOfChar_9 rfl (lv_at hl 1 rfl) ?_
    refine lv_icmp_ge (pc := 10) (tgt := 31) hx hb dJ6_indexOfChar_10 (by decide) (fun hc => ?_) (fun hc => ?_)
    · have hf := jI_t hf hc
      exact wJ6_indexOfChar_31 cx e1 e2 _ _ _ _ _ _ hf hS (lv_sub hl [] rfl)
    · have hf := jI_f hf hc
      refine j_aload_n (pc := 13) (r := x0) hx hb dJ6_indexOfChar_13 rfl (lv_at hl 0 rfl) ?_
      refine lv_iload (pc := 14) hx hb dJ6_indexOfChar_14 (lv_at hl 3 rfl) ?_
      refine j_aZ (pc := 16) cx hS hf (Or.inr rfl) dJ6_indexOfChar_16 (fun y1 hf => ?_)
      refine lv_iload (pc := 17) hx hb dJ6_indexOfChar_17 (lv_at hl 2 rfl) ?_
      refine lv_icmp_ne (pc := 19) (tgt := 25) hx hb dJ6_indexOfChar_19 (by decide) (fun hc => ?_) (fun hc => ?_)
      · have hf := jI_f hf hc
        refine lv_iinc (pc := 25) (v := (x5 + 1)) (lv' := [(5, .int (x5 + 1)), (0, va_rf x0), (3, .int x3), (4, .int x4)]) hx hb dJ6_indexOfChar_25 hl (k := 3) rfl rfl (Nat.le_of_ble_eq_true rfl) rfl (fun ls hl => ?_)
        refine lv_goto (pc := 28) (tgt := 7) hx hb dJ6_indexOfChar_28 (by decide) ?_
        exact ih _ _ _ _ _ _ _ _ _ _ hf hS (lv_sub hl [1, 2, 3, 0] rfl)
      · have hf := jI_t hf hc
        exact wJ6_indexOfChar_22 cx e1 e2 _ _ _ _ _ _ _ hf hS (lv_sub hl [3] rfl)
theorem wJ6_indexOfChar_0 {N : Nat} {r : Int32} (cx : jCx p s m args meth c cJ6_indexOfChar "java/lang/StringLatin1" 6 (Option.some Jvm.ClassFile.FieldType.int) D dA H0 hs.2.2.2.2) (e1 : h'.2.2.1 = hs.2.2.1 + mc) (e2 : h'.2.2.2.1 = hs.2.2.2.1 + ms) : ∀ (x0 : Option Nat) (x1 : Int32) (x2 : Int32) (x3 : Int32), ∀ (h : jH) (H : Heap) (locs : List Loc) (cells slots : Nat) (ls : Array Slot), (fJ6_indexOfChar N x0 x1 x2 x3).1 h = some (r, h') → jS D dA H0 hs h H locs cells slots → lv_has ls 6 [(0, va_rf x0), (1, .int x1), (2, .int x2), (3, .int x3)] → W p l e { frames := 0, cells := mc, slots := ms, locals := 0 } s m args below meth c H locs cells slots (jQ D dA H0 below s (.returned (some (.int r))) h' mc ms) (F0 m 0 ls []) := by
  have hx := cx.1
  have hb := cx.2.1
  have hown := cx.2.2.2.1
  have hts := cx.2.2.2.2.1
  have hm : h'.2.2.1 ≤ hs.2.2.1 + mc ∧ h'.2.2.2.1 ≤ hs.2.2.2.1 + ms := ⟨Nat.le_of_eq e1, Nat.le_of_eq e2⟩
  intro x0 x1 x2 x3 h H locs cells slots ls hf hS hl
  unfold fJ6_indexOfChar at hf
  refine lv_iload_n (pc := 0) hx hb dJ6_indexOfChar_0 rfl (lv_at hl 1 rfl) ?_
  refine lv_i2b (pc := 1) (v := x1.toInt8.toInt32) hx hb dJ6_indexOfChar_1 rfl ?_
  refine lv_istore (pc := 2) (i := 4) (lv' := [(4, .int (x1.toInt8.toInt32)), (0, va_rf x0), (1, .int x1), (2, .int x2), (3, .int x3)]) hx hb dJ6_indexOfChar_2 hl (Nat.le_of_ble_eq_true rfl) rfl (fun ls hl => ?_)
  refine lv_iload_n (pc := 4) hx hb dJ6_indexOfChar_4 rfl (lv_at hl 3 rfl) ?_
  refine lv_istore (pc := 5) (i := 5) (lv' := [(5, .int x2), (4, .int (x1.toInt8.toInt32)), (0, va_rf x0), (1, .int x1), (2, .int x2), (3, .int x3)]) hx hb dJ6_indexOfChar_5 hl (Nat.le_of_ble_eq_true rfl) rfl (fun ls hl => ?_)
  exact wJ6_indexOfChar_7 cx e1 e2 N _ _ _ _ _ _ _ _ _ _ hf hS (lv_sub hl [2, 5, 1, 0] rfl)
theorem metJ6_indexOfChar (l : Launch) (N : Nat) (x0 : Option Nat) (x1 : Int32) (x2 : Int32) (x3 : Int32) (h h' : jH) (r : Int32) (hf : (fJ6_indexOfChar N x0 x1 x2 x3).1 h = some (r, h')) : jMet l yJ6_indexOfChar (ws_ yJ6_indexOfChar cJ6_indexOfChar 6 (Option.some Jvm.ClassFile.FieldType.int)) (0) (0) [va_rf x0, .int x1, .int x2, .int x3] h h' (.returned (some (.int r))) := by
  refine jStart rfl (jle hf) (by cases x0 <;> exact Nat.le_of_ble_eq_true rfl) ?_
  intro p e s m below meth c D dA H0 mc ms ls cx hnm e1 e2 hS hl
  have hl : lv_has ls 6 [(0, va_rf x0), (1, .int x1), (2, .int x2), (3, .int x3)] := by cases x0 <;> exact hl
  exact wJ6_indexOfChar_0 cx e1 e2 _ _ _ _ _ _ _ _ _ _ hf hS hl
def fJ6_indexOf (N : Nat) (x0 : Option Nat) (x1 : Int32) (x2 : Int32) (x3 : Int32) : jM Int32 := jB (fJ6_canEncode x1) fun y1 => if y1 = 0 then (jR (-1)) else (jB (jln x0) fun y2 => if (jmax x2 0) < (jmin x3 y2) then (jB (fJ6_indexOfChar N x0 x1 (jmax x2 0) (jmin x3 y2)) fun y3 => jR y3) else (jR (-1)))
theorem wJ6_indexOf_0 {N : Nat} {r : Int32} (cx : jCx p s m args meth c cJ6_indexOf "java/lang/StringLatin1" 4 (Option.some Jvm.ClassFile.FieldType.int) D dA H0 hs.2.2.2.2) (e1 : h'.2.2.1 = hs.2.2.1 + mc) (e2 : h'.2.2.2.1 = hs.2.2.2.1 + ms) : ∀ (x0 : Option Nat) (x1 : Int32) (x2 : Int32) (x3 : Int32), ∀ (h : jH) (H : Heap) (locs : List Loc) (cells slots : Nat) (ls : Array Slot), (fJ6_indexOf N x0 x1 x2 x3).1 h = some (r, h') → jS D dA H0 hs h H locs cells slots → lv_has ls 4 [(0, va_rf x0), (1, .int x1), (2, .int x2), (3, .int x3)] → W p l e { frames := 1, cells := mc, slots := ms, locals := 30 } s m args below meth c H locs cells slots (jQ D dA H0 below s (.returned (some (.int r))) h' mc ms) (F0 m 0 ls []) := by
  have hx := cx.1
  have hb := cx.2.1
  have hown := cx.2.2.2.1
  have hts := cx.2.2.2.2.1
  have hm : h'.2.2.1 ≤ hs.2.2.1 + mc ∧ h'.2.2.2.1 ≤ hs.2.2.2.1 + ms := ⟨Nat.le_of_eq e1, Nat.le_of_eq e2⟩
  intro x0 x1 x2 x3 h H locs cells slots ls hf hS hl
  unfold fJ6_indexOf at hf
  refine lv_iload_n (pc := 0) hx hb dJ6_indexOf_0 rfl (lv_at hl 1 rfl) ?_
  obtain ⟨y1, h1, e9, hf⟩ := jB_some hf
  refine j_callS (pc := 1) (st1 := [.int y1]) (As := [.int x1]) (rest := []) cx hS rfl hl.1 hm (metJ6_canEncode l _ _ _ _ e9) (jle hf) (lw_S q519 q520 q125 q521) pdJ6_canEncode rfl rfl (Nat.le_of_ble_eq_true rfl) ⟨Nat.le_of_ble_eq_true rfl, Nat.le_of_ble_eq_true rfl⟩ dJ6_indexOf_1 rfl (fun H locs cells slots hS => ?_)
  refine lv_if_ne (pc := 4) (tgt := 9) hx hb dJ6_indexOf_4 (by decide) (fun hc => ?_) (fun hc => ?_)
  · have hf := jI_f hf hc
    refine lv_iload_n (pc := 9) hx hb dJ6_indexOf_9 rfl (lv_at hl 2 rfl) ?_
    refine lv_iconst (pc := 10) (v := 0) hx hb dJ6_indexOf_10 rfl ?_
    refine j_max (pc := 11) cx hS hl.1 (jle hf) hm q522 q523 q126 q524 (Nat.le_of_ble_eq_true rfl) (Nat.le_of_ble_eq_true rfl) dJ6_indexOf_11 ?_
    refine lv_istore_n (pc := 14) (i := 2) (lv' := [(2, .int (jmax x2 0)), (0, va_rf x0), (1, .int x1), (3, .int x3)]) hx hb dJ6_indexOf_14 rfl hl (Nat.le_of_ble_eq_true rfl) rfl (fun ls hl => ?_)
    refine lv_iload_n (pc := 15) hx hb dJ6_indexOf_15 rfl (lv_at hl 3 rfl) ?_
    refine j_aload_n (pc := 16) (r := x0) hx hb dJ6_indexOf_16 rfl (lv_at hl 1 rfl) ?_
    refine j_ln (pc := 17) cx hS hf dJ6_indexOf_17 (fun y2 hf => ?_)
    refine j_min (pc := 18) cx hS hl.1 (jle hf) hm q525 q526 q126 q527 (Nat.le_of_ble_eq_true rfl) (Nat.le_of_ble_eq_true rfl) dJ6_indexOf_18 ?_
    refine lv_istore_n (pc := 21) (i := 3) (lv' := [(3, .int (jmin x3 y2)), (2, .int (jmax x2 0)), (0, va_rf x0), (1, .int x1)]) hx hb dJ6_indexOf_21 rfl hl (Nat.le_of_ble_eq_true rfl) rfl (fun ls hl => ?_)
    refine lv_iload_n (pc := 22) hx hb dJ6_indexOf_22 rfl (lv_at hl 1 rfl) ?_
    refine lv_iload_n (pc := 23) hx hb dJ6_indexOf_23 rfl (lv_at hl 0 rfl) ?_
    refine lv_icmp_lt (pc := 24) (tgt := 29) hx hb dJ6_indexOf_24 (by decide) (fun hc => ?_) (fun hc => ?_)
    · have hf := jI_t hf hc
      refine j_aload_n (pc := 29) (r := x0) hx hb dJ6_indexOf_29 rfl (lv_at hl 2 rfl) ?_
      refine lv_iload_n (pc := 30) hx hb dJ6_indexOf_30 rfl (lv_at hl 3 rfl) ?_
      refine lv_iload_n (pc := 31) hx hb dJ6_indexOf_31 rfl (lv_at hl 1 rfl) ?_
      refine lv_iload_n (pc := 32) hx hb dJ6_indexOf_32 rfl (lv_at hl 0 rfl) ?_
      obtain ⟨y3, h1, e9, hf⟩ := jB_some hf
      refine j_callS (pc := 33) (st1 := [.int y3]) (As := [va_rf x0, .int x1, .int (jmax x2 0), .int (jmin x3 y2)]) (rest := []) cx hS rfl hl.1 hm (metJ6_indexOfChar l _ _ _ _ _ _ _ _ e9) (jle hf) (lw_S q528 q529 q125 q530) pdJ6_indexOfChar rfl rfl (Nat.le_of_ble_eq_true rfl) ⟨Nat.le_of_ble_eq_true rfl, Nat.le_of_ble_eq_true rfl⟩ dJ6_indexOf_33 rfl (fun H locs cells slots hS => ?_)
      exact j_iret (pc := 36) cx hS hf e1 e2 dJ6_indexOf_36
    · have hf := jI_f hf hc
      refine lv_iconst (pc := 27) (v := (-1)) hx hb dJ6_indexOf_27 rfl ?_
      exact j_iret (pc := 28) cx hS hf e1 e2 dJ6_indexOf_28
  · have hf := jI_t hf hc
    refine lv_iconst (pc := 7) (v := (-1)) hx hb dJ6_indexOf_7 rfl ?_
    exact j_iret (pc := 8) cx hS hf e1 e2 dJ6_indexOf_8
theorem metJ6_indexOf (l : Launch) (N : Nat) (x0 : Option Nat) (x1 : Int32) (x2 : Int32) (x3 : Int32) (h h' : jH) (r : Int32) (hf : (fJ6_indexOf N x0 x1 x2 x3).1 h = some (r, h')) : jMet l yJ6_indexOf (ws_ yJ6_indexOf cJ6_indexOf 4 (Option.some Jvm.ClassFile.FieldType.int)) (1) (30) [va_rf x0, .int x1, .int x2, .int x3] h h' (.returned (some (.int r))) := by
  refine jStart rfl (jle hf) (by cases x0 <;> exact Nat.le_of_ble_eq_true rfl) ?_
  intro p e s m below meth c D dA H0 mc ms ls cx hnm e1 e2 hS hl
  have hl : lv_has ls 4 [(0, va_rf x0), (1, .int x1), (2, .int x2), (3, .int x3)] := by cases x0 <;> exact hl
  exact wJ6_indexOf_0 cx e1 e2 _ _ _ _ _ _ _ _ _ _ hf hS hl
def fJ5_indexOf_2_36 (N : Nat) (a0 : Nat) (v0 : Int32) : jM Int32 := jR v0
def fJ5_indexOf_2 (N : Nat) (a0 : Nat) (x1 : Int32) (x2 : Int32) : jM Int32 := jB (fJ5_isLatin1 a0) fun y1 => if y1 = 0 then (jB (jgR [33] 0 (some a0)) fun y2 => jB (fJ5_length a0) fun y3 => jE) else (jB (jgR [33] 0 (some a0)) fun y4 => jB (fJ5_length a0) fun y5 => jB (fJ6_indexOf N y4 x1 x2 y5) fun y6 => fJ5_indexOf_2_36 N a0 y6)
theorem wJ5_indexOf_2_36 {N : Nat} {r : Int32} (cx : jCx p s m args meth c cJ5_indexOf_2 "java/lang/String" 3 (Option.some Jvm.ClassFile.FieldType.int) D dA H0 hs.2.2.2.2) (e1 : h'.2.2.1 = hs.2.2.1 + mc) (e2 : h'.2.2.2.1 = hs.2.2.2.1 + ms) (a0 : Nat) (hth : jTh hs a0 33) : ∀ (v0 : Int32), ∀ (h : jH) (H : Heap) (locs : List Loc) (cells slots : Nat) (ls : Array Slot), (fJ5_indexOf_2_36 N a0 v0).1 h = some (r, h') → jS D dA H0 hs h H locs cells slots → lv_has ls 3 [(0, .ref a0)] → W p l e { frames := 2, cells := mc, slots := ms, locals := 53 } s m args below meth c H locs cells slots (jQ D dA H0 below s (.returned (some (.int r))) h' mc ms) (F0 m 36 ls [.int v0]) := by
  have hx := cx.1
  have hb := cx.2.1
  have hown := cx.2.2.2.1
  have hts := cx.2.2.2.2.1
  have hm : h'.2.2.1 ≤ hs.2.2.1 + mc ∧ h'.2.2.2.1 ≤ hs.2.2.2.1 + ms := ⟨Nat.le_of_eq e1, Nat.le_of_eq e2⟩
  intro v0 h H locs cells slots ls hf hS hl
  unfold fJ5_indexOf_2_36 at hf
  exact j_iret (pc := 36) cx hS hf e1 e2 dJ5_indexOf_2_36
theorem wJ5_indexOf_2_0 {N : Nat} {r : Int32} (cx : jCx p s m args meth c cJ5_indexOf_2 "java/lang/String" 3 (Option.some Jvm.ClassFile.FieldType.int) D dA H0 hs.2.2.2.2) (e1 : h'.2.2.1 = hs.2.2.1 + mc) (e2 : h'.2.2.2.1 = hs.2.2.2.1 + ms) (a0 : Nat) (hth : jTh hs a0 33) : ∀ (x1 : Int32) (x2 : Int32), ∀ (h : jH) (H : Heap) (locs : List Loc) (cells slots : Nat) (ls : Array Slot), (fJ5_indexOf_2 N a0 x1 x2).1 h = some (r, h') → jS D dA H0 hs h H locs cells slots → lv_has ls 3 [(0, .ref a0), (1, .int x1), (2, .int x2)] → W p l e { frames := 2, cells := mc, slots := ms, locals := 53 } s m args below meth c H locs cells slots (jQ D dA H0 below s (.returned (some (.int r))) h' mc ms) (F0 m 0 ls []) := by
  have hx := cx.1
  have hb := cx.2.1
  have hown := cx.2.2.2.1
  have hts := cx.2.2.2.2.1
  have hm : h'.2.2.1 ≤ hs.2.2.1 + mc ∧ h'.2.2.2.1 ≤ hs.2.2.2.1 + ms := ⟨Nat.le_of_eq e1, Nat.le_of_eq e2⟩
  intro x1 x2 h H locs cells slots ls hf hS hl
  unfold fJ5_indexOf_2 at hf
  refine lv_aload_n (pc := 0) hx hb dJ5_indexOf_2_0 rfl (lv_at hl 0 rfl) ?_
  obtain ⟨y1, h1, e9, hf⟩ := jB_some hf
  refine j_callV (pc := 1) (st1 := [.int y1]) (As := []) (rest := []) cx hS rfl hl.1 hm (metJ5_isLatin1 l _ _ _ _ (hth.at hS) e9) (jle hf) (hth.at hS) rfl (lw_V q502 q503 q504 q124 q505) pdJ5_isLatin1 rfl rfl (Nat.le_of_ble_eq_true rfl) ⟨Nat.le_of_ble_eq_true rfl, Nat.le_of_ble_eq_true rfl⟩ dJ5_indexOf_2_1 rfl (fun H locs cells slots hS => ?_)
  refine lv_if_eq (pc := 4) (tgt := 23) hx hb dJ5_indexOf_2_4 (by decide) (fun hc => ?_) (fun hc => ?_)
  · have hf := jI_t hf hc
    refine lv_aload_n (pc := 23) hx hb dJ5_indexOf_2_23 rfl (lv_at hl 0 rfl) ?_
    refine j_gR (pc := 24) cx hS hf fd_java_lang_String_value q2368 dJ5_indexOf_2_24 (fun y2 hf => ?_)
    refine lv_iload_n (pc := 27) hx hb dJ5_indexOf_2_27 rfl (lv_at hl 1 rfl) ?_
    refine lv_iload_n (pc := 28) hx hb dJ5_indexOf_2_28 rfl (lv_at hl 2 rfl) ?_
    refine lv_aload_n (pc := 29) hx hb dJ5_indexOf_2_29 rfl (lv_at hl 0 rfl) ?_
    obtain ⟨y3, h1, e9, hf⟩ := jB_some hf
    refine j_callV (pc := 30) (st1 := [.int y3, .int x2, .int x1, va_rf y2]) (As := []) (rest := [.int x2, .int x1, va_rf y2]) cx hS rfl hl.1 hm (metJ5_length l _ _ _ _ (hth.at hS) e9) (jle hf) (hth.at hS) rfl (lw_V q508 q509 q510 q124 q511) pdJ5_length rfl rfl (by simp only [List.map_cons, List.map_nil, List.sum_cons, List.sum_nil, jrfc]; exact Nat.le_of_ble_eq_true rfl) ⟨Nat.le_of_ble_eq_true rfl, Nat.le_of_ble_eq_true rfl⟩ dJ5_indexOf_2_30 rfl (fun H locs cells slots hS => ?_)
    exact jE_f hf
  · have hf := jI_f hf hc
    refine lv_aload_n (pc := 7) hx hb dJ5_indexOf_2_7 rfl (lv_at hl 0 rfl) ?_
    refine j_gR (pc := 8) cx hS hf fd_java_lang_String_value q2368 dJ5_indexOf_2_8 (fun y4 hf => ?_)
    refine lv_iload_n (pc := 11) hx hb dJ5_indexOf_2_11 rfl (lv_at hl 1 rfl) ?_
    refine lv_iload_n (pc := 12) hx hb dJ5_indexOf_2_12 rfl (lv_at hl 2 rfl) ?_
    refine lv_aload_n (pc := 13) hx hb dJ5_indexOf_2_13 rfl (lv_at hl 0 rfl) ?_
    obtain ⟨y5, h1, e9, hf⟩ := jB_some hf
    refine j_callV (pc := 14) (st1 := [.int y5, .int x2, .int x1, va_rf y4]) (As := []) (rest := [.int x2, .int x1, va_rf y4]) cx hS rfl hl.1 hm (metJ5_length l _ _ _ _ (hth.at hS) e9) (jle hf) (hth.at hS) rfl (lw_V q508 q509 q510 q124 q511) pdJ5_length rfl rfl (by simp only [List.map_cons, List.map_nil, List.sum_cons, List.sum_nil, jrfc]; exact Nat.le_of_ble_eq_true rfl) ⟨Nat.le_of_ble_eq_true rfl, Nat.le_of_ble_eq_true rfl⟩ dJ5_indexOf_2_14 rfl (fun H locs cells slots hS => ?_)
    obtain ⟨y6, h1, e9, hf⟩ := jB_some hf
    refine j_callS (pc := 17) (st1 := [.int y6]) (As := [va_rf y4, .int x1, .int x2, .int y5]) (rest := []) cx hS rfl hl.1 hm (metJ6_indexOf l _ _ _ _ _ _ _ _ e9) (jle hf) (lw_S q516 q517 q125 q518) pdJ6_indexOf rfl rfl (Nat.le_of_ble_eq_true rfl) ⟨Nat.le_of_ble_eq_true rfl, Nat.le_of_ble_eq_true rfl⟩ dJ5_indexOf_2_17 rfl (fun H locs cells slots hS => ?_)
    refine lv_goto (pc := 20) (tgt := 36) hx hb dJ5_indexOf_2_20 (by decide) ?_
    exact wJ5_indexOf_2_36 cx e1 e2 a0 hth _ _ _ _ _ _ _ hf hS (lv_sub hl [0] rfl)
theorem metJ5_indexOf_2 (l : Launch) (N : Nat) (a0 : Nat) (x1 : Int32) (x2 : Int32) (h h' : jH) (r : Int32) (hth : jcd h a0 = some 33) (hf : (fJ5_indexOf_2 N a0 x1 x2).1 h = some (r, h')) : jMet l yJ5_indexOf_2 (ws_ yJ5_indexOf_2 cJ5_indexOf_2 3 (Option.some Jvm.ClassFile.FieldType.int)) (2) (53) [.ref a0, .int x1, .int x2] h h' (.returned (some (.int r))) := by
  refine jStart rfl (jle hf) (Nat.le_of_ble_eq_true rfl) ?_
  intro p e s m below meth c D dA H0 mc ms ls cx hnm e1 e2 hS hl
  have hth := jTh.mk hS hth
  exact wJ5_indexOf_2_0 cx e1 e2 a0 hth _ _ _ _ _ _ _ _ hf hS hl
def fJ5_indexOf (N : Nat) (a0 : Nat) (x1 : Int32) : jM Int32 := jB (fJ5_indexOf_2 N a0 x1 0) fun y1 => jR y1
theorem wJ5_indexOf_0 {N : Nat} {r : Int32} (cx : jCx p s m args meth c cJ5_indexOf "java/lang/String" 2 (Option.some Jvm.ClassFile.FieldType.int) D dA H0 hs.2.2.2.2) (e1 : h'.2.2.1 = hs.2.2.1 + mc) (e2 : h'.2.2.2.1 = hs.2.2.2.1 + ms) (a0 : Nat) (hth : jTh hs a0 33) : ∀ (x1 : Int32), ∀ (h : jH) (H : Heap) (locs : List Loc) (cells slots : Nat) (ls : Array Slot), (fJ5_indexOf N a0 x1).1 h = some (r, h') → jS D dA H0 hs h H locs cells slots → lv_has ls 2 [(0, .ref a0), (1, .int x1)] → W p l e { frames := 3, cells := mc, slots := ms, locals := 75 } s m args below meth c H locs cells slots (jQ D dA H0 below s (.returned (some (.int r))) h' mc ms) (F0 m 0 ls []) := by
  have hx := cx.1
  have hb := cx.2.1
  have hown := cx.2.2.2.1
  have hts := cx.2.2.2.2.1
  have hm : h'.2.2.1 ≤ hs.2.2.1 + mc ∧ h'.2.2.2.1 ≤ hs.2.2.2.1 + ms := ⟨Nat.le_of_eq e1, Nat.le_of_eq e2⟩
  intro x1 h H locs cells slots ls hf hS hl
  unfold fJ5_indexOf at hf
  refine lv_aload_n (pc := 0) hx hb dJ5_indexOf_0 rfl (lv_at hl 0 rfl) ?_
  refine lv_iload_n (pc := 1) hx hb dJ5_indexOf_1 rfl (lv_at hl 1 rfl) ?_
  refine lv_iconst (pc := 2) (v := 0) hx hb dJ5_indexOf_2 rfl ?_
  obtain ⟨y1, h1, e9, hf⟩ := jB_some hf
  refine j_callV (pc := 3) (st1 := [.int y1]) (As := [.int x1, .int 0]) (rest := []) cx hS rfl hl.1 hm (metJ5_indexOf_2 l _ _ _ _ _ _ _ (hth.at hS) e9) (jle hf) (hth.at hS) rfl (lw_V q498 q499 q500 q124 q501) pdJ5_indexOf_2 rfl rfl (Nat.le_of_ble_eq_true rfl) ⟨Nat.le_of_ble_eq_true rfl, Nat.le_of_ble_eq_true rfl⟩ dJ5_indexOf_3 rfl (fun H locs cells slots hS => ?_)
  exact j_iret (pc := 6) cx hS hf e1 e2 dJ5_indexOf_6
theorem metJ5_indexOf (l : Launch) (N : Nat) (a0 : Nat) (x1 : Int32) (h h' : jH) (r : Int32) (hth : jcd h a0 = some 33) (hf : (fJ5_indexOf N a0 x1).1 h = some (r, h')) : jMet l yJ5_indexOf (ws_ yJ5_indexOf cJ5_indexOf 2 (Option.some Jvm.ClassFile.FieldType.int)) (3) (75) [.ref a0, .int x1] h h' (.returned (some (.int r))) := by
  refine jStart rfl (jle hf) (Nat.le_of_ble_eq_true rfl) ?_
  intro p e s m below meth c D dA H0 mc ms ls cx hnm e1 e2 hS hl
  have hth := jTh.mk hS hth
  exact wJ5_indexOf_0 cx e1 e2 a0 hth _ _ _ _ _ _ _ hf hS hl
def fJ5_checkBoundsBeginEnd (x0 : Int32) (x1 : Int32) (x2 : Int32) : jM Unit := jB (jKo 568) fun y1 => jB (fJ4_checkFromToIndex x0 x1 x2 y1) fun y2 => jR ()
theorem wJ5_checkBoundsBeginEnd_0 {r : Unit} (cx : jCx p s m args meth c cJ5_checkBoundsBeginEnd "java/lang/String" 3 (Option.none : Option Jvm.ClassFile.FieldType) D dA H0 hs.2.2.2.2) (e1 : h'.2.2.1 = hs.2.2.1 + mc) (e2 : h'.2.2.2.1 = hs.2.2.2.1 + ms) : ∀ (x0 : Int32) (x1 : Int32) (x2 : Int32), ∀ (h : jH) (H : Heap) (locs : List Loc) (cells slots : Nat) (ls : Array Slot), (fJ5_checkBoundsBeginEnd x0 x1 x2).1 h = some (r, h') → jS D dA H0 hs h H locs cells slots → lv_has ls 3 [(0, .int x0), (1, .int x1), (2, .int x2)] → W p l e { frames := 1, cells := mc, slots := ms, locals := 23 } s m args below meth c H locs cells slots (jQ D dA H0 below s (.returned none) h' mc ms) (F0 m 0 ls []) := by
  have hx := cx.1
  have hb := cx.2.1
  have hown := cx.2.2.2.1
  have hts := cx.2.2.2.2.1
  have hm : h'.2.2.1 ≤ hs.2.2.1 + mc ∧ h'.2.2.2.1 ≤ hs.2.2.2.1 + ms := ⟨Nat.le_of_eq e1, Nat.le_of_eq e2⟩
  intro x0 x1 x2 h H locs cells slots ls hf hS hl
  unfold fJ5_checkBoundsBeginEnd at hf
  refine lv_iload_n (pc := 0) hx hb dJ5_checkBoundsBeginEnd_0 rfl (lv_at hl 0 rfl) ?_
  refine lv_iload_n (pc := 1) hx hb dJ5_checkBoundsBeginEnd_1 rfl (lv_at hl 1 rfl) ?_
  refine lv_iload_n (pc := 2) hx hb dJ5_checkBoundsBeginEnd_2 rfl (lv_at hl 2 rfl) ?_
  refine j_getsO (pc := 3) cx hS rfl hf (List.mem_of_getElem? (i := 6) rfl) rfl q549 dJ5_checkBoundsBeginEnd_3 (fun y1 hf => ?_)
  obtain ⟨y2, h1, e9, hf⟩ := jB_some hf
  refine j_callS (pc := 6) (st1 := [.int y2]) (As := [.int x0, .int x1, .int x2, va_rf y1]) (rest := []) cx hS rfl hl.1 hm (metJ4_checkFromToIndex l _ _ _ _ _ _ _ e9) (jle hf) (lw_S q551 q552 q121 q553) pdJ4_checkFromToIndex rfl rfl (Nat.le_of_ble_eq_true rfl) ⟨Nat.le_of_ble_eq_true rfl, Nat.le_of_ble_eq_true rfl⟩ dJ5_checkBoundsBeginEnd_6 rfl (fun H locs cells slots hS => ?_)
  refine lv_pop (pc := 9) hx hb dJ5_checkBoundsBeginEnd_9 rfl ?_
  exact j_vret (pc := 10) cx hS hf e1 e2 dJ5_checkBoundsBeginEnd_10
theorem metJ5_checkBoundsBeginEnd (l : Launch) (x0 : Int32) (x1 : Int32) (x2 : Int32) (h h' : jH) (r : Unit) (hf : (fJ5_checkBoundsBeginEnd x0 x1 x2).1 h = some (r, h')) : jMet l yJ5_checkBoundsBeginEnd (ws_ yJ5_checkBoundsBeginEnd cJ5_checkBoundsBeginEnd 3 (Option.none : Option Jvm.ClassFile.FieldType)) (1) (23) [.int x0, .int x1, .int x2] h h' (.returned none) := by
  refine jStart rfl (jle hf) (Nat.le_of_ble_eq_true rfl) ?_
  intro p e s m below meth c D dA H0 mc ms ls cx hnm e1 e2 hS hl
  exact wJ5_checkBoundsBeginEnd_0 cx e1 e2 _ _ _ _ _ _ _ _ _ hf hS hl
def fJ5_checkIndex (x0 : Int32) (x1 : Int32) : jM Unit := jB (jKo 568) fun y1 => jB (fJ4_checkIndex x0 x1 y1) fun y2 => jR ()
theorem wJ5_checkIndex_0 {r : Unit} (cx : jCx p s m args meth c cJ5_checkIndex "java/lang/String" 2 (Option.none : Option Jvm.ClassFile.FieldType) D dA H0 hs.2.2.2.2) (e1 : h'.2.2.1 = hs.2.2.1 + mc) (e2 : h'.2.2.2.1 = hs.2.2.2.1 + ms) : ∀ (x0 : Int32) (x1 : Int32), ∀ (h : jH) (H : Heap) (locs : List Loc) (cells slots : Nat) (ls : Array Slot), (fJ5_checkIndex x0 x1).1 h = some (r, h') → jS D dA H0 hs h H locs cells slots → lv_has ls 2 [(0, .int x0), (1, .int x1)] → W p l e { frames := 1, cells := mc, slots := ms, locals := 22 } s m args below meth c H locs cells slots (jQ D dA H0 below s (.returned none) h' mc ms) (F0 m 0 ls []) := by
  have hx := cx.1
  have hb := cx.2.1
  have hown := cx.2.2.2.1
  have hts := cx.2.2.2.2.1
  have hm : h'.2.2.1 ≤ hs.2.2.1 + mc ∧ h'.2.2.2.1 ≤ hs.2.2.2.1 + ms := ⟨Nat.le_of_eq e1, Nat.le_of_eq e2⟩
  intro x0 x1 h H locs cells slots ls hf hS hl
  unfold fJ5_checkIndex at hf
  refine lv_iload_n (pc := 0) hx hb dJ5_checkIndex_0 rfl (lv_at hl 0 rfl) ?_
  refine lv_iload_n (pc := 1) hx hb dJ5_checkIndex_1 rfl (lv_at hl 1 rfl) ?_
  refine j_getsO (pc := 2) cx hS rfl hf (List.mem_of_getElem? (i := 6) rfl) rfl q549 dJ5_checkIndex_2 (fun y1 hf => ?_)
  obtain ⟨y2, h1, e9, hf⟩ := jB_some hf
  refine j_callS (pc := 5) (st1 := [.int y2]) (As := [.int x0, .int x1, va_rf y1]) (rest := []) cx hS rfl hl.1 hm (metJ4_checkIndex l _ _ _ _ _ _ e9) (jle hf) (lw_S q600 q391 q121 q392) pdJ4_checkIndex rfl rfl (Nat.le_of_ble_eq_true rfl) ⟨Nat.le_of_ble_eq_true rfl, Nat.le_of_ble_eq_true rfl⟩ dJ5_checkIndex_5 rfl (fun H locs cells slots hS => ?_)
  refine lv_pop (pc := 8) hx hb dJ5_checkIndex_8 rfl ?_
  exact j_vret (pc := 9) cx hS hf e1 e2 dJ5_checkIndex_9
theorem metJ5_checkIndex (l : Launch) (x0 : Int32) (x1 : Int32) (h h' : jH) (r : Unit) (hf : (fJ5_checkIndex x0 x1).1 h = some (r, h')) : jMet l yJ5_checkIndex (ws_ yJ5_checkIndex cJ5_checkIndex 2 (Option.none : Option Jvm.ClassFile.FieldType)) (1) (22) [.int x0, .int x1] h h' (.returned none) := by
  refine jStart rfl (jle hf) (Nat.le_of_ble_eq_true rfl) ?_
  intro p e s m below meth c D dA H0 mc ms ls cx hnm e1 e2 hS hl
  exact wJ5_checkIndex_0 cx e1 e2 _ _ _ _ _ _ _ _ hf hS hl
def fJ6_charAt (x0 : Option Nat) (x1 : Int32) : jM Int32 := jB (jln x0) fun y1 => jB (fJ5_checkIndex x1 y1) fun _ => jB (jaI 3 x0 x1) fun y3 => jRn .char (((y3 &&& 255).toUInt32 % 65536).toInt32)
theorem wJ6_charAt_0 {r : Int32} (cx : jCx p s m args meth c cJ6_charAt "java/lang/StringLatin1" 2 (Option.some Jvm.ClassFile.FieldType.char) D dA H0 hs.2.2.2.2) (e1 : h'.2.2.1 = hs.2.2.1 + mc) (e2 : h'.2.2.2.1 = hs.2.2.2.1 + ms) : ∀ (x0 : Option Nat) (x1 : Int32), ∀ (h : jH) (H : Heap) (locs : List Loc) (cells slots : Nat) (ls : Array Slot), (fJ6_charAt x0 x1).1 h = some (r, h') → jS D dA H0 hs h H locs cells slots → lv_has ls 2 [(0, va_rf x0), (1, .int x1)] → W p l e { frames := 2, cells := mc, slots := ms, locals := 43 } s m args below meth c H locs cells slots (jQ D dA H0 below s (.returned (some (.int r))) h' mc ms) (F0 m 0 ls []) := by
  have hx := cx.1
  have hb := cx.2.1
  have hown := cx.2.2.2.1
  have hts := cx.2.2.2.2.1
  have hm : h'.2.2.1 ≤ hs.2.2.1 + mc ∧ h'.2.2.2.1 ≤ hs.2.2.2.1 + ms := ⟨Nat.le_of_eq e1, Nat.le_of_eq e2⟩
  intro x0 x1 h H locs cells slots ls hf hS hl
  unfold fJ6_charAt at hf
  refine lv_iload_n (pc := 0) hx hb dJ6_charAt_0 rfl (lv_at hl 1 rfl) ?_
  refine j_aload_n (pc := 1) (r := x0) hx hb dJ6_charAt_1 rfl (lv_at hl 0 rfl) ?_
  refine j_ln (pc := 2) cx hS hf dJ6_charAt_2 (fun y1 hf => ?_)
  obtain ⟨_, h1, e9, hf⟩ := jB_some hf
  refine j_callS (pc := 3) (st1 := []) (As := [.int x1, .int y1]) (rest := []) cx hS rfl hl.1 hm (metJ5_checkIndex l _ _ _ _ _ e9) (jle hf) (lw_S q597 q598 q124 q599) pdJ5_checkIndex rfl rfl (Nat.le_of_ble_eq_true rfl) ⟨Nat.le_of_ble_eq_true rfl, Nat.le_of_ble_eq_true rfl⟩ dJ6_charAt_3 rfl (fun H locs cells slots hS => ?_)
  refine j_aload_n (pc := 6) (r := x0) hx hb dJ6_charAt_6 rfl (lv_at hl 0 rfl) ?_
  refine lv_iload_n (pc := 7) hx hb dJ6_charAt_7 rfl (lv_at hl 1 rfl) ?_
  refine j_aZ (pc := 8) cx hS hf (Or.inr rfl) dJ6_charAt_8 (fun y3 hf => ?_)
  refine lv_sipush (pc := 9) (v := 255) hx hb dJ6_charAt_9 rfl ?_
  refine lv_iand (pc := 12) hx hb dJ6_charAt_12 ?_
  refine lv_i2c (pc := 13) (v := ((y3 &&& 255).toUInt32 % 65536).toInt32) hx hb dJ6_charAt_13 rfl ?_
  exact j_zret (pc := 14) cx (Or.inr (Or.inr (Or.inl rfl))) hS hf e1 e2 dJ6_charAt_14
theorem metJ6_charAt (l : Launch) (x0 : Option Nat) (x1 : Int32) (h h' : jH) (r : Int32) (hf : (fJ6_charAt x0 x1).1 h = some (r, h')) : jMet l yJ6_charAt (ws_ yJ6_charAt cJ6_charAt 2 (Option.some Jvm.ClassFile.FieldType.char)) (2) (43) [va_rf x0, .int x1] h h' (.returned (some (.int r))) := by
  refine jStart rfl (jle hf) (by cases x0 <;> exact Nat.le_of_ble_eq_true rfl) ?_
  intro p e s m below meth c D dA H0 mc ms ls cx hnm e1 e2 hS hl
  have hl : lv_has ls 2 [(0, va_rf x0), (1, .int x1)] := by cases x0 <;> exact hl
  exact wJ6_charAt_0 cx e1 e2 _ _ _ _ _ _ _ _ hf hS hl
def fJ5_charAt (a0 : Nat) (x1 : Int32) : jM Int32 := jB (fJ5_isLatin1 a0) fun y1 => if y1 = 0 then (jB (jgR [33] 0 (some a0)) fun y2 => jE) else (jB (jgR [33] 0 (some a0)) fun y3 => jB (fJ6_charAt y3 x1) fun y4 => jRn .char y4)
theorem wJ5_charAt_0 {r : Int32} (cx : jCx p s m args meth c cJ5_charAt "java/lang/String" 2 (Option.some Jvm.ClassFile.FieldType.char) D dA H0 hs.2.2.2.2) (e1 : h'.2.2.1 = hs.2.2.1 + mc) (e2 : h'.2.2.2.1 = hs.2.2.2.1 + ms) (a0 : Nat) (hth : jTh hs a0 33) : ∀ (x1 : Int32), ∀ (h : jH) (H : Heap) (locs : List Loc) (cells slots : Nat) (ls : Array Slot), (fJ5_charAt a0 x1).1 h = some (r, h') → jS D dA H0 hs h H locs cells slots → lv_has ls 2 [(0, .ref a0), (1, .int x1)] → W p l e { frames := 3, cells := mc, slots := ms, locals := 64 } s m args below meth c H locs cells slots (jQ D dA H0 below s (.returned (some (.int r))) h' mc ms) (F0 m 0 ls []) := by
  have hx := cx.1
  have hb := cx.2.1
  have hown := cx.2.2.2.1
  have hts := cx.2.2.2.2.1
  have hm : h'.2.2.1 ≤ hs.2.2.1 + mc ∧ h'.2.2.2.1 ≤ hs.2.2.2.1 + ms := ⟨Nat.le_of_eq e1, Nat.le_of_eq e2⟩
  intro x1 h H locs cells slots ls hf hS hl
  unfold fJ5_charAt at hf
  refine lv_aload_n (pc := 0) hx hb dJ5_charAt_0 rfl (lv_at hl 0 rfl) ?_
  obtain ⟨y1, h1, e9, hf⟩ := jB_some hf
  refine j_callV (pc := 1) (st1 := [.int y1]) (As := []) (rest := []) cx hS rfl hl.1 hm (metJ5_isLatin1 l _ _ _ _ (hth.at hS) e9) (jle hf) (hth.at hS) rfl (lw_V q502 q503 q504 q124 q505) pdJ5_isLatin1 rfl rfl (Nat.le_of_ble_eq_true rfl) ⟨Nat.le_of_ble_eq_true rfl, Nat.le_of_ble_eq_true rfl⟩ dJ5_charAt_1 rfl (fun H locs cells slots hS => ?_)
  refine lv_if_eq (pc := 4) (tgt := 16) hx hb dJ5_charAt_4 (by decide) (fun hc => ?_) (fun hc => ?_)
  · have hf := jI_t hf hc
    refine lv_aload_n (pc := 16) hx hb dJ5_charAt_16 rfl (lv_at hl 0 rfl) ?_
    refine j_gR (pc := 17) cx hS hf fd_java_lang_String_value q2368 dJ5_charAt_17 (fun y2 hf => ?_)
    refine lv_iload_n (pc := 20) hx hb dJ5_charAt_20 rfl (lv_at hl 1 rfl) ?_
    exact jE_f hf
  · have hf := jI_f hf hc
    refine lv_aload_n (pc := 7) hx hb dJ5_charAt_7 rfl (lv_at hl 0 rfl) ?_
    refine j_gR (pc := 8) cx hS hf fd_java_lang_String_value q2368 dJ5_charAt_8 (fun y3 hf => ?_)
    refine lv_iload_n (pc := 11) hx hb dJ5_charAt_11 rfl (lv_at hl 1 rfl) ?_
    obtain ⟨y4, h1, e9, hf⟩ := jB_some hf
    refine j_callS (pc := 12) (st1 := [.int y4]) (As := [va_rf y3, .int x1]) (rest := []) cx hS rfl hl.1 hm (metJ6_charAt l _ _ _ _ _ e9) (jle hf) (lw_S q594 q595 q125 q596) pdJ6_charAt rfl rfl (Nat.le_of_ble_eq_true rfl) ⟨Nat.le_of_ble_eq_true rfl, Nat.le_of_ble_eq_true rfl⟩ dJ5_charAt_12 rfl (fun H locs cells slots hS => ?_)
    exact j_zret (pc := 15) cx (Or.inr (Or.inr (Or.inl rfl))) hS hf e1 e2 dJ5_charAt_15
theorem metJ5_charAt (l : Launch) (a0 : Nat) (x1 : Int32) (h h' : jH) (r : Int32) (hth : jcd h a0 = some 33) (hf : (fJ5_charAt a0 x1).1 h = some (r, h')) : jMet l yJ5_charAt (ws_ yJ5_charAt cJ5_charAt 2 (Option.some Jvm.ClassFile.FieldType.char)) (3) (64) [.ref a0, .int x1] h h' (.returned (some (.int r))) := by
  refine jStart rfl (jle hf) (Nat.le_of_ble_eq_true rfl) ?_
  intro p e s m below meth c D dA H0 mc ms ls cx hnm e1 e2 hS hl
  have hth := jTh.mk hS hth
  exact wJ5_charAt_0 cx e1 e2 a0 hth _ _ _ _ _ _ _ hf hS hl
def fJ12_init (a0 : Nat) : jM Unit := jR ()
theorem wJ12_init_0 {r : Unit} (cx : jCx p s m args meth c cJ12_init "java/lang/Number" 1 (Option.none : Option Jvm.ClassFile.FieldType) D dA H0 hs.2.2.2.2) (e1 : h'.2.2.1 = hs.2.2.1 + mc) (e2 : h'.2.2.2.1 = hs.2.2.2.1 + ms) (hin : meth.name = "<init>") (a0 : Nat) : ∀ (h : jH) (H : Heap) (locs : List Loc) (cells slots : Nat) (ls : Array Slot), (fJ12_init a0).1 h = some (r, h') → jS D dA H0 hs h H locs cells slots → lv_has ls 1 [(0, .ref a0)] → W p l e { frames := 1, cells := mc, slots := ms, locals := 20 } s m args below meth c H locs cells slots (jQ D dA H0 below s (.returned none) h' mc ms) (F0 m 0 ls []) := by
  have hx := cx.1
  have hb := cx.2.1
  have hown := cx.2.2.2.1
  have hts := cx.2.2.2.2.1
  have hm : h'.2.2.1 ≤ hs.2.2.1 + mc ∧ h'.2.2.2.1 ≤ hs.2.2.2.1 + ms := ⟨Nat.le_of_eq e1, Nat.le_of_eq e2⟩
  intro h H locs cells slots ls hf hS hl
  unfold fJ12_init at hf
  refine lv_aload_n (pc := 0) hx hb dJ12_init_0 rfl (lv_at hl 0 rfl) ?_
  refine j_objInit (pc := 1) cx q721 q171 q172 hl.1 dJ12_init_1 (Nat.le_of_ble_eq_true rfl) (Nat.le_of_ble_eq_true rfl) ?_
  exact j_vret (pc := 4) cx hS hf e1 e2 dJ12_init_4
theorem metJ12_init (l : Launch) (a0 : Nat) (h h' : jH) (r : Unit) (hf : (fJ12_init a0).1 h = some (r, h')) : jMet l yJ12_init (ws_ yJ12_init cJ12_init 1 (Option.none : Option Jvm.ClassFile.FieldType)) (1) (20) [.ref a0] h h' (.returned none) := by
  refine jStart rfl (jle hf) (Nat.le_of_ble_eq_true rfl) ?_
  intro p e s m below meth c D dA H0 mc ms ls cx hnm e1 e2 hS hl
  exact wJ12_init_0 cx e1 e2 hnm a0  _ _ _ _ _ _ hf hS hl
def fJ13_longValue (a0 : Nat) : jM Int64 := jB (jgL [10] 0 (some a0)) fun y1 => jR y1
theorem wJ13_longValue_0 {r : Int64} (cx : jCx p s m args meth c cJ13_longValue "java/lang/Long" 1 (Option.some Jvm.ClassFile.FieldType.long) D dA H0 hs.2.2.2.2) (e1 : h'.2.2.1 = hs.2.2.1 + mc) (e2 : h'.2.2.2.1 = hs.2.2.2.1 + ms) (a0 : Nat) (hth : jTh hs a0 10) : ∀ (h : jH) (H : Heap) (locs : List Loc) (cells slots : Nat) (ls : Array Slot), (fJ13_longValue a0).1 h = some (r, h') → jS D dA H0 hs h H locs cells slots → lv_has ls 1 [(0, .ref a0)] → W p l e { frames := 0, cells := mc, slots := ms, locals := 0 } s m args below meth c H locs cells slots (jQ D dA H0 below s (.returned (some (.long r))) h' mc ms) (F0 m 0 ls []) := by
  have hx := cx.1
  have hb := cx.2.1
  have hown := cx.2.2.2.1
  have hts := cx.2.2.2.2.1
  have hm : h'.2.2.1 ≤ hs.2.2.1 + mc ∧ h'.2.2.2.1 ≤ hs.2.2.2.1 + ms := ⟨Nat.le_of_eq e1, Nat.le_of_eq e2⟩
  intro h H locs cells slots ls hf hS hl
  unfold fJ13_longValue at hf
  refine lv_aload_n (pc := 0) hx hb dJ13_longValue_0 rfl (lv_at hl 0 rfl) ?_
  refine j_gL (pc := 1) cx hS hf fd_java_lang_Long_value q722 dJ13_longValue_1 (fun y1 hf => ?_)
  exact j_lret (pc := 4) cx hS hf e1 e2 dJ13_longValue_4
theorem metJ13_longValue (l : Launch) (a0 : Nat) (h h' : jH) (r : Int64) (hth : jcd h a0 = some 10) (hf : (fJ13_longValue a0).1 h = some (r, h')) : jMet l yJ13_longValue (ws_ yJ13_longValue cJ13_longValue 1 (Option.some Jvm.ClassFile.FieldType.long)) (0) (0) [.ref a0] h h' (.returned (some (.long r))) := by
  refine jStart rfl (jle hf) (Nat.le_of_ble_eq_true rfl) ?_
  intro p e s m below meth c D dA H0 mc ms ls cx hnm e1 e2 hS hl
  have hth := jTh.mk hS hth
  exact wJ13_longValue_0 cx e1 e2 a0 hth  _ _ _ _ _ _ hf hS hl
def fJ13_init (a0 : Nat) (x1 : Int64) : jM Unit := jB (fJ12_init a0) fun _ => jB (jpL [10] 0 (some a0) x1) fun _ => jR ()
theorem wJ13_init_0 {r : Unit} (cx : jCx p s m args meth c cJ13_init "java/lang/Long" 3 (Option.none : Option Jvm.ClassFile.FieldType) D dA H0 hs.2.2.2.2) (e1 : h'.2.2.1 = hs.2.2.1 + mc) (e2 : h'.2.2.2.1 = hs.2.2.2.1 + ms) (hin : meth.name = "<init>") (a0 : Nat) : ∀ (x1 : Int64), ∀ (h : jH) (H : Heap) (locs : List Loc) (cells slots : Nat) (ls : Array Slot), (fJ13_init a0 x1).1 h = some (r, h') → jS D dA H0 hs h H locs cells slots → lv_has ls 3 [(0, .ref a0), (1, .long x1)] → W p l e { frames := 2, cells := mc, slots := ms, locals := 40 } s m args below meth c H locs cells slots (jQ D dA H0 below s (.returned none) h' mc ms) (F0 m 0 ls []) := by
  have hx := cx.1
  have hb := cx.2.1
  have hown := cx.2.2.2.1
  have hts := cx.2.2.2.2.1
  have hm : h'.2.2.1 ≤ hs.2.2.1 + mc ∧ h'.2.2.2.1 ≤ hs.2.2.2.1 + ms := ⟨Nat.le_of_eq e1, Nat.le_of_eq e2⟩
  intro x1 h H locs cells slots ls hf hS hl
  unfold fJ13_init at hf
  refine lv_aload_n (pc := 0) hx hb dJ13_init_0 rfl (lv_at hl 0 rfl) ?_
  obtain ⟨_, h1, e9, hf⟩ := jB_some hf
  refine j_callI (pc := 1) (st1 := []) (As := []) (rest := []) cx hS rfl hl.1 hm (metJ12_init l _ _ _ _ e9) (jle hf) rfl q720 q719 q718 q132 pdJ12_init rfl rfl (Nat.le_of_ble_eq_true rfl) ⟨Nat.le_of_ble_eq_true rfl, Nat.le_of_ble_eq_true rfl⟩ dJ13_init_1 rfl (fun H locs cells slots hS => ?_)
  refine lv_aload_n (pc := 4) hx hb dJ13_init_4 rfl (lv_at hl 0 rfl) ?_
  refine lv_lload_n (pc := 5) hx hb dJ13_init_5 rfl (lv_at hl 1 rfl) ?_
  refine j_pL (pc := 6) cx hS hf fp_java_lang_Long_value (Or.inr ⟨rfl, hin, rfl⟩) q722 dJ13_init_6 (fun h H locs hf hS => ?_)
  exact j_vret (pc := 9) cx hS hf e1 e2 dJ13_init_9
theorem metJ13_init (l : Launch) (a0 : Nat) (x1 : Int64) (h h' : jH) (r : Unit) (hf : (fJ13_init a0 x1).1 h = some (r, h')) : jMet l yJ13_init (ws_ yJ13_init cJ13_init 3 (Option.none : Option Jvm.ClassFile.FieldType)) (2) (40) [.ref a0, .long x1] h h' (.returned none) := by
  refine jStart rfl (jle hf) (Nat.le_of_ble_eq_true rfl) ?_
  intro p e s m below meth c D dA H0 mc ms ls cx hnm e1 e2 hS hl
  exact wJ13_init_0 cx e1 e2 hnm a0 _ _ _ _ _ _ _ hf hS hl
def fJ13_valueOf_31 (x0 : Int64) : jM (Option Nat) := jB (jnw 10 1 [.long 0]) fun q1 => jB (fJ13_init q1 x0) fun _ => jR (some q1)
def fJ13_valueOf (x0 : Int64) : jM (Option Nat) := if (lg_cmp x0 (-128)) < 0 then (fJ13_valueOf_31 x0) else (if 0 < (lg_cmp x0 127) then (fJ13_valueOf_31 x0) else (jB (jK 53) fun y1 => jB (jaR 8 y1 ((x0.toInt32) + 128)) fun y2 => jR y2))
theorem wJ13_valueOf_31 {r : Option Nat} (cx : jCx p s m args meth c cJ13_valueOf "java/lang/Long" 3 (Option.some (Jvm.ClassFile.FieldType.object "java/lang/Long")) D dA H0 hs.2.2.2.2) (e1 : h'.2.2.1 = hs.2.2.1 + mc) (e2 : h'.2.2.2.1 = hs.2.2.2.1 + ms) : ∀ (x0 : Int64), ∀ (h : jH) (H : Heap) (locs : List Loc) (cells slots : Nat) (ls : Array Slot), (fJ13_valueOf_31 x0).1 h = some (r, h') → jS D dA H0 hs h H locs cells slots → lv_has ls 3 [(0, .long x0)] → W p l e { frames := 3, cells := mc, slots := ms, locals := 62 } s m args below meth c H locs cells slots (jQ D dA H0 below s (.returned (some (va_rf r))) h' mc ms) (F0 m 31 ls []) := by
  have hx := cx.1
  have hb := cx.2.1
  have hown := cx.2.2.2.1
  have hts := cx.2.2.2.2.1
  have hm : h'.2.2.1 ≤ hs.2.2.1 + mc ∧ h'.2.2.2.1 ≤ hs.2.2.2.1 + ms := ⟨Nat.le_of_eq e1, Nat.le_of_eq e2⟩
  intro x0 h H locs cells slots ls hf hS hl
  unfold fJ13_valueOf_31 at hf
  refine j_new (pc := 31) cx hS hf cn_J13 q713 dJ13_valueOf_31 hm (fun q1 h H cells slots hf hS => ?_)
  refine lv_dup (pc := 34) hx hb dJ13_valueOf_34 rfl ?_
  refine lv_lload_n (pc := 35) hx hb dJ13_valueOf_35 rfl (lv_at hl 0 rfl) ?_
  obtain ⟨_, h1, e9, hf⟩ := jB_some hf
  refine j_callI (pc := 36) (st1 := [.ref q1]) (As := [.long x0]) (rest := [.ref q1]) cx hS rfl hl.1 hm (metJ13_init l _ _ _ _ _ e9) (jle hf) rfl q717 q716 q715 q133 pdJ13_init rfl rfl (Nat.le_of_ble_eq_true rfl) ⟨Nat.le_of_ble_eq_true rfl, Nat.le_of_ble_eq_true rfl⟩ dJ13_valueOf_36 rfl (fun H locs cells slots hS => ?_)
  exact j_aret (pc := 39) cx hS hf (Or.inl ⟨_, rfl⟩) e1 e2 dJ13_valueOf_39
theorem wJ13_valueOf_0 {r : Option Nat} (cx : jCx p s m args meth c cJ13_valueOf "java/lang/Long" 3 (Option.some (Jvm.ClassFile.FieldType.object "java/lang/Long")) D dA H0 hs.2.2.2.2) (e1 : h'.2.2.1 = hs.2.2.1 + mc) (e2 : h'.2.2.2.1 = hs.2.2.2.1 + ms) : ∀ (x0 : Int64), ∀ (h : jH) (H : Heap) (locs : List Loc) (cells slots : Nat) (ls : Array Slot), (fJ13_valueOf x0).1 h = some (r, h') → jS D dA H0 hs h H locs cells slots → lv_has ls 3 [(0, .long x0)] → W p l e { frames := 3, cells := mc, slots := ms, locals := 62 } s m args below meth c H locs cells slots (jQ D dA H0 below s (.returned (some (va_rf r))) h' mc ms) (F0 m 0 ls []) := by
  have hx := cx.1
  have hb := cx.2.1
  have hown := cx.2.2.2.1
  have hts := cx.2.2.2.2.1
  have hm : h'.2.2.1 ≤ hs.2.2.1 + mc ∧ h'.2.2.2.1 ≤ hs.2.2.2.1 + ms := ⟨Nat.le_of_eq e1, Nat.le_of_eq e2⟩
  intro x0 h H locs cells slots ls hf hS hl
  unfold fJ13_valueOf at hf
  refine lv_sipush (pc := 0) (v := 128) hx hb dJ13_valueOf_0 rfl ?_
  refine lv_istore_n (pc := 3) (i := 2) (lv' := [(2, .int 128), (0, .long x0)]) hx hb dJ13_valueOf_3 rfl hl (Nat.le_of_ble_eq_true rfl) rfl (fun ls hl => ?_)
  refine lv_lload_n (pc := 4) hx hb dJ13_valueOf_4 rfl (lv_at hl 1 rfl) ?_
  refine lv_ldc2 (pc := 5) (v := (-128)) hx hb hown (hts _ q709) dJ13_valueOf_5 ?_
  refine W.lcmp (pc := 8) hx hb dJ13_valueOf_8 ?_
  refine lv_if_lt (pc := 9) (tgt := 31) hx hb dJ13_valueOf_9 (by decide) (fun hc => ?_) (fun hc => ?_)
  · have hf := jI_t hf hc
    exact wJ13_valueOf_31 cx e1 e2 _ _ _ _ _ _ _ hf hS (lv_sub hl [1] rfl)
  · have hf := jI_f hf hc
    refine lv_lload_n (pc := 12) hx hb dJ13_valueOf_12 rfl (lv_at hl 1 rfl) ?_
    refine lv_ldc2 (pc := 13) (v := 127) hx hb hown (hts _ q710) dJ13_valueOf_13 ?_
    refine W.lcmp (pc := 16) hx hb dJ13_valueOf_16 ?_
    refine lv_if_gt (pc := 17) (tgt := 31) hx hb dJ13_valueOf_17 (by decide) (fun hc => ?_) (fun hc => ?_)
    · have hf := jI_t hf hc
      exact wJ13_valueOf_31 cx e1 e2 _ _ _ _ _ _ _ hf hS (lv_sub hl [1] rfl)
    · have hf := jI_f hf hc
      refine j_getsR (pc := 20) cx hS rfl hf (List.mem_of_getElem? (i := 2) rfl) rfl q711 dJ13_valueOf_20 (fun y1 hf => ?_)
      refine lv_lload_n (pc := 23) hx hb dJ13_valueOf_23 rfl (lv_at hl 1 rfl) ?_
      refine lv_l2i (pc := 24) (v := x0.toInt32) hx hb dJ13_valueOf_24 rfl ?_
      refine lv_sipush (pc := 25) (v := 128) hx hb dJ13_valueOf_25 rfl ?_
      refine lv_iadd (pc := 28) hx hb dJ13_valueOf_28 ?_
      refine j_aR (pc := 29) cx hS hf rfl dJ13_valueOf_29 (fun y2 hf => ?_)
      exact j_aret (pc := 30) cx hS hf (Or.inl ⟨_, rfl⟩) e1 e2 dJ13_valueOf_30
theorem metJ13_valueOf (l : Launch) (x0 : Int64) (h h' : jH) (r : Option Nat) (hf : (fJ13_valueOf x0).1 h = some (r, h')) : jMet l yJ13_valueOf (ws_ yJ13_valueOf cJ13_valueOf 3 (Option.some (Jvm.ClassFile.FieldType.object "java/lang/Long"))) (3) (62) [.long x0] h h' (.returned (some (va_rf r))) := by
  refine jStart rfl (jle hf) (Nat.le_of_ble_eq_true rfl) ?_
  intro p e s m below meth c D dA H0 mc ms ls cx hnm e1 e2 hS hl
  exact wJ13_valueOf_0 cx e1 e2 _ _ _ _ _ _ _ hf hS hl
def fJ16_intValue (a0 : Nat) : jM Int32 := jB (jgI [11] 0 (some a0)) fun y1 => jR y1
theorem wJ16_intValue_0 {r : Int32} (cx : jCx p s m args meth c cJ16_intValue "java/lang/Integer" 1 (Option.some Jvm.ClassFile.FieldType.int) D dA H0 hs.2.2.2.2) (e1 : h'.2.2.1 = hs.2.2.1 + mc) (e2 : h'.2.2.2.1 = hs.2.2.2.1 + ms) (a0 : Nat) (hth : jTh hs a0 11) : ∀ (h : jH) (H : Heap) (locs : List Loc) (cells slots : Nat) (ls : Array Slot), (fJ16_intValue a0).1 h = some (r, h') → jS D dA H0 hs h H locs cells slots → lv_has ls 1 [(0, .ref a0)] → W p l e { frames := 0, cells := mc, slots := ms, locals := 0 } s m args below meth c H locs cells slots (jQ D dA H0 below s (.returned (some (.int r))) h' mc ms) (F0 m 0 ls []) := by
  have hx := cx.1
  have hb := cx.2.1
  have hown := cx.2.2.2.1
  have hts := cx.2.2.2.2.1
  have hm : h'.2.2.1 ≤ hs.2.2.1 + mc ∧ h'.2.2.2.1 ≤ hs.2.2.2.1 + ms := ⟨Nat.le_of_eq e1, Nat.le_of_eq e2⟩
  intro h H locs cells slots ls hf hS hl
  unfold fJ16_intValue at hf
  refine lv_aload_n (pc := 0) hx hb dJ16_intValue_0 rfl (lv_at hl 0 rfl) ?_
  refine j_gI (pc := 1) cx hS hf fd_java_lang_Integer_value q812 dJ16_intValue_1 (fun y1 hf => ?_)
  exact j_iret (pc := 4) cx hS hf e1 e2 dJ16_intValue_4
theorem metJ16_intValue (l : Launch) (a0 : Nat) (h h' : jH) (r : Int32) (hth : jcd h a0 = some 11) (hf : (fJ16_intValue a0).1 h = some (r, h')) : jMet l yJ16_intValue (ws_ yJ16_intValue cJ16_intValue 1 (Option.some Jvm.ClassFile.FieldType.int)) (0) (0) [.ref a0] h h' (.returned (some (.int r))) := by
  refine jStart rfl (jle hf) (Nat.le_of_ble_eq_true rfl) ?_
  intro p e s m below meth c D dA H0 mc ms ls cx hnm e1 e2 hS hl
  have hth := jTh.mk hS hth
  exact wJ16_intValue_0 cx e1 e2 a0 hth  _ _ _ _ _ _ hf hS hl
def fJ16_init (a0 : Nat) (x1 : Int32) : jM Unit := jB (fJ12_init a0) fun _ => jB (jpI [11] 0 (some a0) x1) fun _ => jR ()
theorem wJ16_init_0 {r : Unit} (cx : jCx p s m args meth c cJ16_init "java/lang/Integer" 2 (Option.none : Option Jvm.ClassFile.FieldType) D dA H0 hs.2.2.2.2) (e1 : h'.2.2.1 = hs.2.2.1 + mc) (e2 : h'.2.2.2.1 = hs.2.2.2.1 + ms) (hin : meth.name = "<init>") (a0 : Nat) : ∀ (x1 : Int32), ∀ (h : jH) (H : Heap) (locs : List Loc) (cells slots : Nat) (ls : Array Slot), (fJ16_init a0 x1).1 h = some (r, h') → jS D dA H0 hs h H locs cells slots → lv_has ls 2 [(0, .ref a0), (1, .int x1)] → W p l e { frames := 2, cells := mc, slots := ms, locals := 40 } s m args below meth c H locs cells slots (jQ D dA H0 below s (.returned none) h' mc ms) (F0 m 0 ls []) := by
  have hx := cx.1
  have hb := cx.2.1
  have hown := cx.2.2.2.1
  have hts := cx.2.2.2.2.1
  have hm : h'.2.2.1 ≤ hs.2.2.1 + mc ∧ h'.2.2.2.1 ≤ hs.2.2.2.1 + ms := ⟨Nat.le_of_eq e1, Nat.le_of_eq e2⟩
  intro x1 h H locs cells slots ls hf hS hl
  unfold fJ16_init at hf
  refine lv_aload_n (pc := 0) hx hb dJ16_init_0 rfl (lv_at hl 0 rfl) ?_
  obtain ⟨_, h1, e9, hf⟩ := jB_some hf
  refine j_callI (pc := 1) (st1 := []) (As := []) (rest := []) cx hS rfl hl.1 hm (metJ12_init l _ _ _ _ e9) (jle hf) rfl q720 q719 q811 q132 pdJ12_init rfl rfl (Nat.le_of_ble_eq_true rfl) ⟨Nat.le_of_ble_eq_true rfl, Nat.le_of_ble_eq_true rfl⟩ dJ16_init_1 rfl (fun H locs cells slots hS => ?_)
  refine lv_aload_n (pc := 4) hx hb dJ16_init_4 rfl (lv_at hl 0 rfl) ?_
  refine lv_iload_n (pc := 5) hx hb dJ16_init_5 rfl (lv_at hl 1 rfl) ?_
  refine j_pI (pc := 6) cx hS hf fp_java_lang_Integer_value (Or.inr ⟨rfl, hin, rfl⟩) q812 dJ16_init_6 (fun h H locs hf hS => ?_)
  exact j_vret (pc := 9) cx hS hf e1 e2 dJ16_init_9
theorem metJ16_init (l : Launch) (a0 : Nat) (x1 : Int32) (h h' : jH) (r : Unit) (hf : (fJ16_init a0 x1).1 h = some (r, h')) : jMet l yJ16_init (ws_ yJ16_init cJ16_init 2 (Option.none : Option Jvm.ClassFile.FieldType)) (2) (40) [.ref a0, .int x1] h h' (.returned none) := by
  refine jStart rfl (jle hf) (Nat.le_of_ble_eq_true rfl) ?_
  intro p e s m below meth c D dA H0 mc ms ls cx hnm e1 e2 hS hl
  exact wJ16_init_0 cx e1 e2 hnm a0 _ _ _ _ _ _ _ hf hS hl
def fJ16_valueOf_23 (x0 : Int32) : jM (Option Nat) := jB (jnw 11 1 [.int 0]) fun q1 => jB (fJ16_init q1 x0) fun _ => jR (some q1)
def fJ16_valueOf (x0 : Int32) : jM (Option Nat) := if x0 < (-128) then (fJ16_valueOf_23 x0) else (if 127 < x0 then (fJ16_valueOf_23 x0) else (jB (jK 54) fun y1 => jB (jaR 7 y1 (x0 + 128)) fun y2 => jR y2))
theorem wJ16_valueOf_23 {r : Option Nat} (cx : jCx p s m args meth c cJ16_valueOf "java/lang/Integer" 1 (Option.some (Jvm.ClassFile.FieldType.object "java/lang/Integer")) D dA H0 hs.2.2.2.2) (e1 : h'.2.2.1 = hs.2.2.1 + mc) (e2 : h'.2.2.2.1 = hs.2.2.2.1 + ms) : ∀ (x0 : Int32), ∀ (h : jH) (H : Heap) (locs : List Loc) (cells slots : Nat) (ls : Array Slot), (fJ16_valueOf_23 x0).1 h = some (r, h') → jS D dA H0 hs h H locs cells slots → lv_has ls 1 [(0, .int x0)] → W p l e { frames := 3, cells := mc, slots := ms, locals := 61 } s m args below meth c H locs cells slots (jQ D dA H0 below s (.returned (some (va_rf r))) h' mc ms) (F0 m 23 ls []) := by
  have hx := cx.1
  have hb := cx.2.1
  have hown := cx.2.2.2.1
  have hts := cx.2.2.2.2.1
  have hm : h'.2.2.1 ≤ hs.2.2.1 + mc ∧ h'.2.2.2.1 ≤ hs.2.2.2.1 + ms := ⟨Nat.le_of_eq e1, Nat.le_of_eq e2⟩
  intro x0 h H locs cells slots ls hf hS hl
  unfold fJ16_valueOf_23 at hf
  refine j_new (pc := 23) cx hS hf cn_J16 q806 dJ16_valueOf_23 hm (fun q1 h H cells slots hf hS => ?_)
  refine lv_dup (pc := 26) hx hb dJ16_valueOf_26 rfl ?_
  refine lv_iload_n (pc := 27) hx hb dJ16_valueOf_27 rfl (lv_at hl 0 rfl) ?_
  obtain ⟨_, h1, e9, hf⟩ := jB_some hf
  refine j_callI (pc := 28) (st1 := [.ref q1]) (As := [.int x0]) (rest := [.ref q1]) cx hS rfl hl.1 hm (metJ16_init l _ _ _ _ _ e9) (jle hf) rfl q810 q809 q808 q138 pdJ16_init rfl rfl (Nat.le_of_ble_eq_true rfl) ⟨Nat.le_of_ble_eq_true rfl, Nat.le_of_ble_eq_true rfl⟩ dJ16_valueOf_28 rfl (fun H locs cells slots hS => ?_)
  exact j_aret (pc := 31) cx hS hf (Or.inl ⟨_, rfl⟩) e1 e2 dJ16_valueOf_31
theorem wJ16_valueOf_0 {r : Option Nat} (cx : jCx p s m args meth c cJ16_valueOf "java/lang/Integer" 1 (Option.some (Jvm.ClassFile.FieldType.object "java/lang/Integer")) D dA H0 hs.2.2.2.2) (e1 : h'.2.2.1 = hs.2.2.1 + mc) (e2 : h'.2.2.2.1 = hs.2.2.2.1 + ms) : ∀ (x0 : Int32), ∀ (h : jH) (H : Heap) (locs : List Loc) (cells slots : Nat) (ls : Array Slot), (fJ16_valueOf x0).1 h = some (r, h') → jS D dA H0 hs h H locs cells slots → lv_has ls 1 [(0, .int x0)] → W p l e { frames := 3, cells := mc, slots := ms, locals := 61 } s m args below meth c H locs cells slots (jQ D dA H0 below s (.returned (some (va_rf r))) h' mc ms) (F0 m 0 ls []) := by
  have hx := cx.1
  have hb := cx.2.1
  have hown := cx.2.2.2.1
  have hts := cx.2.2.2.2.1
  have hm : h'.2.2.1 ≤ hs.2.2.1 + mc ∧ h'.2.2.2.1 ≤ hs.2.2.2.1 + ms := ⟨Nat.le_of_eq e1, Nat.le_of_eq e2⟩
  intro x0 h H locs cells slots ls hf hS hl
  unfold fJ16_valueOf at hf
  refine lv_iload_n (pc := 0) hx hb dJ16_valueOf_0 rfl (lv_at hl 0 rfl) ?_
  refine lv_bipush (pc := 1) (v := (-128)) hx hb dJ16_valueOf_1 rfl ?_
  refine lv_icmp_lt (pc := 3) (tgt := 23) hx hb dJ16_valueOf_3 (by decide) (fun hc => ?_) (fun hc => ?_)
  · have hf := jI_t hf hc
    exact wJ16_valueOf_23 cx e1 e2 _ _ _ _ _ _ _ hf hS hl
  · have hf := jI_f hf hc
    refine lv_iload_n (pc := 6) hx hb dJ16_valueOf_6 rfl (lv_at hl 0 rfl) ?_
    refine j_gets (pc := 7) (v := .int 127) cx hS (List.mem_of_getElem? (i := 4) rfl) rfl q802 dJ16_valueOf_7 ?_
    refine lv_icmp_gt (pc := 10) (tgt := 23) hx hb dJ16_valueOf_10 (by decide) (fun hc => ?_) (fun hc => ?_)
    · have hf := jI_t hf hc
      exact wJ16_valueOf_23 cx e1 e2 _ _ _ _ _ _ _ hf hS hl
    · have hf := jI_f hf hc
      refine j_getsR (pc := 13) cx hS rfl hf (List.mem_of_getElem? (i := 3) rfl) rfl q804 dJ16_valueOf_13 (fun y1 hf => ?_)
      refine lv_iload_n (pc := 16) hx hb dJ16_valueOf_16 rfl (lv_at hl 0 rfl) ?_
      refine lv_sipush (pc := 17) (v := 128) hx hb dJ16_valueOf_17 rfl ?_
      refine lv_iadd (pc := 20) hx hb dJ16_valueOf_20 ?_
      refine j_aR (pc := 21) cx hS hf rfl dJ16_valueOf_21 (fun y2 hf => ?_)
      exact j_aret (pc := 22) cx hS hf (Or.inl ⟨_, rfl⟩) e1 e2 dJ16_valueOf_22
theorem metJ16_valueOf (l : Launch) (x0 : Int32) (h h' : jH) (r : Option Nat) (hf : (fJ16_valueOf x0).1 h = some (r, h')) : jMet l yJ16_valueOf (ws_ yJ16_valueOf cJ16_valueOf 1 (Option.some (Jvm.ClassFile.FieldType.object "java/lang/Integer"))) (3) (61) [.int x0] h h' (.returned (some (va_rf r))) := by
  refine jStart rfl (jle hf) (Nat.le_of_ble_eq_true rfl) ?_
  intro p e s m below meth c D dA H0 mc ms ls cx hnm e1 e2 hS hl
  exact wJ16_valueOf_0 cx e1 e2 _ _ _ _ _ _ _ hf hS hl
end
