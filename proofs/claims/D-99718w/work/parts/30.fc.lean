set_option maxRecDepth 100000
section
variable {p : Program} {l : Launch} {e : Env} {s : State} {m : MethodId} {args : Array Value} {below : List Frame} {meth : Method} {c : Code} {D : va_G} {dA : Nat → ClassId → Prop} {H0 : Heap} {hs h' : jH} {mc ms : Nat}
def fX5_init (a0 : Nat) : jM Unit := jB (jnaI 0 4) fun q1 => jB (jpR [5] 0 (some a0) (some q1)) fun _ => jR ()
theorem wX5_init_0 {r : Unit} (cx : jCx p s m args meth c cX5_init "WornSkin$Facts" 1 (Option.none : Option Jvm.ClassFile.FieldType) D dA H0 hs.2.2.2.2) (e1 : h'.2.2.1 = hs.2.2.1 + mc) (e2 : h'.2.2.2.1 = hs.2.2.2.1 + ms) (hin : meth.name = "<init>") (a0 : Nat) : ∀ (h : jH) (H : Heap) (locs : List Loc) (cells slots : Nat) (ls : Array Slot), (fX5_init a0).1 h = some (r, h') → jS D dA H0 hs h H locs cells slots → lv_has ls 1 [(0, .ref a0)] → W p l e { frames := 1, cells := mc, slots := ms, locals := 20 } s m args below meth c H locs cells slots (jQ D dA H0 below s (.returned none) h' mc ms) (F0 m 0 ls []) := by
  have hx := cx.1
  have hb := cx.2.1
  have hown := cx.2.2.2.1
  have hts := cx.2.2.2.2.1
  have hm : h'.2.2.1 ≤ hs.2.2.1 + mc ∧ h'.2.2.2.1 ≤ hs.2.2.2.1 + ms := ⟨Nat.le_of_eq e1, Nat.le_of_eq e2⟩
  intro h H locs cells slots ls hf hS hl
  unfold fX5_init at hf
  refine lv_aload_n (pc := 0) hx hb dX5_init_0 rfl (lv_at hl 0 rfl) ?_
  refine j_objInit (pc := 1) cx q321 q171 q172 hl.1 dX5_init_1 (Nat.le_of_ble_eq_true rfl) (Nat.le_of_ble_eq_true rfl) ?_
  refine lv_aload_n (pc := 4) hx hb dX5_init_4 rfl (lv_at hl 0 rfl) ?_
  refine lv_iconst (pc := 5) (v := 4) hx hb dX5_init_5 rfl ?_
  refine j_naG (pc := 6) cx hS hf (ty := .int) rfl rfl (fun _ => rfl) (by decide) q247 dX5_init_6 (fun _ hh => by cases hh) hm (fun q1 h H cells slots hf hS => ?_)
  refine j_pRa (pc := 8) cx hS hf fp_WornSkin_Facts_of (Or.inr ⟨rfl, hin, rfl⟩) q322 dX5_init_8 (fun h H locs hf hS => ?_)
  exact j_vret (pc := 11) cx hS hf e1 e2 dX5_init_11
theorem metX5_init (l : Launch) (a0 : Nat) (h h' : jH) (r : Unit) (hf : (fX5_init a0).1 h = some (r, h')) : jMet l yX5_init (ws_ yX5_init cX5_init 1 (Option.none : Option Jvm.ClassFile.FieldType)) (1) (20) [.ref a0] h h' (.returned none) := by
  refine jStart rfl (jle hf) (Nat.le_of_ble_eq_true rfl) ?_
  intro p e s m below meth c D dA H0 mc ms ls cx hnm e1 e2 hS hl
  exact wX5_init_0 cx e1 e2 hnm a0  _ _ _ _ _ _ hf hS hl
def fX14_init (a0 : Nat) : jM Unit := jR ()
theorem wX14_init_0 {r : Unit} (cx : jCx p s m args meth c cX14_init "WornSkin$Expression" 1 (Option.none : Option Jvm.ClassFile.FieldType) D dA H0 hs.2.2.2.2) (e1 : h'.2.2.1 = hs.2.2.1 + mc) (e2 : h'.2.2.2.1 = hs.2.2.2.1 + ms) (hin : meth.name = "<init>") (a0 : Nat) : ∀ (h : jH) (H : Heap) (locs : List Loc) (cells slots : Nat) (ls : Array Slot), (fX14_init a0).1 h = some (r, h') → jS D dA H0 hs h H locs cells slots → lv_has ls 1 [(0, .ref a0)] → W p l e { frames := 1, cells := mc, slots := ms, locals := 20 } s m args below meth c H locs cells slots (jQ D dA H0 below s (.returned none) h' mc ms) (F0 m 0 ls []) := by
  have hx := cx.1
  have hb := cx.2.1
  have hown := cx.2.2.2.1
  have hts := cx.2.2.2.2.1
  have hm : h'.2.2.1 ≤ hs.2.2.1 + mc ∧ h'.2.2.2.1 ≤ hs.2.2.2.1 + ms := ⟨Nat.le_of_eq e1, Nat.le_of_eq e2⟩
  intro h H locs cells slots ls hf hS hl
  unfold fX14_init at hf
  refine lv_aload_n (pc := 0) hx hb dX14_init_0 rfl (lv_at hl 0 rfl) ?_
  refine j_objInit (pc := 1) cx q971 q171 q172 hl.1 dX14_init_1 (Nat.le_of_ble_eq_true rfl) (Nat.le_of_ble_eq_true rfl) ?_
  exact j_vret (pc := 4) cx hS hf e1 e2 dX14_init_4
theorem metX14_init (l : Launch) (a0 : Nat) (h h' : jH) (r : Unit) (hf : (fX14_init a0).1 h = some (r, h')) : jMet l yX14_init (ws_ yX14_init cX14_init 1 (Option.none : Option Jvm.ClassFile.FieldType)) (1) (20) [.ref a0] h h' (.returned none) := by
  refine jStart rfl (jle hf) (Nat.le_of_ble_eq_true rfl) ?_
  intro p e s m below meth c D dA H0 mc ms ls cx hnm e1 e2 hS hl
  exact wX14_init_0 cx e1 e2 hnm a0  _ _ _ _ _ _ hf hS hl
def fX16_init (a0 : Nat) (x1 : Int32) : jM Unit := jB (fX14_init a0) fun _ => jB (jpI [18] 0 (some a0) x1) fun _ => jR ()
theorem wX16_init_0 {r : Unit} (cx : jCx p s m args meth c cX16_init "WornSkin$Plain" 2 (Option.none : Option Jvm.ClassFile.FieldType) D dA H0 hs.2.2.2.2) (e1 : h'.2.2.1 = hs.2.2.1 + mc) (e2 : h'.2.2.2.1 = hs.2.2.2.1 + ms) (hin : meth.name = "<init>") (a0 : Nat) : ∀ (x1 : Int32), ∀ (h : jH) (H : Heap) (locs : List Loc) (cells slots : Nat) (ls : Array Slot), (fX16_init a0 x1).1 h = some (r, h') → jS D dA H0 hs h H locs cells slots → lv_has ls 2 [(0, .ref a0), (1, .int x1)] → W p l e { frames := 2, cells := mc, slots := ms, locals := 40 } s m args below meth c H locs cells slots (jQ D dA H0 below s (.returned none) h' mc ms) (F0 m 0 ls []) := by
  have hx := cx.1
  have hb := cx.2.1
  have hown := cx.2.2.2.1
  have hts := cx.2.2.2.2.1
  have hm : h'.2.2.1 ≤ hs.2.2.1 + mc ∧ h'.2.2.2.1 ≤ hs.2.2.2.1 + ms := ⟨Nat.le_of_eq e1, Nat.le_of_eq e2⟩
  intro x1 h H locs cells slots ls hf hS hl
  unfold fX16_init at hf
  refine lv_aload_n (pc := 0) hx hb dX16_init_0 rfl (lv_at hl 0 rfl) ?_
  obtain ⟨_, h1, e9, hf⟩ := jB_some hf
  refine j_callIN (pc := 1) (st1 := []) (As := []) (rest := []) cx hS rfl hl.1 hm (metX14_init l _ _ _ _ e9) (jle hf) rfl q970 q969 q981 q145 pdX14_init rfl rfl (Nat.le_of_ble_eq_true rfl) ⟨Nat.le_of_ble_eq_true rfl, Nat.le_of_ble_eq_true rfl⟩ dX16_init_1 rfl (fun H locs cells slots hS => ?_)
  refine lv_aload_n (pc := 4) hx hb dX16_init_4 rfl (lv_at hl 0 rfl) ?_
  refine lv_iload_n (pc := 5) hx hb dX16_init_5 rfl (lv_at hl 1 rfl) ?_
  refine j_pI (pc := 6) cx hS hf fp_WornSkin_Plain_n (Or.inr ⟨rfl, hin, rfl⟩) q982 dX16_init_6 (fun h H locs hf hS => ?_)
  exact j_vret (pc := 9) cx hS hf e1 e2 dX16_init_9
theorem metX16_init (l : Launch) (a0 : Nat) (x1 : Int32) (h h' : jH) (r : Unit) (hf : (fX16_init a0 x1).1 h = some (r, h')) : jMet l yX16_init (ws_ yX16_init cX16_init 2 (Option.none : Option Jvm.ClassFile.FieldType)) (2) (40) [.ref a0, .int x1] h h' (.returned none) := by
  refine jStart rfl (jle hf) (Nat.le_of_ble_eq_true rfl) ?_
  intro p e s m below meth c D dA H0 mc ms ls cx hnm e1 e2 hS hl
  exact wX16_init_0 cx e1 e2 hnm a0 _ _ _ _ _ _ _ hf hS hl
def fX15_init (a0 : Nat) (x1 : Int32) : jM Unit := jB (fX14_init a0) fun _ => jB (jpI [17] 0 (some a0) x1) fun _ => jR ()
theorem wX15_init_0 {r : Unit} (cx : jCx p s m args meth c cX15_init "WornSkin$Fact" 2 (Option.none : Option Jvm.ClassFile.FieldType) D dA H0 hs.2.2.2.2) (e1 : h'.2.2.1 = hs.2.2.1 + mc) (e2 : h'.2.2.2.1 = hs.2.2.2.1 + ms) (hin : meth.name = "<init>") (a0 : Nat) : ∀ (x1 : Int32), ∀ (h : jH) (H : Heap) (locs : List Loc) (cells slots : Nat) (ls : Array Slot), (fX15_init a0 x1).1 h = some (r, h') → jS D dA H0 hs h H locs cells slots → lv_has ls 2 [(0, .ref a0), (1, .int x1)] → W p l e { frames := 2, cells := mc, slots := ms, locals := 40 } s m args below meth c H locs cells slots (jQ D dA H0 below s (.returned none) h' mc ms) (F0 m 0 ls []) := by
  have hx := cx.1
  have hb := cx.2.1
  have hown := cx.2.2.2.1
  have hts := cx.2.2.2.2.1
  have hm : h'.2.2.1 ≤ hs.2.2.1 + mc ∧ h'.2.2.2.1 ≤ hs.2.2.2.1 + ms := ⟨Nat.le_of_eq e1, Nat.le_of_eq e2⟩
  intro x1 h H locs cells slots ls hf hS hl
  unfold fX15_init at hf
  refine lv_aload_n (pc := 0) hx hb dX15_init_0 rfl (lv_at hl 0 rfl) ?_
  obtain ⟨_, h1, e9, hf⟩ := jB_some hf
  refine j_callIN (pc := 1) (st1 := []) (As := []) (rest := []) cx hS rfl hl.1 hm (metX14_init l _ _ _ _ e9) (jle hf) rfl q970 q969 q968 q145 pdX14_init rfl rfl (Nat.le_of_ble_eq_true rfl) ⟨Nat.le_of_ble_eq_true rfl, Nat.le_of_ble_eq_true rfl⟩ dX15_init_1 rfl (fun H locs cells slots hS => ?_)
  refine lv_aload_n (pc := 4) hx hb dX15_init_4 rfl (lv_at hl 0 rfl) ?_
  refine lv_iload_n (pc := 5) hx hb dX15_init_5 rfl (lv_at hl 1 rfl) ?_
  refine j_pI (pc := 6) cx hS hf fp_WornSkin_Fact_which (Or.inr ⟨rfl, hin, rfl⟩) q972 dX15_init_6 (fun h H locs hf hS => ?_)
  exact j_vret (pc := 9) cx hS hf e1 e2 dX15_init_9
theorem metX15_init (l : Launch) (a0 : Nat) (x1 : Int32) (h h' : jH) (r : Unit) (hf : (fX15_init a0 x1).1 h = some (r, h')) : jMet l yX15_init (ws_ yX15_init cX15_init 2 (Option.none : Option Jvm.ClassFile.FieldType)) (2) (40) [.ref a0, .int x1] h h' (.returned none) := by
  refine jStart rfl (jle hf) (Nat.le_of_ble_eq_true rfl) ?_
  intro p e s m below meth c D dA H0 mc ms ls cx hnm e1 e2 hS hl
  exact wX15_init_0 cx e1 e2 hnm a0 _ _ _ _ _ _ _ hf hS hl
def fX17_init (a0 : Nat) (x1 : Option Nat) : jM Unit := jB (fX14_init a0) fun _ => jB (jpR [19] 0 (some a0) x1) fun _ => jR ()
theorem wX17_init_0 {r : Unit} (cx : jCx p s m args meth c cX17_init "WornSkin$Not" 2 (Option.none : Option Jvm.ClassFile.FieldType) D dA H0 hs.2.2.2.2) (e1 : h'.2.2.1 = hs.2.2.1 + mc) (e2 : h'.2.2.2.1 = hs.2.2.2.1 + ms) (hin : meth.name = "<init>") (a0 : Nat) : ∀ (x1 : Option Nat), ∀ (h : jH) (H : Heap) (locs : List Loc) (cells slots : Nat) (ls : Array Slot), (fX17_init a0 x1).1 h = some (r, h') → jS D dA H0 hs h H locs cells slots → lv_has ls 2 [(0, .ref a0), (1, va_rf x1)] → W p l e { frames := 2, cells := mc, slots := ms, locals := 40 } s m args below meth c H locs cells slots (jQ D dA H0 below s (.returned none) h' mc ms) (F0 m 0 ls []) := by
  have hx := cx.1
  have hb := cx.2.1
  have hown := cx.2.2.2.1
  have hts := cx.2.2.2.2.1
  have hm : h'.2.2.1 ≤ hs.2.2.1 + mc ∧ h'.2.2.2.1 ≤ hs.2.2.2.1 + ms := ⟨Nat.le_of_eq e1, Nat.le_of_eq e2⟩
  intro x1 h H locs cells slots ls hf hS hl
  unfold fX17_init at hf
  refine lv_aload_n (pc := 0) hx hb dX17_init_0 rfl (lv_at hl 0 rfl) ?_
  obtain ⟨_, h1, e9, hf⟩ := jB_some hf
  refine j_callIN (pc := 1) (st1 := []) (As := []) (rest := []) cx hS rfl hl.1 hm (metX14_init l _ _ _ _ e9) (jle hf) rfl q970 q969 q991 q145 pdX14_init rfl rfl (Nat.le_of_ble_eq_true rfl) ⟨Nat.le_of_ble_eq_true rfl, Nat.le_of_ble_eq_true rfl⟩ dX17_init_1 rfl (fun H locs cells slots hS => ?_)
  refine lv_aload_n (pc := 4) hx hb dX17_init_4 rfl (lv_at hl 0 rfl) ?_
  refine j_aload_n (pc := 5) (r := x1) hx hb dX17_init_5 rfl (lv_at hl 1 rfl) ?_
  refine j_pR (pc := 6) cx hS hf fp_WornSkin_Not_e (Or.inr ⟨rfl, hin, rfl⟩) q992 dX17_init_6 (fun h H locs hf hS => ?_)
  exact j_vret (pc := 9) cx hS hf e1 e2 dX17_init_9
theorem metX17_init (l : Launch) (a0 : Nat) (x1 : Option Nat) (h h' : jH) (r : Unit) (hf : (fX17_init a0 x1).1 h = some (r, h')) : jMet l yX17_init (ws_ yX17_init cX17_init 2 (Option.none : Option Jvm.ClassFile.FieldType)) (2) (40) [.ref a0, va_rf x1] h h' (.returned none) := by
  refine jStart rfl (jle hf) (by cases x1 <;> exact Nat.le_of_ble_eq_true rfl) ?_
  intro p e s m below meth c D dA H0 mc ms ls cx hnm e1 e2 hS hl
  have hl : lv_has ls 2 [(0, .ref a0), (1, va_rf x1)] := by cases x1 <;> exact hl
  exact wX17_init_0 cx e1 e2 hnm a0 _ _ _ _ _ _ _ hf hS hl
def fX19_init (a0 : Nat) (x1 : Option Nat) : jM Unit := jB (jpR [21, 22, 23, 24, 25, 26, 27] 0 (some a0) x1) fun _ => jR ()
theorem wX19_init_0 {r : Unit} (cx : jCx p s m args meth c cX19_init "WornSkin$Link" 2 (Option.none : Option Jvm.ClassFile.FieldType) D dA H0 hs.2.2.2.2) (e1 : h'.2.2.1 = hs.2.2.1 + mc) (e2 : h'.2.2.2.1 = hs.2.2.2.1 + ms) (hin : meth.name = "<init>") (a0 : Nat) : ∀ (x1 : Option Nat), ∀ (h : jH) (H : Heap) (locs : List Loc) (cells slots : Nat) (ls : Array Slot), (fX19_init a0 x1).1 h = some (r, h') → jS D dA H0 hs h H locs cells slots → lv_has ls 2 [(0, .ref a0), (1, va_rf x1)] → W p l e { frames := 1, cells := mc, slots := ms, locals := 20 } s m args below meth c H locs cells slots (jQ D dA H0 below s (.returned none) h' mc ms) (F0 m 0 ls []) := by
  have hx := cx.1
  have hb := cx.2.1
  have hown := cx.2.2.2.1
  have hts := cx.2.2.2.2.1
  have hm : h'.2.2.1 ≤ hs.2.2.1 + mc ∧ h'.2.2.2.1 ≤ hs.2.2.2.1 + ms := ⟨Nat.le_of_eq e1, Nat.le_of_eq e2⟩
  intro x1 h H locs cells slots ls hf hS hl
  unfold fX19_init at hf
  refine lv_aload_n (pc := 0) hx hb dX19_init_0 rfl (lv_at hl 0 rfl) ?_
  refine j_objInit (pc := 1) cx q1031 q171 q172 hl.1 dX19_init_1 (Nat.le_of_ble_eq_true rfl) (Nat.le_of_ble_eq_true rfl) ?_
  refine lv_aload_n (pc := 4) hx hb dX19_init_4 rfl (lv_at hl 0 rfl) ?_
  refine j_aload_n (pc := 5) (r := x1) hx hb dX19_init_5 rfl (lv_at hl 1 rfl) ?_
  refine j_pR (pc := 6) cx hS hf fp_WornSkin_Link_e (Or.inr ⟨rfl, hin, rfl⟩) q1032 dX19_init_6 (fun h H locs hf hS => ?_)
  exact j_vret (pc := 9) cx hS hf e1 e2 dX19_init_9
theorem metX19_init (l : Launch) (a0 : Nat) (x1 : Option Nat) (h h' : jH) (r : Unit) (hf : (fX19_init a0 x1).1 h = some (r, h')) : jMet l yX19_init (ws_ yX19_init cX19_init 2 (Option.none : Option Jvm.ClassFile.FieldType)) (1) (20) [.ref a0, va_rf x1] h h' (.returned none) := by
  refine jStart rfl (jle hf) (by cases x1 <;> exact Nat.le_of_ble_eq_true rfl) ?_
  intro p e s m below meth c D dA H0 mc ms ls cx hnm e1 e2 hS hl
  have hl : lv_has ls 2 [(0, .ref a0), (1, va_rf x1)] := by cases x1 <;> exact hl
  exact wX19_init_0 cx e1 e2 hnm a0 _ _ _ _ _ _ _ hf hS hl
def fX21_init (a0 : Nat) (x1 : Option Nat) : jM Unit := jB (fX19_init a0 x1) fun _ => jR ()
theorem wX21_init_0 {r : Unit} (cx : jCx p s m args meth c cX21_init "WornSkin$Plus" 2 (Option.none : Option Jvm.ClassFile.FieldType) D dA H0 hs.2.2.2.2) (e1 : h'.2.2.1 = hs.2.2.1 + mc) (e2 : h'.2.2.2.1 = hs.2.2.2.1 + ms) (hin : meth.name = "<init>") (a0 : Nat) : ∀ (x1 : Option Nat), ∀ (h : jH) (H : Heap) (locs : List Loc) (cells slots : Nat) (ls : Array Slot), (fX21_init a0 x1).1 h = some (r, h') → jS D dA H0 hs h H locs cells slots → lv_has ls 2 [(0, .ref a0), (1, va_rf x1)] → W p l e { frames := 2, cells := mc, slots := ms, locals := 41 } s m args below meth c H locs cells slots (jQ D dA H0 below s (.returned none) h' mc ms) (F0 m 0 ls []) := by
  have hx := cx.1
  have hb := cx.2.1
  have hown := cx.2.2.2.1
  have hts := cx.2.2.2.2.1
  have hm : h'.2.2.1 ≤ hs.2.2.1 + mc ∧ h'.2.2.2.1 ≤ hs.2.2.2.1 + ms := ⟨Nat.le_of_eq e1, Nat.le_of_eq e2⟩
  intro x1 h H locs cells slots ls hf hS hl
  unfold fX21_init at hf
  refine lv_aload_n (pc := 0) hx hb dX21_init_0 rfl (lv_at hl 0 rfl) ?_
  refine j_aload_n (pc := 1) (r := x1) hx hb dX21_init_1 rfl (lv_at hl 1 rfl) ?_
  obtain ⟨_, h1, e9, hf⟩ := jB_some hf
  refine j_callI (pc := 2) (st1 := []) (As := [va_rf x1]) (rest := []) cx hS rfl hl.1 hm (metX19_init l _ _ _ _ _ e9) (jle hf) rfl q1030 q1029 q1041 q150 pdX19_init rfl rfl (Nat.le_of_ble_eq_true rfl) ⟨Nat.le_of_ble_eq_true rfl, Nat.le_of_ble_eq_true rfl⟩ dX21_init_2 rfl (fun H locs cells slots hS => ?_)
  exact j_vret (pc := 5) cx hS hf e1 e2 dX21_init_5
theorem metX21_init (l : Launch) (a0 : Nat) (x1 : Option Nat) (h h' : jH) (r : Unit) (hf : (fX21_init a0 x1).1 h = some (r, h')) : jMet l yX21_init (ws_ yX21_init cX21_init 2 (Option.none : Option Jvm.ClassFile.FieldType)) (2) (41) [.ref a0, va_rf x1] h h' (.returned none) := by
  refine jStart rfl (jle hf) (by cases x1 <;> exact Nat.le_of_ble_eq_true rfl) ?_
  intro p e s m below meth c D dA H0 mc ms ls cx hnm e1 e2 hS hl
  have hl : lv_has ls 2 [(0, .ref a0), (1, va_rf x1)] := by cases x1 <;> exact hl
  exact wX21_init_0 cx e1 e2 hnm a0 _ _ _ _ _ _ _ hf hS hl
def fX22_init (a0 : Nat) (x1 : Option Nat) : jM Unit := jB (fX19_init a0 x1) fun _ => jR ()
theorem wX22_init_0 {r : Unit} (cx : jCx p s m args meth c cX22_init "WornSkin$Minus" 2 (Option.none : Option Jvm.ClassFile.FieldType) D dA H0 hs.2.2.2.2) (e1 : h'.2.2.1 = hs.2.2.1 + mc) (e2 : h'.2.2.2.1 = hs.2.2.2.1 + ms) (hin : meth.name = "<init>") (a0 : Nat) : ∀ (x1 : Option Nat), ∀ (h : jH) (H : Heap) (locs : List Loc) (cells slots : Nat) (ls : Array Slot), (fX22_init a0 x1).1 h = some (r, h') → jS D dA H0 hs h H locs cells slots → lv_has ls 2 [(0, .ref a0), (1, va_rf x1)] → W p l e { frames := 2, cells := mc, slots := ms, locals := 41 } s m args below meth c H locs cells slots (jQ D dA H0 below s (.returned none) h' mc ms) (F0 m 0 ls []) := by
  have hx := cx.1
  have hb := cx.2.1
  have hown := cx.2.2.2.1
  have hts := cx.2.2.2.2.1
  have hm : h'.2.2.1 ≤ hs.2.2.1 + mc ∧ h'.2.2.2.1 ≤ hs.2.2.2.1 + ms := ⟨Nat.le_of_eq e1, Nat.le_of_eq e2⟩
  intro x1 h H locs cells slots ls hf hS hl
  unfold fX22_init at hf
  refine lv_aload_n (pc := 0) hx hb dX22_init_0 rfl (lv_at hl 0 rfl) ?_
  refine j_aload_n (pc := 1) (r := x1) hx hb dX22_init_1 rfl (lv_at hl 1 rfl) ?_
  obtain ⟨_, h1, e9, hf⟩ := jB_some hf
  refine j_callI (pc := 2) (st1 := []) (As := [va_rf x1]) (rest := []) cx hS rfl hl.1 hm (metX19_init l _ _ _ _ _ e9) (jle hf) rfl q1030 q1029 q1049 q150 pdX19_init rfl rfl (Nat.le_of_ble_eq_true rfl) ⟨Nat.le_of_ble_eq_true rfl, Nat.le_of_ble_eq_true rfl⟩ dX22_init_2 rfl (fun H locs cells slots hS => ?_)
  exact j_vret (pc := 5) cx hS hf e1 e2 dX22_init_5
theorem metX22_init (l : Launch) (a0 : Nat) (x1 : Option Nat) (h h' : jH) (r : Unit) (hf : (fX22_init a0 x1).1 h = some (r, h')) : jMet l yX22_init (ws_ yX22_init cX22_init 2 (Option.none : Option Jvm.ClassFile.FieldType)) (2) (41) [.ref a0, va_rf x1] h h' (.returned none) := by
  refine jStart rfl (jle hf) (by cases x1 <;> exact Nat.le_of_ble_eq_true rfl) ?_
  intro p e s m below meth c D dA H0 mc ms ls cx hnm e1 e2 hS hl
  have hl : lv_has ls 2 [(0, .ref a0), (1, va_rf x1)] := by cases x1 <;> exact hl
  exact wX22_init_0 cx e1 e2 hnm a0 _ _ _ _ _ _ _ hf hS hl
def fX20_init (a0 : Nat) (x1 : Option Nat) : jM Unit := jB (fX19_init a0 x1) fun _ => jR ()
theorem wX20_init_0 {r : Unit} (cx : jCx p s m args meth c cX20_init "WornSkin$Times" 2 (Option.none : Option Jvm.ClassFile.FieldType) D dA H0 hs.2.2.2.2) (e1 : h'.2.2.1 = hs.2.2.1 + mc) (e2 : h'.2.2.2.1 = hs.2.2.2.1 + ms) (hin : meth.name = "<init>") (a0 : Nat) : ∀ (x1 : Option Nat), ∀ (h : jH) (H : Heap) (locs : List Loc) (cells slots : Nat) (ls : Array Slot), (fX20_init a0 x1).1 h = some (r, h') → jS D dA H0 hs h H locs cells slots → lv_has ls 2 [(0, .ref a0), (1, va_rf x1)] → W p l e { frames := 2, cells := mc, slots := ms, locals := 41 } s m args below meth c H locs cells slots (jQ D dA H0 below s (.returned none) h' mc ms) (F0 m 0 ls []) := by
  have hx := cx.1
  have hb := cx.2.1
  have hown := cx.2.2.2.1
  have hts := cx.2.2.2.2.1
  have hm : h'.2.2.1 ≤ hs.2.2.1 + mc ∧ h'.2.2.2.1 ≤ hs.2.2.2.1 + ms := ⟨Nat.le_of_eq e1, Nat.le_of_eq e2⟩
  intro x1 h H locs cells slots ls hf hS hl
  unfold fX20_init at hf
  refine lv_aload_n (pc := 0) hx hb dX20_init_0 rfl (lv_at hl 0 rfl) ?_
  refine j_aload_n (pc := 1) (r := x1) hx hb dX20_init_1 rfl (lv_at hl 1 rfl) ?_
  obtain ⟨_, h1, e9, hf⟩ := jB_some hf
  refine j_callI (pc := 2) (st1 := []) (As := [va_rf x1]) (rest := []) cx hS rfl hl.1 hm (metX19_init l _ _ _ _ _ e9) (jle hf) rfl q1030 q1029 q1028 q150 pdX19_init rfl rfl (Nat.le_of_ble_eq_true rfl) ⟨Nat.le_of_ble_eq_true rfl, Nat.le_of_ble_eq_true rfl⟩ dX20_init_2 rfl (fun H locs cells slots hS => ?_)
  exact j_vret (pc := 5) cx hS hf e1 e2 dX20_init_5
theorem metX20_init (l : Launch) (a0 : Nat) (x1 : Option Nat) (h h' : jH) (r : Unit) (hf : (fX20_init a0 x1).1 h = some (r, h')) : jMet l yX20_init (ws_ yX20_init cX20_init 2 (Option.none : Option Jvm.ClassFile.FieldType)) (2) (41) [.ref a0, va_rf x1] h h' (.returned none) := by
  refine jStart rfl (jle hf) (by cases x1 <;> exact Nat.le_of_ble_eq_true rfl) ?_
  intro p e s m below meth c D dA H0 mc ms ls cx hnm e1 e2 hS hl
  have hl : lv_has ls 2 [(0, .ref a0), (1, va_rf x1)] := by cases x1 <;> exact hl
  exact wX20_init_0 cx e1 e2 hnm a0 _ _ _ _ _ _ _ hf hS hl
def fX25_init (a0 : Nat) (x1 : Option Nat) : jM Unit := jB (fX19_init a0 x1) fun _ => jR ()
theorem wX25_init_0 {r : Unit} (cx : jCx p s m args meth c cX25_init "WornSkin$And" 2 (Option.none : Option Jvm.ClassFile.FieldType) D dA H0 hs.2.2.2.2) (e1 : h'.2.2.1 = hs.2.2.1 + mc) (e2 : h'.2.2.2.1 = hs.2.2.2.1 + ms) (hin : meth.name = "<init>") (a0 : Nat) : ∀ (x1 : Option Nat), ∀ (h : jH) (H : Heap) (locs : List Loc) (cells slots : Nat) (ls : Array Slot), (fX25_init a0 x1).1 h = some (r, h') → jS D dA H0 hs h H locs cells slots → lv_has ls 2 [(0, .ref a0), (1, va_rf x1)] → W p l e { frames := 2, cells := mc, slots := ms, locals := 41 } s m args below meth c H locs cells slots (jQ D dA H0 below s (.returned none) h' mc ms) (F0 m 0 ls []) := by
  have hx := cx.1
  have hb := cx.2.1
  have hown := cx.2.2.2.1
  have hts := cx.2.2.2.2.1
  have hm : h'.2.2.1 ≤ hs.2.2.1 + mc ∧ h'.2.2.2.1 ≤ hs.2.2.2.1 + ms := ⟨Nat.le_of_eq e1, Nat.le_of_eq e2⟩
  intro x1 h H locs cells slots ls hf hS hl
  unfold fX25_init at hf
  refine lv_aload_n (pc := 0) hx hb dX25_init_0 rfl (lv_at hl 0 rfl) ?_
  refine j_aload_n (pc := 1) (r := x1) hx hb dX25_init_1 rfl (lv_at hl 1 rfl) ?_
  obtain ⟨_, h1, e9, hf⟩ := jB_some hf
  refine j_callI (pc := 2) (st1 := []) (As := [va_rf x1]) (rest := []) cx hS rfl hl.1 hm (metX19_init l _ _ _ _ _ e9) (jle hf) rfl q1030 q1029 q1073 q150 pdX19_init rfl rfl (Nat.le_of_ble_eq_true rfl) ⟨Nat.le_of_ble_eq_true rfl, Nat.le_of_ble_eq_true rfl⟩ dX25_init_2 rfl (fun H locs cells slots hS => ?_)
  exact j_vret (pc := 5) cx hS hf e1 e2 dX25_init_5
theorem metX25_init (l : Launch) (a0 : Nat) (x1 : Option Nat) (h h' : jH) (r : Unit) (hf : (fX25_init a0 x1).1 h = some (r, h')) : jMet l yX25_init (ws_ yX25_init cX25_init 2 (Option.none : Option Jvm.ClassFile.FieldType)) (2) (41) [.ref a0, va_rf x1] h h' (.returned none) := by
  refine jStart rfl (jle hf) (by cases x1 <;> exact Nat.le_of_ble_eq_true rfl) ?_
  intro p e s m below meth c D dA H0 mc ms ls cx hnm e1 e2 hS hl
  have hl : lv_has ls 2 [(0, .ref a0), (1, va_rf x1)] := by cases x1 <;> exact hl
  exact wX25_init_0 cx e1 e2 hnm a0 _ _ _ _ _ _ _ hf hS hl
def fX26_init (a0 : Nat) (x1 : Option Nat) : jM Unit := jB (fX19_init a0 x1) fun _ => jR ()
theorem wX26_init_0 {r : Unit} (cx : jCx p s m args meth c cX26_init "WornSkin$Or" 2 (Option.none : Option Jvm.ClassFile.FieldType) D dA H0 hs.2.2.2.2) (e1 : h'.2.2.1 = hs.2.2.1 + mc) (e2 : h'.2.2.2.1 = hs.2.2.2.1 + ms) (hin : meth.name = "<init>") (a0 : Nat) : ∀ (x1 : Option Nat), ∀ (h : jH) (H : Heap) (locs : List Loc) (cells slots : Nat) (ls : Array Slot), (fX26_init a0 x1).1 h = some (r, h') → jS D dA H0 hs h H locs cells slots → lv_has ls 2 [(0, .ref a0), (1, va_rf x1)] → W p l e { frames := 2, cells := mc, slots := ms, locals := 41 } s m args below meth c H locs cells slots (jQ D dA H0 below s (.returned none) h' mc ms) (F0 m 0 ls []) := by
  have hx := cx.1
  have hb := cx.2.1
  have hown := cx.2.2.2.1
  have hts := cx.2.2.2.2.1
  have hm : h'.2.2.1 ≤ hs.2.2.1 + mc ∧ h'.2.2.2.1 ≤ hs.2.2.2.1 + ms := ⟨Nat.le_of_eq e1, Nat.le_of_eq e2⟩
  intro x1 h H locs cells slots ls hf hS hl
  unfold fX26_init at hf
  refine lv_aload_n (pc := 0) hx hb dX26_init_0 rfl (lv_at hl 0 rfl) ?_
  refine j_aload_n (pc := 1) (r := x1) hx hb dX26_init_1 rfl (lv_at hl 1 rfl) ?_
  obtain ⟨_, h1, e9, hf⟩ := jB_some hf
  refine j_callI (pc := 2) (st1 := []) (As := [va_rf x1]) (rest := []) cx hS rfl hl.1 hm (metX19_init l _ _ _ _ _ e9) (jle hf) rfl q1030 q1029 q1081 q150 pdX19_init rfl rfl (Nat.le_of_ble_eq_true rfl) ⟨Nat.le_of_ble_eq_true rfl, Nat.le_of_ble_eq_true rfl⟩ dX26_init_2 rfl (fun H locs cells slots hS => ?_)
  exact j_vret (pc := 5) cx hS hf e1 e2 dX26_init_5
theorem metX26_init (l : Launch) (a0 : Nat) (x1 : Option Nat) (h h' : jH) (r : Unit) (hf : (fX26_init a0 x1).1 h = some (r, h')) : jMet l yX26_init (ws_ yX26_init cX26_init 2 (Option.none : Option Jvm.ClassFile.FieldType)) (2) (41) [.ref a0, va_rf x1] h h' (.returned none) := by
  refine jStart rfl (jle hf) (by cases x1 <;> exact Nat.le_of_ble_eq_true rfl) ?_
  intro p e s m below meth c D dA H0 mc ms ls cx hnm e1 e2 hS hl
  have hl : lv_has ls 2 [(0, .ref a0), (1, va_rf x1)] := by cases x1 <;> exact hl
  exact wX26_init_0 cx e1 e2 hnm a0 _ _ _ _ _ _ _ hf hS hl
def fX23_init (a0 : Nat) (x1 : Option Nat) : jM Unit := jB (fX19_init a0 x1) fun _ => jR ()
theorem wX23_init_0 {r : Unit} (cx : jCx p s m args meth c cX23_init "WornSkin$Less" 2 (Option.none : Option Jvm.ClassFile.FieldType) D dA H0 hs.2.2.2.2) (e1 : h'.2.2.1 = hs.2.2.1 + mc) (e2 : h'.2.2.2.1 = hs.2.2.2.1 + ms) (hin : meth.name = "<init>") (a0 : Nat) : ∀ (x1 : Option Nat), ∀ (h : jH) (H : Heap) (locs : List Loc) (cells slots : Nat) (ls : Array Slot), (fX23_init a0 x1).1 h = some (r, h') → jS D dA H0 hs h H locs cells slots → lv_has ls 2 [(0, .ref a0), (1, va_rf x1)] → W p l e { frames := 2, cells := mc, slots := ms, locals := 41 } s m args below meth c H locs cells slots (jQ D dA H0 below s (.returned none) h' mc ms) (F0 m 0 ls []) := by
  have hx := cx.1
  have hb := cx.2.1
  have hown := cx.2.2.2.1
  have hts := cx.2.2.2.2.1
  have hm : h'.2.2.1 ≤ hs.2.2.1 + mc ∧ h'.2.2.2.1 ≤ hs.2.2.2.1 + ms := ⟨Nat.le_of_eq e1, Nat.le_of_eq e2⟩
  intro x1 h H locs cells slots ls hf hS hl
  unfold fX23_init at hf
  refine lv_aload_n (pc := 0) hx hb dX23_init_0 rfl (lv_at hl 0 rfl) ?_
  refine j_aload_n (pc := 1) (r := x1) hx hb dX23_init_1 rfl (lv_at hl 1 rfl) ?_
  obtain ⟨_, h1, e9, hf⟩ := jB_some hf
  refine j_callI (pc := 2) (st1 := []) (As := [va_rf x1]) (rest := []) cx hS rfl hl.1 hm (metX19_init l _ _ _ _ _ e9) (jle hf) rfl q1030 q1029 q1057 q150 pdX19_init rfl rfl (Nat.le_of_ble_eq_true rfl) ⟨Nat.le_of_ble_eq_true rfl, Nat.le_of_ble_eq_true rfl⟩ dX23_init_2 rfl (fun H locs cells slots hS => ?_)
  exact j_vret (pc := 5) cx hS hf e1 e2 dX23_init_5
theorem metX23_init (l : Launch) (a0 : Nat) (x1 : Option Nat) (h h' : jH) (r : Unit) (hf : (fX23_init a0 x1).1 h = some (r, h')) : jMet l yX23_init (ws_ yX23_init cX23_init 2 (Option.none : Option Jvm.ClassFile.FieldType)) (2) (41) [.ref a0, va_rf x1] h h' (.returned none) := by
  refine jStart rfl (jle hf) (by cases x1 <;> exact Nat.le_of_ble_eq_true rfl) ?_
  intro p e s m below meth c D dA H0 mc ms ls cx hnm e1 e2 hS hl
  have hl : lv_has ls 2 [(0, .ref a0), (1, va_rf x1)] := by cases x1 <;> exact hl
  exact wX23_init_0 cx e1 e2 hnm a0 _ _ _ _ _ _ _ hf hS hl
def fX24_init (a0 : Nat) (x1 : Option Nat) : jM Unit := jB (fX19_init a0 x1) fun _ => jR ()
theorem wX24_init_0 {r : Unit} (cx : jCx p s m args meth c cX24_init "WornSkin$Same" 2 (Option.none : Option Jvm.ClassFile.FieldType) D dA H0 hs.2.2.2.2) (e1 : h'.2.2.1 = hs.2.2.1 + mc) (e2 : h'.2.2.2.1 = hs.2.2.2.1 + ms) (hin : meth.name = "<init>") (a0 : Nat) : ∀ (x1 : Option Nat), ∀ (h : jH) (H : Heap) (locs : List Loc) (cells slots : Nat) (ls : Array Slot), (fX24_init a0 x1).1 h = some (r, h') → jS D dA H0 hs h H locs cells slots → lv_has ls 2 [(0, .ref a0), (1, va_rf x1)] → W p l e { frames := 2, cells := mc, slots := ms, locals := 41 } s m args below meth c H locs cells slots (jQ D dA H0 below s (.returned none) h' mc ms) (F0 m 0 ls []) := by
  have hx := cx.1
  have hb := cx.2.1
  have hown := cx.2.2.2.1
  have hts := cx.2.2.2.2.1
  have hm : h'.2.2.1 ≤ hs.2.2.1 + mc ∧ h'.2.2.2.1 ≤ hs.2.2.2.1 + ms := ⟨Nat.le_of_eq e1, Nat.le_of_eq e2⟩
  intro x1 h H locs cells slots ls hf hS hl
  unfold fX24_init at hf
  refine lv_aload_n (pc := 0) hx hb dX24_init_0 rfl (lv_at hl 0 rfl) ?_
  refine j_aload_n (pc := 1) (r := x1) hx hb dX24_init_1 rfl (lv_at hl 1 rfl) ?_
  obtain ⟨_, h1, e9, hf⟩ := jB_some hf
  refine j_callI (pc := 2) (st1 := []) (As := [va_rf x1]) (rest := []) cx hS rfl hl.1 hm (metX19_init l _ _ _ _ _ e9) (jle hf) rfl q1030 q1029 q1065 q150 pdX19_init rfl rfl (Nat.le_of_ble_eq_true rfl) ⟨Nat.le_of_ble_eq_true rfl, Nat.le_of_ble_eq_true rfl⟩ dX24_init_2 rfl (fun H locs cells slots hS => ?_)
  exact j_vret (pc := 5) cx hS hf e1 e2 dX24_init_5
theorem metX24_init (l : Launch) (a0 : Nat) (x1 : Option Nat) (h h' : jH) (r : Unit) (hf : (fX24_init a0 x1).1 h = some (r, h')) : jMet l yX24_init (ws_ yX24_init cX24_init 2 (Option.none : Option Jvm.ClassFile.FieldType)) (2) (41) [.ref a0, va_rf x1] h h' (.returned none) := by
  refine jStart rfl (jle hf) (by cases x1 <;> exact Nat.le_of_ble_eq_true rfl) ?_
  intro p e s m below meth c D dA H0 mc ms ls cx hnm e1 e2 hS hl
  have hl : lv_has ls 2 [(0, .ref a0), (1, va_rf x1)] := by cases x1 <;> exact hl
  exact wX24_init_0 cx e1 e2 hnm a0 _ _ _ _ _ _ _ hf hS hl
def fX18_init (a0 : Nat) (x1 : Option Nat) : jM Unit := jB (fX14_init a0) fun _ => jB (jnw 4 3 [.int 0, .null, .int 0]) fun q2 => jB (fJ2_init q2 1) fun _ => jB (jpR [20] 1 (some a0) (some q2)) fun _ => jB (jpR [20] 0 (some a0) x1) fun _ => jR ()
theorem wX18_init_0 {r : Unit} (cx : jCx p s m args meth c cX18_init "WornSkin$Chain" 2 (Option.none : Option Jvm.ClassFile.FieldType) D dA H0 hs.2.2.2.2) (e1 : h'.2.2.1 = hs.2.2.1 + mc) (e2 : h'.2.2.2.1 = hs.2.2.2.1 + ms) (hin : meth.name = "<init>") (a0 : Nat) : ∀ (x1 : Option Nat), ∀ (h : jH) (H : Heap) (locs : List Loc) (cells slots : Nat) (ls : Array Slot), (fX18_init a0 x1).1 h = some (r, h') → jS D dA H0 hs h H locs cells slots → lv_has ls 2 [(0, .ref a0), (1, va_rf x1)] → W p l e { frames := 4, cells := mc, slots := ms, locals := 81 } s m args below meth c H locs cells slots (jQ D dA H0 below s (.returned none) h' mc ms) (F0 m 0 ls []) := by
  have hx := cx.1
  have hb := cx.2.1
  have hown := cx.2.2.2.1
  have hts := cx.2.2.2.2.1
  have hm : h'.2.2.1 ≤ hs.2.2.1 + mc ∧ h'.2.2.2.1 ≤ hs.2.2.2.1 + ms := ⟨Nat.le_of_eq e1, Nat.le_of_eq e2⟩
  intro x1 h H locs cells slots ls hf hS hl
  unfold fX18_init at hf
  refine lv_aload_n (pc := 0) hx hb dX18_init_0 rfl (lv_at hl 0 rfl) ?_
  obtain ⟨_, h1, e9, hf⟩ := jB_some hf
  refine j_callIN (pc := 1) (st1 := []) (As := []) (rest := []) cx hS rfl hl.1 hm (metX14_init l _ _ _ _ e9) (jle hf) rfl q970 q969 q1012 q145 pdX14_init rfl rfl (Nat.le_of_ble_eq_true rfl) ⟨Nat.le_of_ble_eq_true rfl, Nat.le_of_ble_eq_true rfl⟩ dX18_init_1 rfl (fun H locs cells slots hS => ?_)
  refine lv_aload_n (pc := 4) hx hb dX18_init_4 rfl (lv_at hl 0 rfl) ?_
  refine j_new (pc := 5) cx hS hf cn_J2 q1013 dX18_init_5 hm (fun q2 h H cells slots hf hS => ?_)
  refine lv_dup (pc := 8) hx hb dX18_init_8 rfl ?_
  refine lv_iconst (pc := 9) (v := 1) hx hb dX18_init_9 rfl ?_
  obtain ⟨_, h1, e9, hf⟩ := jB_some hf
  refine j_callI (pc := 10) (st1 := [.ref q2, .ref a0]) (As := [.int 1]) (rest := [.ref q2, .ref a0]) cx hS rfl hl.1 hm (metJ2_init l _ _ _ _ _ e9) (jle hf) rfl q292 q291 q1014 q118 pdJ2_init rfl rfl (Nat.le_of_ble_eq_true rfl) ⟨Nat.le_of_ble_eq_true rfl, Nat.le_of_ble_eq_true rfl⟩ dX18_init_10 rfl (fun H locs cells slots hS => ?_)
  refine j_pR (pc := 13) cx hS hf fp_WornSkin_Chain_links (Or.inr ⟨rfl, hin, rfl⟩) q1016 dX18_init_13 (fun h H locs hf hS => ?_)
  refine lv_aload_n (pc := 16) hx hb dX18_init_16 rfl (lv_at hl 0 rfl) ?_
  refine j_aload_n (pc := 17) (r := x1) hx hb dX18_init_17 rfl (lv_at hl 1 rfl) ?_
  refine j_pR (pc := 18) cx hS hf fp_WornSkin_Chain_first (Or.inr ⟨rfl, hin, rfl⟩) q1015 dX18_init_18 (fun h H locs hf hS => ?_)
  exact j_vret (pc := 21) cx hS hf e1 e2 dX18_init_21
theorem metX18_init (l : Launch) (a0 : Nat) (x1 : Option Nat) (h h' : jH) (r : Unit) (hf : (fX18_init a0 x1).1 h = some (r, h')) : jMet l yX18_init (ws_ yX18_init cX18_init 2 (Option.none : Option Jvm.ClassFile.FieldType)) (4) (81) [.ref a0, va_rf x1] h h' (.returned none) := by
  refine jStart rfl (jle hf) (by cases x1 <;> exact Nat.le_of_ble_eq_true rfl) ?_
  intro p e s m below meth c D dA H0 mc ms ls cx hnm e1 e2 hS hl
  have hl : lv_has ls 2 [(0, .ref a0), (1, va_rf x1)] := by cases x1 <;> exact hl
  exact wX18_init_0 cx e1 e2 hnm a0 _ _ _ _ _ _ _ hf hS hl
def fX10_init (a0 : Nat) (x1 : Int32) (x2 : Int32) : jM Unit := jB (jpZ [13, 14, 15, 16] 0 (some a0) x1) fun _ => jB (jpI [13, 14, 15, 16] 1 (some a0) x2) fun _ => jR ()
theorem wX10_init_0 {r : Unit} (cx : jCx p s m args meth c cX10_init "WornSkin$Text" 3 (Option.none : Option Jvm.ClassFile.FieldType) D dA H0 hs.2.2.2.2) (e1 : h'.2.2.1 = hs.2.2.1 + mc) (e2 : h'.2.2.2.1 = hs.2.2.2.1 + ms) (hin : meth.name = "<init>") (a0 : Nat) : ∀ (x1 : Int32) (x2 : Int32), ∀ (h : jH) (H : Heap) (locs : List Loc) (cells slots : Nat) (ls : Array Slot), (fX10_init a0 x1 x2).1 h = some (r, h') → jS D dA H0 hs h H locs cells slots → lv_has ls 3 [(0, .ref a0), (1, .int x1), (2, .int x2)] → W p l e { frames := 1, cells := mc, slots := ms, locals := 20 } s m args below meth c H locs cells slots (jQ D dA H0 below s (.returned none) h' mc ms) (F0 m 0 ls []) := by
  have hx := cx.1
  have hb := cx.2.1
  have hown := cx.2.2.2.1
  have hts := cx.2.2.2.2.1
  have hm : h'.2.2.1 ≤ hs.2.2.1 + mc ∧ h'.2.2.2.1 ≤ hs.2.2.2.1 + ms := ⟨Nat.le_of_eq e1, Nat.le_of_eq e2⟩
  intro x1 x2 h H locs cells slots ls hf hS hl
  unfold fX10_init at hf
  refine lv_aload_n (pc := 0) hx hb dX10_init_0 rfl (lv_at hl 0 rfl) ?_
  refine j_objInit (pc := 1) cx q885 q171 q172 hl.1 dX10_init_1 (Nat.le_of_ble_eq_true rfl) (Nat.le_of_ble_eq_true rfl) ?_
  refine lv_aload_n (pc := 4) hx hb dX10_init_4 rfl (lv_at hl 0 rfl) ?_
  refine lv_iload_n (pc := 5) hx hb dX10_init_5 rfl (lv_at hl 1 rfl) ?_
  refine j_pZ (pc := 6) cx hS hf fp_WornSkin_Text_gall (Or.inr ⟨rfl, hin, rfl⟩) q886 dX10_init_6 (fun h H locs hf hS => ?_)
  refine lv_aload_n (pc := 9) hx hb dX10_init_9 rfl (lv_at hl 0 rfl) ?_
  refine lv_iload_n (pc := 10) hx hb dX10_init_10 rfl (lv_at hl 2 rfl) ?_
  refine j_pI (pc := 11) cx hS hf fp_WornSkin_Text_lines (Or.inr ⟨rfl, hin, rfl⟩) q890 dX10_init_11 (fun h H locs hf hS => ?_)
  exact j_vret (pc := 14) cx hS hf e1 e2 dX10_init_14
theorem metX10_init (l : Launch) (a0 : Nat) (x1 : Int32) (x2 : Int32) (h h' : jH) (r : Unit) (hf : (fX10_init a0 x1 x2).1 h = some (r, h')) : jMet l yX10_init (ws_ yX10_init cX10_init 3 (Option.none : Option Jvm.ClassFile.FieldType)) (1) (20) [.ref a0, .int x1, .int x2] h h' (.returned none) := by
  refine jStart rfl (jle hf) (Nat.le_of_ble_eq_true rfl) ?_
  intro p e s m below meth c D dA H0 mc ms ls cx hnm e1 e2 hS hl
  exact wX10_init_0 cx e1 e2 hnm a0 _ _ _ _ _ _ _ _ hf hS hl
def fX11_init (a0 : Nat) (x1 : Int32) (x2 : Int32) : jM Unit := jB (fX10_init a0 x1 x2) fun _ => jR ()
theorem wX11_init_0 {r : Unit} (cx : jCx p s m args meth c cX11_init "WornSkin$Psalm" 3 (Option.none : Option Jvm.ClassFile.FieldType) D dA H0 hs.2.2.2.2) (e1 : h'.2.2.1 = hs.2.2.1 + mc) (e2 : h'.2.2.2.1 = hs.2.2.2.1 + ms) (hin : meth.name = "<init>") (a0 : Nat) : ∀ (x1 : Int32) (x2 : Int32), ∀ (h : jH) (H : Heap) (locs : List Loc) (cells slots : Nat) (ls : Array Slot), (fX11_init a0 x1 x2).1 h = some (r, h') → jS D dA H0 hs h H locs cells slots → lv_has ls 3 [(0, .ref a0), (1, .int x1), (2, .int x2)] → W p l e { frames := 2, cells := mc, slots := ms, locals := 42 } s m args below meth c H locs cells slots (jQ D dA H0 below s (.returned none) h' mc ms) (F0 m 0 ls []) := by
  have hx := cx.1
  have hb := cx.2.1
  have hown := cx.2.2.2.1
  have hts := cx.2.2.2.2.1
  have hm : h'.2.2.1 ≤ hs.2.2.1 + mc ∧ h'.2.2.2.1 ≤ hs.2.2.2.1 + ms := ⟨Nat.le_of_eq e1, Nat.le_of_eq e2⟩
  intro x1 x2 h H locs cells slots ls hf hS hl
  unfold fX11_init at hf
  refine lv_aload_n (pc := 0) hx hb dX11_init_0 rfl (lv_at hl 0 rfl) ?_
  refine lv_iload_n (pc := 1) hx hb dX11_init_1 rfl (lv_at hl 1 rfl) ?_
  refine lv_iload_n (pc := 2) hx hb dX11_init_2 rfl (lv_at hl 2 rfl) ?_
  obtain ⟨_, h1, e9, hf⟩ := jB_some hf
  refine j_callI (pc := 3) (st1 := []) (As := [.int x1, .int x2]) (rest := []) cx hS rfl hl.1 hm (metX10_init l _ _ _ _ _ _ e9) (jle hf) rfl q884 q883 q882 q141 pdX10_init rfl rfl (Nat.le_of_ble_eq_true rfl) ⟨Nat.le_of_ble_eq_true rfl, Nat.le_of_ble_eq_true rfl⟩ dX11_init_3 rfl (fun H locs cells slots hS => ?_)
  exact j_vret (pc := 6) cx hS hf e1 e2 dX11_init_6
theorem metX11_init (l : Launch) (a0 : Nat) (x1 : Int32) (x2 : Int32) (h h' : jH) (r : Unit) (hf : (fX11_init a0 x1 x2).1 h = some (r, h')) : jMet l yX11_init (ws_ yX11_init cX11_init 3 (Option.none : Option Jvm.ClassFile.FieldType)) (2) (42) [.ref a0, .int x1, .int x2] h h' (.returned none) := by
  refine jStart rfl (jle hf) (Nat.le_of_ble_eq_true rfl) ?_
  intro p e s m below meth c D dA H0 mc ms ls cx hnm e1 e2 hS hl
  exact wX11_init_0 cx e1 e2 hnm a0 _ _ _ _ _ _ _ _ hf hS hl
def fX12_init (a0 : Nat) (x1 : Int32) (x2 : Int32) : jM Unit := jB (fX10_init a0 x1 x2) fun _ => jR ()
theorem wX12_init_0 {r : Unit} (cx : jCx p s m args meth c cX12_init "WornSkin$Recipe" 3 (Option.none : Option Jvm.ClassFile.FieldType) D dA H0 hs.2.2.2.2) (e1 : h'.2.2.1 = hs.2.2.1 + mc) (e2 : h'.2.2.2.1 = hs.2.2.2.1 + ms) (hin : meth.name = "<init>") (a0 : Nat) : ∀ (x1 : Int32) (x2 : Int32), ∀ (h : jH) (H : Heap) (locs : List Loc) (cells slots : Nat) (ls : Array Slot), (fX12_init a0 x1 x2).1 h = some (r, h') → jS D dA H0 hs h H locs cells slots → lv_has ls 3 [(0, .ref a0), (1, .int x1), (2, .int x2)] → W p l e { frames := 2, cells := mc, slots := ms, locals := 42 } s m args below meth c H locs cells slots (jQ D dA H0 below s (.returned none) h' mc ms) (F0 m 0 ls []) := by
  have hx := cx.1
  have hb := cx.2.1
  have hown := cx.2.2.2.1
  have hts := cx.2.2.2.2.1
  have hm : h'.2.2.1 ≤ hs.2.2.1 + mc ∧ h'.2.2.2.1 ≤ hs.2.2.2.1 + ms := ⟨Nat.le_of_eq e1, Nat.le_of_eq e2⟩
  intro x1 x2 h H locs cells slots ls hf hS hl
  unfold fX12_init at hf
  refine lv_aload_n (pc := 0) hx hb dX12_init_0 rfl (lv_at hl 0 rfl) ?_
  refine lv_iload_n (pc := 1) hx hb dX12_init_1 rfl (lv_at hl 1 rfl) ?_
  refine lv_iload_n (pc := 2) hx hb dX12_init_2 rfl (lv_at hl 2 rfl) ?_
  obtain ⟨_, h1, e9, hf⟩ := jB_some hf
  refine j_callI (pc := 3) (st1 := []) (As := [.int x1, .int x2]) (rest := []) cx hS rfl hl.1 hm (metX10_init l _ _ _ _ _ _ e9) (jle hf) rfl q884 q883 q904 q141 pdX10_init rfl rfl (Nat.le_of_ble_eq_true rfl) ⟨Nat.le_of_ble_eq_true rfl, Nat.le_of_ble_eq_true rfl⟩ dX12_init_3 rfl (fun H locs cells slots hS => ?_)
  exact j_vret (pc := 6) cx hS hf e1 e2 dX12_init_6
theorem metX12_init (l : Launch) (a0 : Nat) (x1 : Int32) (x2 : Int32) (h h' : jH) (r : Unit) (hf : (fX12_init a0 x1 x2).1 h = some (r, h')) : jMet l yX12_init (ws_ yX12_init cX12_init 3 (Option.none : Option Jvm.ClassFile.FieldType)) (2) (42) [.ref a0, .int x1, .int x2] h h' (.returned none) := by
  refine jStart rfl (jle hf) (Nat.le_of_ble_eq_true rfl) ?_
  intro p e s m below meth c D dA H0 mc ms ls cx hnm e1 e2 hS hl
  exact wX12_init_0 cx e1 e2 hnm a0 _ _ _ _ _ _ _ _ hf hS hl
def fX13_init (a0 : Nat) (x1 : Int32) (x2 : Int32) : jM Unit := jB (fX10_init a0 x1 x2) fun _ => jR ()
theorem wX13_init_0 {r : Unit} (cx : jCx p s m args meth c cX13_init "WornSkin$Oath" 3 (Option.none : Option Jvm.ClassFile.FieldType) D dA H0 hs.2.2.2.2) (e1 : h'.2.2.1 = hs.2.2.1 + mc) (e2 : h'.2.2.2.1 = hs.2.2.2.1 + ms) (hin : meth.name = "<init>") (a0 : Nat) : ∀ (x1 : Int32) (x2 : Int32), ∀ (h : jH) (H : Heap) (locs : List Loc) (cells slots : Nat) (ls : Array Slot), (fX13_init a0 x1 x2).1 h = some (r, h') → jS D dA H0 hs h H locs cells slots → lv_has ls 3 [(0, .ref a0), (1, .int x1), (2, .int x2)] → W p l e { frames := 2, cells := mc, slots := ms, locals := 42 } s m args below meth c H locs cells slots (jQ D dA H0 below s (.returned none) h' mc ms) (F0 m 0 ls []) := by
  have hx := cx.1
  have hb := cx.2.1
  have hown := cx.2.2.2.1
  have hts := cx.2.2.2.2.1
  have hm : h'.2.2.1 ≤ hs.2.2.1 + mc ∧ h'.2.2.2.1 ≤ hs.2.2.2.1 + ms := ⟨Nat.le_of_eq e1, Nat.le_of_eq e2⟩
  intro x1 x2 h H locs cells slots ls hf hS hl
  unfold fX13_init at hf
  refine lv_aload_n (pc := 0) hx hb dX13_init_0 rfl (lv_at hl 0 rfl) ?_
  refine lv_iload_n (pc := 1) hx hb dX13_init_1 rfl (lv_at hl 1 rfl) ?_
  refine lv_iload_n (pc := 2) hx hb dX13_init_2 rfl (lv_at hl 2 rfl) ?_
  obtain ⟨_, h1, e9, hf⟩ := jB_some hf
  refine j_callI (pc := 3) (st1 := []) (As := [.int x1, .int x2]) (rest := []) cx hS rfl hl.1 hm (metX10_init l _ _ _ _ _ _ e9) (jle hf) rfl q884 q883 q913 q141 pdX10_init rfl rfl (Nat.le_of_ble_eq_true rfl) ⟨Nat.le_of_ble_eq_true rfl, Nat.le_of_ble_eq_true rfl⟩ dX13_init_3 rfl (fun H locs cells slots hS => ?_)
  exact j_vret (pc := 6) cx hS hf e1 e2 dX13_init_6
theorem metX13_init (l : Launch) (a0 : Nat) (x1 : Int32) (x2 : Int32) (h h' : jH) (r : Unit) (hf : (fX13_init a0 x1 x2).1 h = some (r, h')) : jMet l yX13_init (ws_ yX13_init cX13_init 3 (Option.none : Option Jvm.ClassFile.FieldType)) (2) (42) [.ref a0, .int x1, .int x2] h h' (.returned none) := by
  refine jStart rfl (jle hf) (Nat.le_of_ble_eq_true rfl) ?_
  intro p e s m below meth c D dA H0 mc ms ls cx hnm e1 e2 hS hl
  exact wX13_init_0 cx e1 e2 hnm a0 _ _ _ _ _ _ _ _ hf hS hl
def fX9_init (a0 : Nat) (x1 : Int32) (x2 : Int32) : jM Unit := jB (jpI [12] 0 (some a0) x1) fun _ => jB (jpI [12] 1 (some a0) x2) fun _ => jR ()
theorem wX9_init_0 {r : Unit} (cx : jCx p s m args meth c cX9_init "WornSkin$Skin" 3 (Option.none : Option Jvm.ClassFile.FieldType) D dA H0 hs.2.2.2.2) (e1 : h'.2.2.1 = hs.2.2.1 + mc) (e2 : h'.2.2.2.1 = hs.2.2.2.1 + ms) (hin : meth.name = "<init>") (a0 : Nat) : ∀ (x1 : Int32) (x2 : Int32), ∀ (h : jH) (H : Heap) (locs : List Loc) (cells slots : Nat) (ls : Array Slot), (fX9_init a0 x1 x2).1 h = some (r, h') → jS D dA H0 hs h H locs cells slots → lv_has ls 3 [(0, .ref a0), (1, .int x1), (2, .int x2)] → W p l e { frames := 1, cells := mc, slots := ms, locals := 20 } s m args below meth c H locs cells slots (jQ D dA H0 below s (.returned none) h' mc ms) (F0 m 0 ls []) := by
  have hx := cx.1
  have hb := cx.2.1
  have hown := cx.2.2.2.1
  have hts := cx.2.2.2.2.1
  have hm : h'.2.2.1 ≤ hs.2.2.1 + mc ∧ h'.2.2.2.1 ≤ hs.2.2.2.1 + ms := ⟨Nat.le_of_eq e1, Nat.le_of_eq e2⟩
  intro x1 x2 h H locs cells slots ls hf hS hl
  unfold fX9_init at hf
  refine lv_aload_n (pc := 0) hx hb dX9_init_0 rfl (lv_at hl 0 rfl) ?_
  refine j_objInit (pc := 1) cx q837 q171 q172 hl.1 dX9_init_1 (Nat.le_of_ble_eq_true rfl) (Nat.le_of_ble_eq_true rfl) ?_
  refine lv_aload_n (pc := 4) hx hb dX9_init_4 rfl (lv_at hl 0 rfl) ?_
  refine lv_iload_n (pc := 5) hx hb dX9_init_5 rfl (lv_at hl 1 rfl) ?_
  refine j_pI (pc := 6) cx hS hf fp_WornSkin_Skin_lines (Or.inr ⟨rfl, hin, rfl⟩) q838 dX9_init_6 (fun h H locs hf hS => ?_)
  refine lv_aload_n (pc := 9) hx hb dX9_init_9 rfl (lv_at hl 0 rfl) ?_
  refine lv_iload_n (pc := 10) hx hb dX9_init_10 rfl (lv_at hl 2 rfl) ?_
  refine j_pI (pc := 11) cx hS hf fp_WornSkin_Skin_thick (Or.inr ⟨rfl, hin, rfl⟩) q842 dX9_init_11 (fun h H locs hf hS => ?_)
  exact j_vret (pc := 14) cx hS hf e1 e2 dX9_init_14
theorem metX9_init (l : Launch) (a0 : Nat) (x1 : Int32) (x2 : Int32) (h h' : jH) (r : Unit) (hf : (fX9_init a0 x1 x2).1 h = some (r, h')) : jMet l yX9_init (ws_ yX9_init cX9_init 3 (Option.none : Option Jvm.ClassFile.FieldType)) (1) (20) [.ref a0, .int x1, .int x2] h h' (.returned none) := by
  refine jStart rfl (jle hf) (Nat.le_of_ble_eq_true rfl) ?_
  intro p e s m below meth c D dA H0 mc ms ls cx hnm e1 e2 hS hl
  exact wX9_init_0 cx e1 e2 hnm a0 _ _ _ _ _ _ _ _ hf hS hl
def fX4_init (a0 : Nat) : jM Unit := jB (jnw 4 3 [.int 0, .null, .int 0]) fun q1 => jB (fJ2_init q1 2) fun _ => jB (jpR [3] 0 (some a0) (some q1)) fun _ => jB (jnw 4 3 [.int 0, .null, .int 0]) fun q3 => jB (fJ2_init q3 2) fun _ => jB (jpR [3] 1 (some a0) (some q3)) fun _ => jB (jnw 4 3 [.int 0, .null, .int 0]) fun q5 => jB (fJ2_init q5 2) fun _ => jB (jpR [3] 2 (some a0) (some q5)) fun _ => jB (jnw 4 3 [.int 0, .null, .int 0]) fun q7 => jB (fJ2_init q7 2) fun _ => jB (jpR [3] 3 (some a0) (some q7)) fun _ => jB (jnaI 0 12) fun q9 => jB (jpR [3] 4 (some a0) (some q9)) fun _ => jB (jnw 5 1 [.null]) fun q10 => jB (fX5_init q10) fun _ => jB (jpR [3] 7 (some a0) (some q10)) fun _ => jR ()
theorem wX4_init_0 {r : Unit} (cx : jCx p s m args meth c cX4_init "WornSkin$Library" 1 (Option.none : Option Jvm.ClassFile.FieldType) D dA H0 hs.2.2.2.2) (e1 : h'.2.2.1 = hs.2.2.1 + mc) (e2 : h'.2.2.2.1 = hs.2.2.2.1 + ms) (hin : meth.name = "<init>") (a0 : Nat) : ∀ (h : jH) (H : Heap) (locs : List Loc) (cells slots : Nat) (ls : Array Slot), (fX4_init a0).1 h = some (r, h') → jS D dA H0 hs h H locs cells slots → lv_has ls 1 [(0, .ref a0)] → W p l e { frames := 4, cells := mc, slots := ms, locals := 81 } s m args below meth c H locs cells slots (jQ D dA H0 below s (.returned none) h' mc ms) (F0 m 0 ls []) := by
  have hx := cx.1
  have hb := cx.2.1
  have hown := cx.2.2.2.1
  have hts := cx.2.2.2.2.1
  have hm : h'.2.2.1 ≤ hs.2.2.1 + mc ∧ h'.2.2.2.1 ≤ hs.2.2.2.1 + ms := ⟨Nat.le_of_eq e1, Nat.le_of_eq e2⟩
  intro h H locs cells slots ls hf hS hl
  unfold fX4_init at hf
  refine lv_aload_n (pc := 0) hx hb dX4_init_0 rfl (lv_at hl 0 rfl) ?_
  refine j_objInit (pc := 1) cx q287 q171 q172 hl.1 dX4_init_1 (Nat.le_of_ble_eq_true rfl) (Nat.le_of_ble_eq_true rfl) ?_
  refine lv_aload_n (pc := 4) hx hb dX4_init_4 rfl (lv_at hl 0 rfl) ?_
  refine j_new (pc := 5) cx hS hf cn_J2 q288 dX4_init_5 hm (fun q1 h H cells slots hf hS => ?_)
  refine lv_dup (pc := 8) hx hb dX4_init_8 rfl ?_
  refine lv_iconst (pc := 9) (v := 2) hx hb dX4_init_9 rfl ?_
  obtain ⟨_, h1, e9, hf⟩ := jB_some hf
  refine j_callI (pc := 10) (st1 := [.ref q1, .ref a0]) (As := [.int 2]) (rest := [.ref q1, .ref a0]) cx hS rfl hl.1 hm (metJ2_init l _ _ _ _ _ e9) (jle hf) rfl q292 q291 q290 q118 pdJ2_init rfl rfl (Nat.le_of_ble_eq_true rfl) ⟨Nat.le_of_ble_eq_true rfl, Nat.le_of_ble_eq_true rfl⟩ dX4_init_10 rfl (fun H locs cells slots hS => ?_)
  refine j_pR (pc := 13) cx hS hf fp_WornSkin_Library_names (Or.inr ⟨rfl, hin, rfl⟩) q328 dX4_init_13 (fun h H locs hf hS => ?_)
  refine lv_aload_n (pc := 16) hx hb dX4_init_16 rfl (lv_at hl 0 rfl) ?_
  refine j_new (pc := 17) cx hS hf cn_J2 q288 dX4_init_17 hm (fun q3 h H cells slots hf hS => ?_)
  refine lv_dup (pc := 20) hx hb dX4_init_20 rfl ?_
  refine lv_iconst (pc := 21) (v := 2) hx hb dX4_init_21 rfl ?_
  obtain ⟨_, h1, e9, hf⟩ := jB_some hf
  refine j_callI (pc := 22) (st1 := [.ref q3, .ref a0]) (As := [.int 2]) (rest := [.ref q3, .ref a0]) cx hS rfl hl.1 hm (metJ2_init l _ _ _ _ _ e9) (jle hf) rfl q292 q291 q290 q118 pdJ2_init rfl rfl (Nat.le_of_ble_eq_true rfl) ⟨Nat.le_of_ble_eq_true rfl, Nat.le_of_ble_eq_true rfl⟩ dX4_init_22 rfl (fun H locs cells slots hS => ?_)
  refine j_pR (pc := 25) cx hS hf fp_WornSkin_Library_nameOf (Or.inr ⟨rfl, hin, rfl⟩) q330 dX4_init_25 (fun h H locs hf hS => ?_)
  refine lv_aload_n (pc := 28) hx hb dX4_init_28 rfl (lv_at hl 0 rfl) ?_
  refine j_new (pc := 29) cx hS hf cn_J2 q288 dX4_init_29 hm (fun q5 h H cells slots hf hS => ?_)
  refine lv_dup (pc := 32) hx hb dX4_init_32 rfl ?_
  refine lv_iconst (pc := 33) (v := 2) hx hb dX4_init_33 rfl ?_
  obtain ⟨_, h1, e9, hf⟩ := jB_some hf
  refine j_callI (pc := 34) (st1 := [.ref q5, .ref a0]) (As := [.int 2]) (rest := [.ref q5, .ref a0]) cx hS rfl hl.1 hm (metJ2_init l _ _ _ _ _ e9) (jle hf) rfl q292 q291 q290 q118 pdJ2_init rfl rfl (Nat.le_of_ble_eq_true rfl) ⟨Nat.le_of_ble_eq_true rfl, Nat.le_of_ble_eq_true rfl⟩ dX4_init_34 rfl (fun H locs cells slots hS => ?_)
  refine j_pR (pc := 37) cx hS hf fp_WornSkin_Library_skins (Or.inr ⟨rfl, hin, rfl⟩) q332 dX4_init_37 (fun h H locs hf hS => ?_)
  refine lv_aload_n (pc := 40) hx hb dX4_init_40 rfl (lv_at hl 0 rfl) ?_
  refine j_new (pc := 41) cx hS hf cn_J2 q288 dX4_init_41 hm (fun q7 h H cells slots hf hS => ?_)
  refine lv_dup (pc := 44) hx hb dX4_init_44 rfl ?_
  refine lv_iconst (pc := 45) (v := 2) hx hb dX4_init_45 rfl ?_
  obtain ⟨_, h1, e9, hf⟩ := jB_some hf
  refine j_callI (pc := 46) (st1 := [.ref q7, .ref a0]) (As := [.int 2]) (rest := [.ref q7, .ref a0]) cx hS rfl hl.1 hm (metJ2_init l _ _ _ _ _ e9) (jle hf) rfl q292 q291 q290 q118 pdJ2_init rfl rfl (Nat.le_of_ble_eq_true rfl) ⟨Nat.le_of_ble_eq_true rfl, Nat.le_of_ble_eq_true rfl⟩ dX4_init_46 rfl (fun H locs cells slots hS => ?_)
  refine j_pR (pc := 49) cx hS hf fp_WornSkin_Library_texts (Or.inr ⟨rfl, hin, rfl⟩) q336 dX4_init_49 (fun h H locs hf hS => ?_)
  refine lv_aload_n (pc := 52) hx hb dX4_init_52 rfl (lv_at hl 0 rfl) ?_
  refine lv_bipush (pc := 53) (v := 12) hx hb dX4_init_53 rfl ?_
  refine j_naG (pc := 55) cx hS hf (ty := .int) rfl rfl (fun _ => rfl) (by decide) q247 dX4_init_55 (fun _ hh => by cases hh) hm (fun q9 h H cells slots hf hS => ?_)
  refine j_pRa (pc := 57) cx hS hf fp_WornSkin_Library_damp (Or.inr ⟨rfl, hin, rfl⟩) q340 dX4_init_57 (fun h H locs hf hS => ?_)
  refine lv_aload_n (pc := 60) hx hb dX4_init_60 rfl (lv_at hl 0 rfl) ?_
  refine j_new (pc := 61) cx hS hf cn_X5 q316 dX4_init_61 hm (fun q10 h H cells slots hf hS => ?_)
  refine lv_dup (pc := 64) hx hb dX4_init_64 rfl ?_
  obtain ⟨_, h1, e9, hf⟩ := jB_some hf
  refine j_callIN (pc := 65) (st1 := [.ref q10, .ref a0]) (As := []) (rest := [.ref q10, .ref a0]) cx hS rfl hl.1 hm (metX5_init l _ _ _ _ e9) (jle hf) rfl q320 q319 q318 q119 pdX5_init rfl rfl (Nat.le_of_ble_eq_true rfl) ⟨Nat.le_of_ble_eq_true rfl, Nat.le_of_ble_eq_true rfl⟩ dX4_init_65 rfl (fun H locs cells slots hS => ?_)
  refine j_pR (pc := 68) cx hS hf fp_WornSkin_Library_facts (Or.inr ⟨rfl, hin, rfl⟩) q345 dX4_init_68 (fun h H locs hf hS => ?_)
  exact j_vret (pc := 71) cx hS hf e1 e2 dX4_init_71
theorem metX4_init (l : Launch) (a0 : Nat) (h h' : jH) (r : Unit) (hf : (fX4_init a0).1 h = some (r, h')) : jMet l yX4_init (ws_ yX4_init cX4_init 1 (Option.none : Option Jvm.ClassFile.FieldType)) (4) (81) [.ref a0] h h' (.returned none) := by
  refine jStart rfl (jle hf) (Nat.le_of_ble_eq_true rfl) ?_
  intro p e s m below meth c D dA H0 mc ms ls cx hnm e1 e2 hS hl
  exact wX4_init_0 cx e1 e2 hnm a0  _ _ _ _ _ _ hf hS hl
def fX31_init (a0 : Nat) (x1 : Option Nat) (x2 : Option Nat) (x3 : Option Nat) : jM Unit := jB (jpR [32] 0 (some a0) x1) fun _ => jB (jpR [32] 1 (some a0) x2) fun _ => jB (jpR [32] 2 (some a0) x3) fun _ => jR ()
theorem wX31_init_0 {r : Unit} (cx : jCx p s m args meth c cX31_init "WornSkin$Mark" 4 (Option.none : Option Jvm.ClassFile.FieldType) D dA H0 hs.2.2.2.2) (e1 : h'.2.2.1 = hs.2.2.1 + mc) (e2 : h'.2.2.2.1 = hs.2.2.2.1 + ms) (hin : meth.name = "<init>") (a0 : Nat) : ∀ (x1 : Option Nat) (x2 : Option Nat) (x3 : Option Nat), ∀ (h : jH) (H : Heap) (locs : List Loc) (cells slots : Nat) (ls : Array Slot), (fX31_init a0 x1 x2 x3).1 h = some (r, h') → jS D dA H0 hs h H locs cells slots → lv_has ls 4 [(0, .ref a0), (1, va_rf x1), (2, va_rf x2), (3, va_rf x3)] → W p l e { frames := 1, cells := mc, slots := ms, locals := 20 } s m args below meth c H locs cells slots (jQ D dA H0 below s (.returned none) h' mc ms) (F0 m 0 ls []) := by
  have hx := cx.1
  have hb := cx.2.1
  have hown := cx.2.2.2.1
  have hts := cx.2.2.2.2.1
  have hm : h'.2.2.1 ≤ hs.2.2.1 + mc ∧ h'.2.2.2.1 ≤ hs.2.2.2.1 + ms := ⟨Nat.le_of_eq e1, Nat.le_of_eq e2⟩
  intro x1 x2 x3 h H locs cells slots ls hf hS hl
  unfold fX31_init at hf
  refine lv_aload_n (pc := 0) hx hb dX31_init_0 rfl (lv_at hl 0 rfl) ?_
  refine j_objInit (pc := 1) cx q1619 q171 q172 hl.1 dX31_init_1 (Nat.le_of_ble_eq_true rfl) (Nat.le_of_ble_eq_true rfl) ?_
  refine lv_aload_n (pc := 4) hx hb dX31_init_4 rfl (lv_at hl 0 rfl) ?_
  refine j_aload_n (pc := 5) (r := x1) hx hb dX31_init_5 rfl (lv_at hl 1 rfl) ?_
  refine j_pR (pc := 6) cx hS hf fp_WornSkin_Mark_shelf (Or.inr ⟨rfl, hin, rfl⟩) q1620 dX31_init_6 (fun h H locs hf hS => ?_)
  refine lv_aload_n (pc := 9) hx hb dX31_init_9 rfl (lv_at hl 0 rfl) ?_
  refine j_aload_n (pc := 10) (r := x2) hx hb dX31_init_10 rfl (lv_at hl 2 rfl) ?_
  refine j_pR (pc := 11) cx hS hf fp_WornSkin_Mark_lines (Or.inr ⟨rfl, hin, rfl⟩) q1622 dX31_init_11 (fun h H locs hf hS => ?_)
  refine lv_aload_n (pc := 14) hx hb dX31_init_14 rfl (lv_at hl 0 rfl) ?_
  refine j_aload_n (pc := 15) (r := x3) hx hb dX31_init_15 rfl (lv_at hl 3 rfl) ?_
  refine j_pR (pc := 16) cx hS hf fp_WornSkin_Mark_seen (Or.inr ⟨rfl, hin, rfl⟩) q1624 dX31_init_16 (fun h H locs hf hS => ?_)
  exact j_vret (pc := 19) cx hS hf e1 e2 dX31_init_19
theorem metX31_init (l : Launch) (a0 : Nat) (x1 : Option Nat) (x2 : Option Nat) (x3 : Option Nat) (h h' : jH) (r : Unit) (hf : (fX31_init a0 x1 x2 x3).1 h = some (r, h')) : jMet l yX31_init (ws_ yX31_init cX31_init 4 (Option.none : Option Jvm.ClassFile.FieldType)) (1) (20) [.ref a0, va_rf x1, va_rf x2, va_rf x3] h h' (.returned none) := by
  refine jStart rfl (jle hf) (by cases x1 <;> cases x2 <;> cases x3 <;> exact Nat.le_of_ble_eq_true rfl) ?_
  intro p e s m below meth c D dA H0 mc ms ls cx hnm e1 e2 hS hl
  have hl : lv_has ls 4 [(0, .ref a0), (1, va_rf x1), (2, va_rf x2), (3, va_rf x3)] := by cases x1 <;> cases x2 <;> cases x3 <;> exact hl
  exact wX31_init_0 cx e1 e2 hnm a0 _ _ _ _ _ _ _ _ _ hf hS hl
def fX27_init (a0 : Nat) : jM Unit := jR ()
theorem wX27_init_0 {r : Unit} (cx : jCx p s m args meth c cX27_init "WornSkin$Line" 1 (Option.none : Option Jvm.ClassFile.FieldType) D dA H0 hs.2.2.2.2) (e1 : h'.2.2.1 = hs.2.2.1 + mc) (e2 : h'.2.2.2.1 = hs.2.2.2.1 + ms) (hin : meth.name = "<init>") (a0 : Nat) : ∀ (h : jH) (H : Heap) (locs : List Loc) (cells slots : Nat) (ls : Array Slot), (fX27_init a0).1 h = some (r, h') → jS D dA H0 hs h H locs cells slots → lv_has ls 1 [(0, .ref a0)] → W p l e { frames := 1, cells := mc, slots := ms, locals := 20 } s m args below meth c H locs cells slots (jQ D dA H0 below s (.returned none) h' mc ms) (F0 m 0 ls []) := by
  have hx := cx.1
  have hb := cx.2.1
  have hown := cx.2.2.2.1
  have hts := cx.2.2.2.2.1
  have hm : h'.2.2.1 ≤ hs.2.2.1 + mc ∧ h'.2.2.2.1 ≤ hs.2.2.2.1 + ms := ⟨Nat.le_of_eq e1, Nat.le_of_eq e2⟩
  intro h H locs cells slots ls hf hS hl
  unfold fX27_init at hf
  refine lv_aload_n (pc := 0) hx hb dX27_init_0 rfl (lv_at hl 0 rfl) ?_
  refine j_objInit (pc := 1) cx q1114 q171 q172 hl.1 dX27_init_1 (Nat.le_of_ble_eq_true rfl) (Nat.le_of_ble_eq_true rfl) ?_
  exact j_vret (pc := 4) cx hS hf e1 e2 dX27_init_4
theorem metX27_init (l : Launch) (a0 : Nat) (h h' : jH) (r : Unit) (hf : (fX27_init a0).1 h = some (r, h')) : jMet l yX27_init (ws_ yX27_init cX27_init 1 (Option.none : Option Jvm.ClassFile.FieldType)) (1) (20) [.ref a0] h h' (.returned none) := by
  refine jStart rfl (jle hf) (Nat.le_of_ble_eq_true rfl) ?_
  intro p e s m below meth c D dA H0 mc ms ls cx hnm e1 e2 hS hl
  exact wX27_init_0 cx e1 e2 hnm a0  _ _ _ _ _ _ hf hS hl
def fX28_init (a0 : Nat) : jM Unit := jB (fX27_init a0) fun _ => jR ()
theorem wX28_init_0 {r : Unit} (cx : jCx p s m args meth c cX28_init "WornSkin$Weeks" 1 (Option.none : Option Jvm.ClassFile.FieldType) D dA H0 hs.2.2.2.2) (e1 : h'.2.2.1 = hs.2.2.1 + mc) (e2 : h'.2.2.2.1 = hs.2.2.2.1 + ms) (hin : meth.name = "<init>") (a0 : Nat) : ∀ (h : jH) (H : Heap) (locs : List Loc) (cells slots : Nat) (ls : Array Slot), (fX28_init a0).1 h = some (r, h') → jS D dA H0 hs h H locs cells slots → lv_has ls 1 [(0, .ref a0)] → W p l e { frames := 2, cells := mc, slots := ms, locals := 40 } s m args below meth c H locs cells slots (jQ D dA H0 below s (.returned none) h' mc ms) (F0 m 0 ls []) := by
  have hx := cx.1
  have hb := cx.2.1
  have hown := cx.2.2.2.1
  have hts := cx.2.2.2.2.1
  have hm : h'.2.2.1 ≤ hs.2.2.1 + mc ∧ h'.2.2.2.1 ≤ hs.2.2.2.1 + ms := ⟨Nat.le_of_eq e1, Nat.le_of_eq e2⟩
  intro h H locs cells slots ls hf hS hl
  unfold fX28_init at hf
  refine lv_aload_n (pc := 0) hx hb dX28_init_0 rfl (lv_at hl 0 rfl) ?_
  obtain ⟨_, h1, e9, hf⟩ := jB_some hf
  refine j_callIN (pc := 1) (st1 := []) (As := []) (rest := []) cx hS rfl hl.1 hm (metX27_init l _ _ _ _ e9) (jle hf) rfl q1113 q1112 q1111 q158 pdX27_init rfl rfl (Nat.le_of_ble_eq_true rfl) ⟨Nat.le_of_ble_eq_true rfl, Nat.le_of_ble_eq_true rfl⟩ dX28_init_1 rfl (fun H locs cells slots hS => ?_)
  exact j_vret (pc := 4) cx hS hf e1 e2 dX28_init_4
theorem metX28_init (l : Launch) (a0 : Nat) (h h' : jH) (r : Unit) (hf : (fX28_init a0).1 h = some (r, h')) : jMet l yX28_init (ws_ yX28_init cX28_init 1 (Option.none : Option Jvm.ClassFile.FieldType)) (2) (40) [.ref a0] h h' (.returned none) := by
  refine jStart rfl (jle hf) (Nat.le_of_ble_eq_true rfl) ?_
  intro p e s m below meth c D dA H0 mc ms ls cx hnm e1 e2 hS hl
  exact wX28_init_0 cx e1 e2 hnm a0  _ _ _ _ _ _ hf hS hl
def fX29_init (a0 : Nat) (x1 : Int32) (x2 : Int32) : jM Unit := jB (fX27_init a0) fun _ => jB (jpI [29] 0 (some a0) x1) fun _ => jB (jpZ [29] 1 (some a0) x2) fun _ => jR ()
theorem wX29_init_0 {r : Unit} (cx : jCx p s m args meth c cX29_init "WornSkin$Scrapes" 3 (Option.none : Option Jvm.ClassFile.FieldType) D dA H0 hs.2.2.2.2) (e1 : h'.2.2.1 = hs.2.2.1 + mc) (e2 : h'.2.2.2.1 = hs.2.2.2.1 + ms) (hin : meth.name = "<init>") (a0 : Nat) : ∀ (x1 : Int32) (x2 : Int32), ∀ (h : jH) (H : Heap) (locs : List Loc) (cells slots : Nat) (ls : Array Slot), (fX29_init a0 x1 x2).1 h = some (r, h') → jS D dA H0 hs h H locs cells slots → lv_has ls 3 [(0, .ref a0), (1, .int x1), (2, .int x2)] → W p l e { frames := 2, cells := mc, slots := ms, locals := 40 } s m args below meth c H locs cells slots (jQ D dA H0 below s (.returned none) h' mc ms) (F0 m 0 ls []) := by
  have hx := cx.1
  have hb := cx.2.1
  have hown := cx.2.2.2.1
  have hts := cx.2.2.2.2.1
  have hm : h'.2.2.1 ≤ hs.2.2.1 + mc ∧ h'.2.2.2.1 ≤ hs.2.2.2.1 + ms := ⟨Nat.le_of_eq e1, Nat.le_of_eq e2⟩
  intro x1 x2 h H locs cells slots ls hf hS hl
  unfold fX29_init at hf
  refine lv_aload_n (pc := 0) hx hb dX29_init_0 rfl (lv_at hl 0 rfl) ?_
  obtain ⟨_, h1, e9, hf⟩ := jB_some hf
  refine j_callIN (pc := 1) (st1 := []) (As := []) (rest := []) cx hS rfl hl.1 hm (metX27_init l _ _ _ _ e9) (jle hf) rfl q1113 q1112 q1121 q158 pdX27_init rfl rfl (Nat.le_of_ble_eq_true rfl) ⟨Nat.le_of_ble_eq_true rfl, Nat.le_of_ble_eq_true rfl⟩ dX29_init_1 rfl (fun H locs cells slots hS => ?_)
  refine lv_aload_n (pc := 4) hx hb dX29_init_4 rfl (lv_at hl 0 rfl) ?_
  refine lv_iload_n (pc := 5) hx hb dX29_init_5 rfl (lv_at hl 1 rfl) ?_
  refine j_pI (pc := 6) cx hS hf fp_WornSkin_Scrapes_skin (Or.inr ⟨rfl, hin, rfl⟩) q1122 dX29_init_6 (fun h H locs hf hS => ?_)
  refine lv_aload_n (pc := 9) hx hb dX29_init_9 rfl (lv_at hl 0 rfl) ?_
  refine lv_iload_n (pc := 10) hx hb dX29_init_10 rfl (lv_at hl 2 rfl) ?_
  refine j_pZ (pc := 11) cx hS hf fp_WornSkin_Scrapes_third (Or.inr ⟨rfl, hin, rfl⟩) q1123 dX29_init_11 (fun h H locs hf hS => ?_)
  exact j_vret (pc := 14) cx hS hf e1 e2 dX29_init_14
theorem metX29_init (l : Launch) (a0 : Nat) (x1 : Int32) (x2 : Int32) (h h' : jH) (r : Unit) (hf : (fX29_init a0 x1 x2).1 h = some (r, h')) : jMet l yX29_init (ws_ yX29_init cX29_init 3 (Option.none : Option Jvm.ClassFile.FieldType)) (2) (40) [.ref a0, .int x1, .int x2] h h' (.returned none) := by
  refine jStart rfl (jle hf) (Nat.le_of_ble_eq_true rfl) ?_
  intro p e s m below meth c D dA H0 mc ms ls cx hnm e1 e2 hS hl
  exact wX29_init_0 cx e1 e2 hnm a0 _ _ _ _ _ _ _ _ hf hS hl
def fX30_init (a0 : Nat) (x1 : Int32) (x2 : Int32) (x3 : Int32) : jM Unit := jB (fX27_init a0) fun _ => jB (jpI [30] 0 (some a0) x1) fun _ => jB (jpI [30] 1 (some a0) x2) fun _ => jB (jpI [30] 2 (some a0) x3) fun _ => jR ()
theorem wX30_init_0 {r : Unit} (cx : jCx p s m args meth c cX30_init "WornSkin$Writes" 4 (Option.none : Option Jvm.ClassFile.FieldType) D dA H0 hs.2.2.2.2) (e1 : h'.2.2.1 = hs.2.2.1 + mc) (e2 : h'.2.2.2.1 = hs.2.2.2.1 + ms) (hin : meth.name = "<init>") (a0 : Nat) : ∀ (x1 : Int32) (x2 : Int32) (x3 : Int32), ∀ (h : jH) (H : Heap) (locs : List Loc) (cells slots : Nat) (ls : Array Slot), (fX30_init a0 x1 x2 x3).1 h = some (r, h') → jS D dA H0 hs h H locs cells slots → lv_has ls 4 [(0, .ref a0), (1, .int x1), (2, .int x2), (3, .int x3)] → W p l e { frames := 2, cells := mc, slots := ms, locals := 40 } s m args below meth c H locs cells slots (jQ D dA H0 below s (.returned none) h' mc ms) (F0 m 0 ls []) := by
  have hx := cx.1
  have hb := cx.2.1
  have hown := cx.2.2.2.1
  have hts := cx.2.2.2.2.1
  have hm : h'.2.2.1 ≤ hs.2.2.1 + mc ∧ h'.2.2.2.1 ≤ hs.2.2.2.1 + ms := ⟨Nat.le_of_eq e1, Nat.le_of_eq e2⟩
  intro x1 x2 x3 h H locs cells slots ls hf hS hl
  unfold fX30_init at hf
  refine lv_aload_n (pc := 0) hx hb dX30_init_0 rfl (lv_at hl 0 rfl) ?_
  obtain ⟨_, h1, e9, hf⟩ := jB_some hf
  refine j_callIN (pc := 1) (st1 := []) (As := []) (rest := []) cx hS rfl hl.1 hm (metX27_init l _ _ _ _ e9) (jle hf) rfl q1113 q1112 q1134 q158 pdX27_init rfl rfl (Nat.le_of_ble_eq_true rfl) ⟨Nat.le_of_ble_eq_true rfl, Nat.le_of_ble_eq_true rfl⟩ dX30_init_1 rfl (fun H locs cells slots hS => ?_)
  refine lv_aload_n (pc := 4) hx hb dX30_init_4 rfl (lv_at hl 0 rfl) ?_
  refine lv_iload_n (pc := 5) hx hb dX30_init_5 rfl (lv_at hl 1 rfl) ?_
  refine j_pI (pc := 6) cx hS hf fp_WornSkin_Writes_text (Or.inr ⟨rfl, hin, rfl⟩) q1135 dX30_init_6 (fun h H locs hf hS => ?_)
  refine lv_aload_n (pc := 9) hx hb dX30_init_9 rfl (lv_at hl 0 rfl) ?_
  refine lv_iload_n (pc := 10) hx hb dX30_init_10 rfl (lv_at hl 2 rfl) ?_
  refine j_pI (pc := 11) cx hS hf fp_WornSkin_Writes_skin (Or.inr ⟨rfl, hin, rfl⟩) q1136 dX30_init_11 (fun h H locs hf hS => ?_)
  refine lv_aload_n (pc := 14) hx hb dX30_init_14 rfl (lv_at hl 0 rfl) ?_
  refine lv_iload_n (pc := 15) hx hb dX30_init_15 rfl (lv_at hl 3 rfl) ?_
  refine j_pI (pc := 16) cx hS hf fp_WornSkin_Writes_line (Or.inr ⟨rfl, hin, rfl⟩) q1137 dX30_init_16 (fun h H locs hf hS => ?_)
  exact j_vret (pc := 19) cx hS hf e1 e2 dX30_init_19
theorem metX30_init (l : Launch) (a0 : Nat) (x1 : Int32) (x2 : Int32) (x3 : Int32) (h h' : jH) (r : Unit) (hf : (fX30_init a0 x1 x2 x3).1 h = some (r, h')) : jMet l yX30_init (ws_ yX30_init cX30_init 4 (Option.none : Option Jvm.ClassFile.FieldType)) (2) (40) [.ref a0, .int x1, .int x2, .int x3] h h' (.returned none) := by
  refine jStart rfl (jle hf) (Nat.le_of_ble_eq_true rfl) ?_
  intro p e s m below meth c D dA H0 mc ms ls cx hnm e1 e2 hS hl
  exact wX30_init_0 cx e1 e2 hnm a0 _ _ _ _ _ _ _ _ _ hf hS hl
def fX21_with (a0 : Nat) (x1 : Int32) (x2 : Int32) : jM Int32 := jR (x1 + x2)
theorem wX21_with_0 {r : Int32} (cx : jCx p s m args meth c cX21_with "WornSkin$Plus" 3 (Option.some Jvm.ClassFile.FieldType.int) D dA H0 hs.2.2.2.2) (e1 : h'.2.2.1 = hs.2.2.1 + mc) (e2 : h'.2.2.2.1 = hs.2.2.2.1 + ms) (a0 : Nat) : ∀ (x1 : Int32) (x2 : Int32), ∀ (h : jH) (H : Heap) (locs : List Loc) (cells slots : Nat) (ls : Array Slot), (fX21_with a0 x1 x2).1 h = some (r, h') → jS D dA H0 hs h H locs cells slots → lv_has ls 3 [(0, .ref a0), (1, .int x1), (2, .int x2)] → W p l e { frames := 0, cells := mc, slots := ms, locals := 0 } s m args below meth c H locs cells slots (jQ D dA H0 below s (.returned (some (.int r))) h' mc ms) (F0 m 0 ls []) := by
  have hx := cx.1
  have hb := cx.2.1
  have hown := cx.2.2.2.1
  have hts := cx.2.2.2.2.1
  have hm : h'.2.2.1 ≤ hs.2.2.1 + mc ∧ h'.2.2.2.1 ≤ hs.2.2.2.1 + ms := ⟨Nat.le_of_eq e1, Nat.le_of_eq e2⟩
  intro x1 x2 h H locs cells slots ls hf hS hl
  unfold fX21_with at hf
  refine lv_iload_n (pc := 0) hx hb dX21_with_0 rfl (lv_at hl 1 rfl) ?_
  refine lv_iload_n (pc := 1) hx hb dX21_with_1 rfl (lv_at hl 2 rfl) ?_
  refine lv_iadd (pc := 2) hx hb dX21_with_2 ?_
  exact j_iret (pc := 3) cx hS hf e1 e2 dX21_with_3
theorem metX21_with (l : Launch) (a0 : Nat) (x1 : Int32) (x2 : Int32) (h h' : jH) (r : Int32) (hf : (fX21_with a0 x1 x2).1 h = some (r, h')) : jMet l yX21_with (ws_ yX21_with cX21_with 3 (Option.some Jvm.ClassFile.FieldType.int)) (0) (0) [.ref a0, .int x1, .int x2] h h' (.returned (some (.int r))) := by
  refine jStart rfl (jle hf) (Nat.le_of_ble_eq_true rfl) ?_
  intro p e s m below meth c D dA H0 mc ms ls cx hnm e1 e2 hS hl
  exact wX21_with_0 cx e1 e2 a0 _ _ _ _ _ _ _ _ hf hS hl
def fX22_with (a0 : Nat) (x1 : Int32) (x2 : Int32) : jM Int32 := jR (x1 - x2)
theorem wX22_with_0 {r : Int32} (cx : jCx p s m args meth c cX22_with "WornSkin$Minus" 3 (Option.some Jvm.ClassFile.FieldType.int) D dA H0 hs.2.2.2.2) (e1 : h'.2.2.1 = hs.2.2.1 + mc) (e2 : h'.2.2.2.1 = hs.2.2.2.1 + ms) (a0 : Nat) : ∀ (x1 : Int32) (x2 : Int32), ∀ (h : jH) (H : Heap) (locs : List Loc) (cells slots : Nat) (ls : Array Slot), (fX22_with a0 x1 x2).1 h = some (r, h') → jS D dA H0 hs h H locs cells slots → lv_has ls 3 [(0, .ref a0), (1, .int x1), (2, .int x2)] → W p l e { frames := 0, cells := mc, slots := ms, locals := 0 } s m args below meth c H locs cells slots (jQ D dA H0 below s (.returned (some (.int r))) h' mc ms) (F0 m 0 ls []) := by
  have hx := cx.1
  have hb := cx.2.1
  have hown := cx.2.2.2.1
  have hts := cx.2.2.2.2.1
  have hm : h'.2.2.1 ≤ hs.2.2.1 + mc ∧ h'.2.2.2.1 ≤ hs.2.2.2.1 + ms := ⟨Nat.le_of_eq e1, Nat.le_of_eq e2⟩
  intro x1 x2 h H locs cells slots ls hf hS hl
  unfold fX22_with at hf
  refine lv_iload_n (pc := 0) hx hb dX22_with_0 rfl (lv_at hl 1 rfl) ?_
  refine lv_iload_n (pc := 1) hx hb dX22_with_1 rfl (lv_at hl 2 rfl) ?_
  refine lv_isub (pc := 2) hx hb dX22_with_2 ?_
  exact j_iret (pc := 3) cx hS hf e1 e2 dX22_with_3
theorem metX22_with (l : Launch) (a0 : Nat) (x1 : Int32) (x2 : Int32) (h h' : jH) (r : Int32) (hf : (fX22_with a0 x1 x2).1 h = some (r, h')) : jMet l yX22_with (ws_ yX22_with cX22_with 3 (Option.some Jvm.ClassFile.FieldType.int)) (0) (0) [.ref a0, .int x1, .int x2] h h' (.returned (some (.int r))) := by
  refine jStart rfl (jle hf) (Nat.le_of_ble_eq_true rfl) ?_
  intro p e s m below meth c D dA H0 mc ms ls cx hnm e1 e2 hS hl
  exact wX22_with_0 cx e1 e2 a0 _ _ _ _ _ _ _ _ hf hS hl
def fX20_with (a0 : Nat) (x1 : Int32) (x2 : Int32) : jM Int32 := jR (x1 * x2)
theorem wX20_with_0 {r : Int32} (cx : jCx p s m args meth c cX20_with "WornSkin$Times" 3 (Option.some Jvm.ClassFile.FieldType.int) D dA H0 hs.2.2.2.2) (e1 : h'.2.2.1 = hs.2.2.1 + mc) (e2 : h'.2.2.2.1 = hs.2.2.2.1 + ms) (a0 : Nat) : ∀ (x1 : Int32) (x2 : Int32), ∀ (h : jH) (H : Heap) (locs : List Loc) (cells slots : Nat) (ls : Array Slot), (fX20_with a0 x1 x2).1 h = some (r, h') → jS D dA H0 hs h H locs cells slots → lv_has ls 3 [(0, .ref a0), (1, .int x1), (2, .int x2)] → W p l e { frames := 0, cells := mc, slots := ms, locals := 0 } s m args below meth c H locs cells slots (jQ D dA H0 below s (.returned (some (.int r))) h' mc ms) (F0 m 0 ls []) := by
  have hx := cx.1
  have hb := cx.2.1
  have hown := cx.2.2.2.1
  have hts := cx.2.2.2.2.1
  have hm : h'.2.2.1 ≤ hs.2.2.1 + mc ∧ h'.2.2.2.1 ≤ hs.2.2.2.1 + ms := ⟨Nat.le_of_eq e1, Nat.le_of_eq e2⟩
  intro x1 x2 h H locs cells slots ls hf hS hl
  unfold fX20_with at hf
  refine lv_iload_n (pc := 0) hx hb dX20_with_0 rfl (lv_at hl 1 rfl) ?_
  refine lv_iload_n (pc := 1) hx hb dX20_with_1 rfl (lv_at hl 2 rfl) ?_
  refine lv_imul (pc := 2) hx hb dX20_with_2 ?_
  exact j_iret (pc := 3) cx hS hf e1 e2 dX20_with_3
theorem metX20_with (l : Launch) (a0 : Nat) (x1 : Int32) (x2 : Int32) (h h' : jH) (r : Int32) (hf : (fX20_with a0 x1 x2).1 h = some (r, h')) : jMet l yX20_with (ws_ yX20_with cX20_with 3 (Option.some Jvm.ClassFile.FieldType.int)) (0) (0) [.ref a0, .int x1, .int x2] h h' (.returned (some (.int r))) := by
  refine jStart rfl (jle hf) (Nat.le_of_ble_eq_true rfl) ?_
  intro p e s m below meth c D dA H0 mc ms ls cx hnm e1 e2 hS hl
  exact wX20_with_0 cx e1 e2 a0 _ _ _ _ _ _ _ _ hf hS hl
def fX25_with_13 (a0 : Nat) (v0 : Int32) : jM Int32 := jR v0
def fX25_with_12 (a0 : Nat) : jM Int32 := fX25_with_13 a0 0
def fX25_with (a0 : Nat) (x1 : Int32) (x2 : Int32) : jM Int32 := if x1 = 0 then (fX25_with_12 a0) else (if x2 = 0 then (fX25_with_12 a0) else (fX25_with_13 a0 1))
theorem wX25_with_13 {r : Int32} (cx : jCx p s m args meth c cX25_with "WornSkin$And" 3 (Option.some Jvm.ClassFile.FieldType.int) D dA H0 hs.2.2.2.2) (e1 : h'.2.2.1 = hs.2.2.1 + mc) (e2 : h'.2.2.2.1 = hs.2.2.2.1 + ms) (a0 : Nat) : ∀ (v0 : Int32), ∀ (h : jH) (H : Heap) (locs : List Loc) (cells slots : Nat) (ls : Array Slot), (fX25_with_13 a0 v0).1 h = some (r, h') → jS D dA H0 hs h H locs cells slots → lv_has ls 3 [(0, .ref a0)] → W p l e { frames := 0, cells := mc, slots := ms, locals := 0 } s m args below meth c H locs cells slots (jQ D dA H0 below s (.returned (some (.int r))) h' mc ms) (F0 m 13 ls [.int v0]) := by
  have hx := cx.1
  have hb := cx.2.1
  have hown := cx.2.2.2.1
  have hts := cx.2.2.2.2.1
  have hm : h'.2.2.1 ≤ hs.2.2.1 + mc ∧ h'.2.2.2.1 ≤ hs.2.2.2.1 + ms := ⟨Nat.le_of_eq e1, Nat.le_of_eq e2⟩
  intro v0 h H locs cells slots ls hf hS hl
  unfold fX25_with_13 at hf
  exact j_iret (pc := 13) cx hS hf e1 e2 dX25_with_13
theorem wX25_with_12 {r : Int32} (cx : jCx p s m args meth c cX25_with "WornSkin$And" 3 (Option.some Jvm.ClassFile.FieldType.int) D dA H0 hs.2.2.2.2) (e1 : h'.2.2.1 = hs.2.2.1 + mc) (e2 : h'.2.2.2.1 = hs.2.2.2.1 + ms) (a0 : Nat) : ∀ (h : jH) (H : Heap) (locs : List Loc) (cells slots : Nat) (ls : Array Slot), (fX25_with_12 a0).1 h = some (r, h') → jS D dA H0 hs h H locs cells slots → lv_has ls 3 [(0, .ref a0)] → W p l e { frames := 0, cells := mc, slots := ms, locals := 0 } s m args below meth c H locs cells slots (jQ D dA H0 below s (.returned (some (.int r))) h' mc ms) (F0 m 12 ls []) := by
  have hx := cx.1
  have hb := cx.2.1
  have hown := cx.2.2.2.1
  have hts := cx.2.2.2.2.1
  have hm : h'.2.2.1 ≤ hs.2.2.1 + mc ∧ h'.2.2.2.1 ≤ hs.2.2.2.1 + ms := ⟨Nat.le_of_eq e1, Nat.le_of_eq e2⟩
  intro h H locs cells slots ls hf hS hl
  unfold fX25_with_12 at hf
  refine lv_iconst (pc := 12) (v := 0) hx hb dX25_with_12 rfl ?_
  exact wX25_with_13 cx e1 e2 a0 _ _ _ _ _ _ _ hf hS hl
theorem wX25_with_0 {r : Int32} (cx : jCx p s m args meth c cX25_with "WornSkin$And" 3 (Option.some Jvm.ClassFile.FieldType.int) D dA H0 hs.2.2.2.2) (e1 : h'.2.2.1 = hs.2.2.1 + mc) (e2 : h'.2.2.2.1 = hs.2.2.2.1 + ms) (a0 : Nat) : ∀ (x1 : Int32) (x2 : Int32), ∀ (h : jH) (H : Heap) (locs : List Loc) (cells slots : Nat) (ls : Array Slot), (fX25_with a0 x1 x2).1 h = some (r, h') → jS D dA H0 hs h H locs cells slots → lv_has ls 3 [(0, .ref a0), (1, .int x1), (2, .int x2)] → W p l e { frames := 0, cells := mc, slots := ms, locals := 0 } s m args below meth c H locs cells slots (jQ D dA H0 below s (.returned (some (.int r))) h' mc ms) (F0 m 0 ls []) := by
  have hx := cx.1
  have hb := cx.2.1
  have hown := cx.2.2.2.1
  have hts := cx.2.2.2.2.1
  have hm : h'.2.2.1 ≤ hs.2.2.1 + mc ∧ h'.2.2.2.1 ≤ hs.2.2.2.1 + ms := ⟨Nat.le_of_eq e1, Nat.le_of_eq e2⟩
  intro x1 x2 h H locs cells slots ls hf hS hl
  unfold fX25_with at hf
  refine lv_iload_n (pc := 0) hx hb dX25_with_0 rfl (lv_at hl 1 rfl) ?_
  refine lv_if_eq (pc := 1) (tgt := 12) hx hb dX25_with_1 (by decide) (fun hc => ?_) (fun hc => ?_)
  · have hf := jI_t hf hc
    exact wX25_with_12 cx e1 e2 a0 _ _ _ _ _ _ hf hS (lv_sub hl [0] rfl)
  · have hf := jI_f hf hc
    refine lv_iload_n (pc := 4) hx hb dX25_with_4 rfl (lv_at hl 2 rfl) ?_
    refine lv_if_eq (pc := 5) (tgt := 12) hx hb dX25_with_5 (by decide) (fun hc => ?_) (fun hc => ?_)
    · have hf := jI_t hf hc
      exact wX25_with_12 cx e1 e2 a0 _ _ _ _ _ _ hf hS (lv_sub hl [0] rfl)
    · have hf := jI_f hf hc
      refine lv_iconst (pc := 8) (v := 1) hx hb dX25_with_8 rfl ?_
      refine lv_goto (pc := 9) (tgt := 13) hx hb dX25_with_9 (by decide) ?_
      exact wX25_with_13 cx e1 e2 a0 _ _ _ _ _ _ _ hf hS (lv_sub hl [0] rfl)
theorem metX25_with (l : Launch) (a0 : Nat) (x1 : Int32) (x2 : Int32) (h h' : jH) (r : Int32) (hf : (fX25_with a0 x1 x2).1 h = some (r, h')) : jMet l yX25_with (ws_ yX25_with cX25_with 3 (Option.some Jvm.ClassFile.FieldType.int)) (0) (0) [.ref a0, .int x1, .int x2] h h' (.returned (some (.int r))) := by
  refine jStart rfl (jle hf) (Nat.le_of_ble_eq_true rfl) ?_
  intro p e s m below meth c D dA H0 mc ms ls cx hnm e1 e2 hS hl
  exact wX25_with_0 cx e1 e2 a0 _ _ _ _ _ _ _ _ hf hS hl
def fX26_with_13 (a0 : Nat) (v0 : Int32) : jM Int32 := jR v0
def fX26_with_8 (a0 : Nat) : jM Int32 := fX26_with_13 a0 1
def fX26_with (a0 : Nat) (x1 : Int32) (x2 : Int32) : jM Int32 := if x1 = 0 then (if x2 = 0 then (fX26_with_13 a0 0) else (fX26_with_8 a0)) else (fX26_with_8 a0)
theorem wX26_with_13 {r : Int32} (cx : jCx p s m args meth c cX26_with "WornSkin$Or" 3 (Option.some Jvm.ClassFile.FieldType.int) D dA H0 hs.2.2.2.2) (e1 : h'.2.2.1 = hs.2.2.1 + mc) (e2 : h'.2.2.2.1 = hs.2.2.2.1 + ms) (a0 : Nat) : ∀ (v0 : Int32), ∀ (h : jH) (H : Heap) (locs : List Loc) (cells slots : Nat) (ls : Array Slot), (fX26_with_13 a0 v0).1 h = some (r, h') → jS D dA H0 hs h H locs cells slots → lv_has ls 3 [(0, .ref a0)] → W p l e { frames := 0, cells := mc, slots := ms, locals := 0 } s m args below meth c H locs cells slots (jQ D dA H0 below s (.returned (some (.int r))) h' mc ms) (F0 m 13 ls [.int v0]) := by
  have hx := cx.1
  have hb := cx.2.1
  have hown := cx.2.2.2.1
  have hts := cx.2.2.2.2.1
  have hm : h'.2.2.1 ≤ hs.2.2.1 + mc ∧ h'.2.2.2.1 ≤ hs.2.2.2.1 + ms := ⟨Nat.le_of_eq e1, Nat.le_of_eq e2⟩
  intro v0 h H locs cells slots ls hf hS hl
  unfold fX26_with_13 at hf
  exact j_iret (pc := 13) cx hS hf e1 e2 dX26_with_13
theorem wX26_with_8 {r : Int32} (cx : jCx p s m args meth c cX26_with "WornSkin$Or" 3 (Option.some Jvm.ClassFile.FieldType.int) D dA H0 hs.2.2.2.2) (e1 : h'.2.2.1 = hs.2.2.1 + mc) (e2 : h'.2.2.2.1 = hs.2.2.2.1 + ms) (a0 : Nat) : ∀ (h : jH) (H : Heap) (locs : List Loc) (cells slots : Nat) (ls : Array Slot), (fX26_with_8 a0).1 h = some (r, h') → jS D dA H0 hs h H locs cells slots → lv_has ls 3 [(0, .ref a0)] → W p l e { frames := 0, cells := mc, slots := ms, locals := 0 } s m args below meth c H locs cells slots (jQ D dA H0 below s (.returned (some (.int r))) h' mc ms) (F0 m 8 ls []) := by
  have hx := cx.1
  have hb := cx.2.1
  have hown := cx.2.2.2.1
  have hts := cx.2.2.2.2.1
  have hm : h'.2.2.1 ≤ hs.2.2.1 + mc ∧ h'.2.2.2.1 ≤ hs.2.2.2.1 + ms := ⟨Nat.le_of_eq e1, Nat.le_of_eq e2⟩
  intro h H locs cells slots ls hf hS hl
  unfold fX26_with_8 at hf
  refine lv_iconst (pc := 8) (v := 1) hx hb dX26_with_8 rfl ?_
  refine lv_goto (pc := 9) (tgt := 13) hx hb dX26_with_9 (by decide) ?_
  exact wX26_with_13 cx e1 e2 a0 _ _ _ _ _ _ _ hf hS hl
theorem wX26_with_0 {r : Int32} (cx : jCx p s m args meth c cX26_with "WornSkin$Or" 3 (Option.some Jvm.ClassFile.FieldType.int) D dA H0 hs.2.2.2.2) (e1 : h'.2.2.1 = hs.2.2.1 + mc) (e2 : h'.2.2.2.1 = hs.2.2.2.1 + ms) (a0 : Nat) : ∀ (x1 : Int32) (x2 : Int32), ∀ (h : jH) (H : Heap) (locs : List Loc) (cells slots : Nat) (ls : Array Slot), (fX26_with a0 x1 x2).1 h = some (r, h') → jS D dA H0 hs h H locs cells slots → lv_has ls 3 [(0, .ref a0), (1, .int x1), (2, .int x2)] → W p l e { frames := 0, cells := mc, slots := ms, locals := 0 } s m args below meth c H locs cells slots (jQ D dA H0 below s (.returned (some (.int r))) h' mc ms) (F0 m 0 ls []) := by
  have hx := cx.1
  have hb := cx.2.1
  have hown := cx.2.2.2.1
  have hts := cx.2.2.2.2.1
  have hm : h'.2.2.1 ≤ hs.2.2.1 + mc ∧ h'.2.2.2.1 ≤ hs.2.2.2.1 + ms := ⟨Nat.le_of_eq e1, Nat.le_of_eq e2⟩
  intro x1 x2 h H locs cells slots ls hf hS hl
  unfold fX26_with at hf
  refine lv_iload_n (pc := 0) hx hb dX26_with_0 rfl (lv_at hl 1 rfl) ?_
  refine lv_if_ne (pc := 1) (tgt := 8) hx hb dX26_with_1 (by decide) (fun hc => ?_) (fun hc => ?_)
  · have hf := jI_f hf hc
    exact wX26_with_8 cx e1 e2 a0 _ _ _ _ _ _ hf hS (lv_sub hl [0] rfl)
  · have hf := jI_t hf hc
    refine lv_iload_n (pc := 4) hx hb dX26_with_4 rfl (lv_at hl 2 rfl) ?_
    refine lv_if_eq (pc := 5) (tgt := 12) hx hb dX26_with_5 (by decide) (fun hc => ?_) (fun hc => ?_)
    · have hf := jI_t hf hc
      refine lv_iconst (pc := 12) (v := 0) hx hb dX26_with_12 rfl ?_
      exact wX26_with_13 cx e1 e2 a0 _ _ _ _ _ _ _ hf hS (lv_sub hl [0] rfl)
    · have hf := jI_f hf hc
      exact wX26_with_8 cx e1 e2 a0 _ _ _ _ _ _ hf hS (lv_sub hl [0] rfl)
theorem metX26_with (l : Launch) (a0 : Nat) (x1 : Int32) (x2 : Int32) (h h' : jH) (r : Int32) (hf : (fX26_with a0 x1 x2).1 h = some (r, h')) : jMet l yX26_with (ws_ yX26_with cX26_with 3 (Option.some Jvm.ClassFile.FieldType.int)) (0) (0) [.ref a0, .int x1, .int x2] h h' (.returned (some (.int r))) := by
  refine jStart rfl (jle hf) (Nat.le_of_ble_eq_true rfl) ?_
  intro p e s m below meth c D dA H0 mc ms ls cx hnm e1 e2 hS hl
  exact wX26_with_0 cx e1 e2 a0 _ _ _ _ _ _ _ _ hf hS hl
def fX23_with_10 (a0 : Nat) (v0 : Int32) : jM Int32 := jR v0
def fX23_with (a0 : Nat) (x1 : Int32) (x2 : Int32) : jM Int32 := if x2 ≤ x1 then (fX23_with_10 a0 0) else (fX23_with_10 a0 1)
theorem wX23_with_10 {r : Int32} (cx : jCx p s m args meth c cX23_with "WornSkin$Less" 3 (Option.some Jvm.ClassFile.FieldType.int) D dA H0 hs.2.2.2.2) (e1 : h'.2.2.1 = hs.2.2.1 + mc) (e2 : h'.2.2.2.1 = hs.2.2.2.1 + ms) (a0 : Nat) : ∀ (v0 : Int32), ∀ (h : jH) (H : Heap) (locs : List Loc) (cells slots : Nat) (ls : Array Slot), (fX23_with_10 a0 v0).1 h = some (r, h') → jS D dA H0 hs h H locs cells slots → lv_has ls 3 [(0, .ref a0)] → W p l e { frames := 0, cells := mc, slots := ms, locals := 0 } s m args below meth c H locs cells slots (jQ D dA H0 below s (.returned (some (.int r))) h' mc ms) (F0 m 10 ls [.int v0]) := by
  have hx := cx.1
  have hb := cx.2.1
  have hown := cx.2.2.2.1
  have hts := cx.2.2.2.2.1
  have hm : h'.2.2.1 ≤ hs.2.2.1 + mc ∧ h'.2.2.2.1 ≤ hs.2.2.2.1 + ms := ⟨Nat.le_of_eq e1, Nat.le_of_eq e2⟩
  intro v0 h H locs cells slots ls hf hS hl
  unfold fX23_with_10 at hf
  exact j_iret (pc := 10) cx hS hf e1 e2 dX23_with_10
theorem wX23_with_0 {r : Int32} (cx : jCx p s m args meth c cX23_with "WornSkin$Less" 3 (Option.some Jvm.ClassFile.FieldType.int) D dA H0 hs.2.2.2.2) (e1 : h'.2.2.1 = hs.2.2.1 + mc) (e2 : h'.2.2.2.1 = hs.2.2.2.1 + ms) (a0 : Nat) : ∀ (x1 : Int32) (x2 : Int32), ∀ (h : jH) (H : Heap) (locs : List Loc) (cells slots : Nat) (ls : Array Slot), (fX23_with a0 x1 x2).1 h = some (r, h') → jS D dA H0 hs h H locs cells slots → lv_has ls 3 [(0, .ref a0), (1, .int x1), (2, .int x2)] → W p l e { frames := 0, cells := mc, slots := ms, locals := 0 } s m args below meth c H locs cells slots (jQ D dA H0 below s (.returned (some (.int r))) h' mc ms) (F0 m 0 ls []) := by
  have hx := cx.1
  have hb := cx.2.1
  have hown := cx.2.2.2.1
  have hts := cx.2.2.2.2.1
  have hm : h'.2.2.1 ≤ hs.2.2.1 + mc ∧ h'.2.2.2.1 ≤ hs.2.2.2.1 + ms := ⟨Nat.le_of_eq e1, Nat.le_of_eq e2⟩
  intro x1 x2 h H locs cells slots ls hf hS hl
  unfold fX23_with at hf
  refine lv_iload_n (pc := 0) hx hb dX23_with_0 rfl (lv_at hl 1 rfl) ?_
  refine lv_iload_n (pc := 1) hx hb dX23_with_1 rfl (lv_at hl 2 rfl) ?_
  refine lv_icmp_ge (pc := 2) (tgt := 9) hx hb dX23_with_2 (by decide) (fun hc => ?_) (fun hc => ?_)
  · have hf := jI_t hf hc
    refine lv_iconst (pc := 9) (v := 0) hx hb dX23_with_9 rfl ?_
    exact wX23_with_10 cx e1 e2 a0 _ _ _ _ _ _ _ hf hS (lv_sub hl [0] rfl)
  · have hf := jI_f hf hc
    refine lv_iconst (pc := 5) (v := 1) hx hb dX23_with_5 rfl ?_
    refine lv_goto (pc := 6) (tgt := 10) hx hb dX23_with_6 (by decide) ?_
    exact wX23_with_10 cx e1 e2 a0 _ _ _ _ _ _ _ hf hS (lv_sub hl [0] rfl)
theorem metX23_with (l : Launch) (a0 : Nat) (x1 : Int32) (x2 : Int32) (h h' : jH) (r : Int32) (hf : (fX23_with a0 x1 x2).1 h = some (r, h')) : jMet l yX23_with (ws_ yX23_with cX23_with 3 (Option.some Jvm.ClassFile.FieldType.int)) (0) (0) [.ref a0, .int x1, .int x2] h h' (.returned (some (.int r))) := by
  refine jStart rfl (jle hf) (Nat.le_of_ble_eq_true rfl) ?_
  intro p e s m below meth c D dA H0 mc ms ls cx hnm e1 e2 hS hl
  exact wX23_with_0 cx e1 e2 a0 _ _ _ _ _ _ _ _ hf hS hl
def fX24_with_10 (a0 : Nat) (v0 : Int32) : jM Int32 := jR v0
def fX24_with (a0 : Nat) (x1 : Int32) (x2 : Int32) : jM Int32 := if x1 = x2 then (fX24_with_10 a0 1) else (fX24_with_10 a0 0)
theorem wX24_with_10 {r : Int32} (cx : jCx p s m args meth c cX24_with "WornSkin$Same" 3 (Option.some Jvm.ClassFile.FieldType.int) D dA H0 hs.2.2.2.2) (e1 : h'.2.2.1 = hs.2.2.1 + mc) (e2 : h'.2.2.2.1 = hs.2.2.2.1 + ms) (a0 : Nat) : ∀ (v0 : Int32), ∀ (h : jH) (H : Heap) (locs : List Loc) (cells slots : Nat) (ls : Array Slot), (fX24_with_10 a0 v0).1 h = some (r, h') → jS D dA H0 hs h H locs cells slots → lv_has ls 3 [(0, .ref a0)] → W p l e { frames := 0, cells := mc, slots := ms, locals := 0 } s m args below meth c H locs cells slots (jQ D dA H0 below s (.returned (some (.int r))) h' mc ms) (F0 m 10 ls [.int v0]) := by
  have hx := cx.1
  have hb := cx.2.1
  have hown := cx.2.2.2.1
  have hts := cx.2.2.2.2.1
  have hm : h'.2.2.1 ≤ hs.2.2.1 + mc ∧ h'.2.2.2.1 ≤ hs.2.2.2.1 + ms := ⟨Nat.le_of_eq e1, Nat.le_of_eq e2⟩
  intro v0 h H locs cells slots ls hf hS hl
  unfold fX24_with_10 at hf
  exact j_iret (pc := 10) cx hS hf e1 e2 dX24_with_10
theorem wX24_with_0 {r : Int32} (cx : jCx p s m args meth c cX24_with "WornSkin$Same" 3 (Option.some Jvm.ClassFile.FieldType.int) D dA H0 hs.2.2.2.2) (e1 : h'.2.2.1 = hs.2.2.1 + mc) (e2 : h'.2.2.2.1 = hs.2.2.2.1 + ms) (a0 : Nat) : ∀ (x1 : Int32) (x2 : Int32), ∀ (h : jH) (H : Heap) (locs : List Loc) (cells slots : Nat) (ls : Array Slot), (fX24_with a0 x1 x2).1 h = some (r, h') → jS D dA H0 hs h H locs cells slots → lv_has ls 3 [(0, .ref a0), (1, .int x1), (2, .int x2)] → W p l e { frames := 0, cells := mc, slots := ms, locals := 0 } s m args below meth c H locs cells slots (jQ D dA H0 below s (.returned (some (.int r))) h' mc ms) (F0 m 0 ls []) := by
  have hx := cx.1
  have hb := cx.2.1
  have hown := cx.2.2.2.1
  have hts := cx.2.2.2.2.1
  have hm : h'.2.2.1 ≤ hs.2.2.1 + mc ∧ h'.2.2.2.1 ≤ hs.2.2.2.1 + ms := ⟨Nat.le_of_eq e1, Nat.le_of_eq e2⟩
  intro x1 x2 h H locs cells slots ls hf hS hl
  unfold fX24_with at hf
  refine lv_iload_n (pc := 0) hx hb dX24_with_0 rfl (lv_at hl 1 rfl) ?_
  refine lv_iload_n (pc := 1) hx hb dX24_with_1 rfl (lv_at hl 2 rfl) ?_
  refine lv_icmp_ne (pc := 2) (tgt := 9) hx hb dX24_with_2 (by decide) (fun hc => ?_) (fun hc => ?_)
  · have hf := jI_f hf hc
    refine lv_iconst (pc := 9) (v := 0) hx hb dX24_with_9 rfl ?_
    exact wX24_with_10 cx e1 e2 a0 _ _ _ _ _ _ _ hf hS (lv_sub hl [0] rfl)
  · have hf := jI_t hf hc
    refine lv_iconst (pc := 5) (v := 1) hx hb dX24_with_5 rfl ?_
    refine lv_goto (pc := 6) (tgt := 10) hx hb dX24_with_6 (by decide) ?_
    exact wX24_with_10 cx e1 e2 a0 _ _ _ _ _ _ _ hf hS (lv_sub hl [0] rfl)
theorem metX24_with (l : Launch) (a0 : Nat) (x1 : Int32) (x2 : Int32) (h h' : jH) (r : Int32) (hf : (fX24_with a0 x1 x2).1 h = some (r, h')) : jMet l yX24_with (ws_ yX24_with cX24_with 3 (Option.some Jvm.ClassFile.FieldType.int)) (0) (0) [.ref a0, .int x1, .int x2] h h' (.returned (some (.int r))) := by
  refine jStart rfl (jle hf) (Nat.le_of_ble_eq_true rfl) ?_
  intro p e s m below meth c D dA H0 mc ms ls cx hnm e1 e2 hS hl
  exact wX24_with_0 cx e1 e2 a0 _ _ _ _ _ _ _ _ hf hS hl
def d_Link_with (b : Nat) (x1 : Int32) (x2 : Int32) : jM Int32 := jB (jcls (some b)) fun k => if k = 21 then fX20_with b x1 x2 else if k = 22 then fX21_with b x1 x2 else if k = 23 then fX22_with b x1 x2 else if k = 24 then fX23_with b x1 x2 else if k = 25 then fX24_with b x1 x2 else if k = 26 then fX25_with b x1 x2 else if k = 27 then fX26_with b x1 x2 else jE
theorem md_Link_with (l : Launch) (b : Nat) (x1 : Int32) (x2 : Int32) (h h' : jH) (r : Int32) (hf : (d_Link_with b x1 x2).1 h = some (r, h')) : jVm l { cls := "WornSkin$Link", name := "with", desc := "(II)I" } (0) (0) 3 b [.int x1, .int x2] h h' (.returned (some (.int r))) := by
  unfold d_Link_with at hf
  obtain ⟨k, hk, hf⟩ := jBO_some hf
  by_cases hc21 : k = 21
  · have hf := jI_t hf hc21
    subst hc21
    exact ⟨_, _, _, _, _, metX20_with l _ _ _ _ _ _ hf, hk, ⟨q1272, q1273, q151, q1274⟩, Nat.le_of_ble_eq_true rfl⟩
  have hf := jI_f hf hc21
  by_cases hc22 : k = 22
  · have hf := jI_t hf hc22
    subst hc22
    exact ⟨_, _, _, _, _, metX21_with l _ _ _ _ _ _ hf, hk, ⟨q1266, q1267, q152, q1268⟩, Nat.le_of_ble_eq_true rfl⟩
  have hf := jI_f hf hc22
  by_cases hc23 : k = 23
  · have hf := jI_t hf hc23
    subst hc23
    exact ⟨_, _, _, _, _, metX22_with l _ _ _ _ _ _ hf, hk, ⟨q1260, q1261, q153, q1262⟩, Nat.le_of_ble_eq_true rfl⟩
  have hf := jI_f hf hc23
  by_cases hc24 : k = 24
  · have hf := jI_t hf hc24
    subst hc24
    exact ⟨_, _, _, _, _, metX23_with l _ _ _ _ _ _ hf, hk, ⟨q1257, q1258, q154, q1259⟩, Nat.le_of_ble_eq_true rfl⟩
  have hf := jI_f hf hc24
  by_cases hc25 : k = 25
  · have hf := jI_t hf hc25
    subst hc25
    exact ⟨_, _, _, _, _, metX24_with l _ _ _ _ _ _ hf, hk, ⟨q1269, q1270, q155, q1271⟩, Nat.le_of_ble_eq_true rfl⟩
  have hf := jI_f hf hc25
  by_cases hc26 : k = 26
  · have hf := jI_t hf hc26
    subst hc26
    exact ⟨_, _, _, _, _, metX25_with l _ _ _ _ _ _ hf, hk, ⟨q1254, q1255, q156, q1256⟩, Nat.le_of_ble_eq_true rfl⟩
  have hf := jI_f hf hc26
  by_cases hc27 : k = 27
  · have hf := jI_t hf hc27
    subst hc27
    exact ⟨_, _, _, _, _, metX26_with l _ _ _ _ _ _ hf, hk, ⟨q1263, q1264, q157, q1265⟩, Nat.le_of_ble_eq_true rfl⟩
  have hf := jI_f hf hc27
  exact jE_f hf
def fX19_on (rec : Nat → Option Nat → jM Int32) (a0 : Nat) (x1 : Int32) (x2 : Option Nat) : jM Int32 := jB (jgR [21, 22, 23, 24, 25, 26, 27] 0 (some a0)) fun y1 => jB (jnn0 y1) fun b3 => jB (rec b3 x2) fun y2 => jB (d_Link_with a0 x1 y2) fun y4 => jR y4
theorem wX19_on_0 {rec : Nat → Option Nat → jM Int32} {FR LO : Nat} {r : Int32} (cx : jCx p s m args meth c cX19_on "WornSkin$Link" 3 (Option.some Jvm.ClassFile.FieldType.int) D dA H0 hs.2.2.2.2) (e1 : h'.2.2.1 = hs.2.2.1 + mc) (e2 : h'.2.2.2.1 = hs.2.2.2.1 + ms) (a0 : Nat) (hrec : ∀ (b : Nat) (x1 : Option Nat) (h : jH) (r : Int32) (h1 : jH), (rec b x1).1 h = some (r, h1) → jVm l { cls := "WornSkin$Expression", name := "of", desc := "(LWornSkin$Facts;)I" } FR LO 4 b [va_rf x1] h h1 (.returned (some (.int r)))) : ∀ (x1 : Int32) (x2 : Option Nat), ∀ (h : jH) (H : Heap) (locs : List Loc) (cells slots : Nat) (ls : Array Slot), (fX19_on rec a0 x1 x2).1 h = some (r, h') → jS D dA H0 hs h H locs cells slots → lv_has ls 3 [(0, .ref a0), (1, .int x1), (2, va_rf x2)] → W p l e { frames := FR + 1, cells := mc, slots := ms, locals := LO + 23 } s m args below meth c H locs cells slots (jQ D dA H0 below s (.returned (some (.int r))) h' mc ms) (F0 m 0 ls []) := by
  have hx := cx.1
  have hb := cx.2.1
  have hown := cx.2.2.2.1
  have hts := cx.2.2.2.2.1
  have hm : h'.2.2.1 ≤ hs.2.2.1 + mc ∧ h'.2.2.2.1 ≤ hs.2.2.2.1 + ms := ⟨Nat.le_of_eq e1, Nat.le_of_eq e2⟩
  intro x1 x2 h H locs cells slots ls hf hS hl
  unfold fX19_on at hf
  refine lv_aload_n (pc := 0) hx hb dX19_on_0 rfl (lv_at hl 0 rfl) ?_
  refine lv_iload_n (pc := 1) hx hb dX19_on_1 rfl (lv_at hl 1 rfl) ?_
  refine lv_aload_n (pc := 2) hx hb dX19_on_2 rfl (lv_at hl 0 rfl) ?_
  refine j_gR (pc := 3) cx hS hf fd_WornSkin_Link_e q1032 dX19_on_3 (fun y1 hf => ?_)
  refine j_aload_n (pc := 6) (r := x2) hx hb dX19_on_6 rfl (lv_at hl 2 rfl) ?_
  obtain ⟨b3, eb, hf⟩ := jnn0_s hf
  refine j_nn (pc := 7) eb [va_rf x2] [.int x1, .ref a0] rfl ?_
  obtain ⟨y2, h1, e9, hf⟩ := jB_some hf
  refine j_callU (pc := 7) (st1 := [.int y2, .int x1, .ref a0]) (As := [va_rf x2]) (rest := [.int x1, .ref a0]) (x := { cls := "WornSkin$Expression", name := "of", desc := "(LWornSkin$Facts;)I" }) cx hS rfl hl.1 hm (hrec _ _ _ _ _ e9) (jle hf) q1250 q1224 (Or.inl q1223) pd_WornSkin_Expression_of rfl rfl (Nat.le_of_ble_eq_true rfl) ⟨jfr2 (Nat.le_of_ble_eq_true rfl), jlo2 (Nat.le_of_ble_eq_true rfl)⟩ dX19_on_7 rfl (fun H locs cells slots hS => ?_)
  obtain ⟨y4, h1, e9, hf⟩ := jB_some hf
  refine j_callU (pc := 10) (st1 := [.int y4]) (As := [.int x1, .int y2]) (rest := []) (x := { cls := "WornSkin$Link", name := "with", desc := "(II)I" }) cx hS rfl hl.1 hm (md_Link_with l _ _ _ _ _ _ e9) (jle hf) q1251 q1253 (Or.inl q1252) pd_WornSkin_Link_with rfl rfl (Nat.le_of_ble_eq_true rfl) ⟨jfr1 (Nat.le_of_ble_eq_true rfl), jfr1 (Nat.le_of_ble_eq_true rfl)⟩ dX19_on_10 rfl (fun H locs cells slots hS => ?_)
  exact j_iret (pc := 13) cx hS hf e1 e2 dX19_on_13
theorem metX19_on (l : Launch) (rec : Nat → Option Nat → jM Int32) (FR LO : Nat) (a0 : Nat) (x1 : Int32) (x2 : Option Nat) (h h' : jH) (r : Int32) (hrec : ∀ (b : Nat) (x1 : Option Nat) (h : jH) (r : Int32) (h1 : jH), (rec b x1).1 h = some (r, h1) → jVm l { cls := "WornSkin$Expression", name := "of", desc := "(LWornSkin$Facts;)I" } FR LO 4 b [va_rf x1] h h1 (.returned (some (.int r)))) (hf : (fX19_on rec a0 x1 x2).1 h = some (r, h')) : jMet l yX19_on (ws_ yX19_on cX19_on 3 (Option.some Jvm.ClassFile.FieldType.int)) (FR + 1) (LO + 23) [.ref a0, .int x1, va_rf x2] h h' (.returned (some (.int r))) := by
  refine jStart rfl (jle hf) (by cases x2 <;> exact Nat.le_of_ble_eq_true rfl) ?_
  intro p e s m below meth c D dA H0 mc ms ls cx hnm e1 e2 hS hl
  have hl : lv_has ls 3 [(0, .ref a0), (1, .int x1), (2, va_rf x2)] := by cases x2 <;> exact hl
  exact wX19_on_0 cx e1 e2 a0 hrec _ _ _ _ _ _ _ _ hf hS hl
def fX15_of (rec : Nat → Option Nat → jM Int32) (a0 : Nat) (x1 : Option Nat) : jM Int32 := jB (jgR [5] 0 x1) fun y1 => jB (jgI [17] 0 (some a0)) fun y2 => jB (jaI 0 y1 y2) fun y3 => jR y3
theorem wX15_of_0 {rec : Nat → Option Nat → jM Int32} {FR LO : Nat} {r : Int32} (cx : jCx p s m args meth c cX15_of "WornSkin$Fact" 2 (Option.some Jvm.ClassFile.FieldType.int) D dA H0 hs.2.2.2.2) (e1 : h'.2.2.1 = hs.2.2.1 + mc) (e2 : h'.2.2.2.1 = hs.2.2.2.1 + ms) (a0 : Nat) (hrec : ∀ (b : Nat) (x1 : Option Nat) (h : jH) (r : Int32) (h1 : jH), (rec b x1).1 h = some (r, h1) → jVm l { cls := "WornSkin$Expression", name := "of", desc := "(LWornSkin$Facts;)I" } FR LO 4 b [va_rf x1] h h1 (.returned (some (.int r)))) : ∀ (x1 : Option Nat), ∀ (h : jH) (H : Heap) (locs : List Loc) (cells slots : Nat) (ls : Array Slot), (fX15_of rec a0 x1).1 h = some (r, h') → jS D dA H0 hs h H locs cells slots → lv_has ls 2 [(0, .ref a0), (1, va_rf x1)] → W p l e { frames := FR + 3, cells := mc, slots := ms, locals := LO + 64 } s m args below meth c H locs cells slots (jQ D dA H0 below s (.returned (some (.int r))) h' mc ms) (F0 m 0 ls []) := by
  have hx := cx.1
  have hb := cx.2.1
  have hown := cx.2.2.2.1
  have hts := cx.2.2.2.2.1
  have hm : h'.2.2.1 ≤ hs.2.2.1 + mc ∧ h'.2.2.2.1 ≤ hs.2.2.2.1 + ms := ⟨Nat.le_of_eq e1, Nat.le_of_eq e2⟩
  intro x1 h H locs cells slots ls hf hS hl
  unfold fX15_of at hf
  refine j_aload_n (pc := 0) (r := x1) hx hb dX15_of_0 rfl (lv_at hl 1 rfl) ?_
  refine j_gR (pc := 1) cx hS hf fd_WornSkin_Facts_of q323 dX15_of_1 (fun y1 hf => ?_)
  refine lv_aload_n (pc := 4) hx hb dX15_of_4 rfl (lv_at hl 0 rfl) ?_
  refine j_gI (pc := 5) cx hS hf fd_WornSkin_Fact_which q972 dX15_of_5 (fun y2 hf => ?_)
  refine j_aI (pc := 8) cx hS hf rfl dX15_of_8 (fun y3 hf => ?_)
  exact j_iret (pc := 9) cx hS hf e1 e2 dX15_of_9
theorem metX15_of (l : Launch) (rec : Nat → Option Nat → jM Int32) (FR LO : Nat) (a0 : Nat) (x1 : Option Nat) (h h' : jH) (r : Int32) (hrec : ∀ (b : Nat) (x1 : Option Nat) (h : jH) (r : Int32) (h1 : jH), (rec b x1).1 h = some (r, h1) → jVm l { cls := "WornSkin$Expression", name := "of", desc := "(LWornSkin$Facts;)I" } FR LO 4 b [va_rf x1] h h1 (.returned (some (.int r)))) (hf : (fX15_of rec a0 x1).1 h = some (r, h')) : jMet l yX15_of (ws_ yX15_of cX15_of 2 (Option.some Jvm.ClassFile.FieldType.int)) (FR + 3) (LO + 64) [.ref a0, va_rf x1] h h' (.returned (some (.int r))) := by
  refine jStart rfl (jle hf) (by cases x1 <;> exact Nat.le_of_ble_eq_true rfl) ?_
  intro p e s m below meth c D dA H0 mc ms ls cx hnm e1 e2 hS hl
  have hl : lv_has ls 2 [(0, .ref a0), (1, va_rf x1)] := by cases x1 <;> exact hl
  exact wX15_of_0 cx e1 e2 a0 hrec _ _ _ _ _ _ _ hf hS hl
def fX16_of (rec : Nat → Option Nat → jM Int32) (a0 : Nat) (x1 : Option Nat) : jM Int32 := jB (jgI [18] 0 (some a0)) fun y1 => jR y1
theorem wX16_of_0 {rec : Nat → Option Nat → jM Int32} {FR LO : Nat} {r : Int32} (cx : jCx p s m args meth c cX16_of "WornSkin$Plain" 2 (Option.some Jvm.ClassFile.FieldType.int) D dA H0 hs.2.2.2.2) (e1 : h'.2.2.1 = hs.2.2.1 + mc) (e2 : h'.2.2.2.1 = hs.2.2.2.1 + ms) (a0 : Nat) (hrec : ∀ (b : Nat) (x1 : Option Nat) (h : jH) (r : Int32) (h1 : jH), (rec b x1).1 h = some (r, h1) → jVm l { cls := "WornSkin$Expression", name := "of", desc := "(LWornSkin$Facts;)I" } FR LO 4 b [va_rf x1] h h1 (.returned (some (.int r)))) : ∀ (x1 : Option Nat), ∀ (h : jH) (H : Heap) (locs : List Loc) (cells slots : Nat) (ls : Array Slot), (fX16_of rec a0 x1).1 h = some (r, h') → jS D dA H0 hs h H locs cells slots → lv_has ls 2 [(0, .ref a0), (1, va_rf x1)] → W p l e { frames := FR + 3, cells := mc, slots := ms, locals := LO + 64 } s m args below meth c H locs cells slots (jQ D dA H0 below s (.returned (some (.int r))) h' mc ms) (F0 m 0 ls []) := by
  have hx := cx.1
  have hb := cx.2.1
  have hown := cx.2.2.2.1
  have hts := cx.2.2.2.2.1
  have hm : h'.2.2.1 ≤ hs.2.2.1 + mc ∧ h'.2.2.2.1 ≤ hs.2.2.2.1 + ms := ⟨Nat.le_of_eq e1, Nat.le_of_eq e2⟩
  intro x1 h H locs cells slots ls hf hS hl
  unfold fX16_of at hf
  refine lv_aload_n (pc := 0) hx hb dX16_of_0 rfl (lv_at hl 0 rfl) ?_
  refine j_gI (pc := 1) cx hS hf fd_WornSkin_Plain_n q982 dX16_of_1 (fun y1 hf => ?_)
  exact j_iret (pc := 4) cx hS hf e1 e2 dX16_of_4
theorem metX16_of (l : Launch) (rec : Nat → Option Nat → jM Int32) (FR LO : Nat) (a0 : Nat) (x1 : Option Nat) (h h' : jH) (r : Int32) (hrec : ∀ (b : Nat) (x1 : Option Nat) (h : jH) (r : Int32) (h1 : jH), (rec b x1).1 h = some (r, h1) → jVm l { cls := "WornSkin$Expression", name := "of", desc := "(LWornSkin$Facts;)I" } FR LO 4 b [va_rf x1] h h1 (.returned (some (.int r)))) (hf : (fX16_of rec a0 x1).1 h = some (r, h')) : jMet l yX16_of (ws_ yX16_of cX16_of 2 (Option.some Jvm.ClassFile.FieldType.int)) (FR + 3) (LO + 64) [.ref a0, va_rf x1] h h' (.returned (some (.int r))) := by
  refine jStart rfl (jle hf) (by cases x1 <;> exact Nat.le_of_ble_eq_true rfl) ?_
  intro p e s m below meth c D dA H0 mc ms ls cx hnm e1 e2 hS hl
  have hl : lv_has ls 2 [(0, .ref a0), (1, va_rf x1)] := by cases x1 <;> exact hl
  exact wX16_of_0 cx e1 e2 a0 hrec _ _ _ _ _ _ _ hf hS hl
def fX17_of_16 (rec : Nat → Option Nat → jM Int32) (a0 : Nat) (v0 : Int32) : jM Int32 := jR v0
def fX17_of (rec : Nat → Option Nat → jM Int32) (a0 : Nat) (x1 : Option Nat) : jM Int32 := jB (jgR [19] 0 (some a0)) fun y1 => jB (jnn0 y1) fun b3 => jB (rec b3 x1) fun y2 => if y2 = 0 then (fX17_of_16 rec a0 1) else (fX17_of_16 rec a0 0)
theorem wX17_of_16 {rec : Nat → Option Nat → jM Int32} {FR LO : Nat} {r : Int32} (cx : jCx p s m args meth c cX17_of "WornSkin$Not" 2 (Option.some Jvm.ClassFile.FieldType.int) D dA H0 hs.2.2.2.2) (e1 : h'.2.2.1 = hs.2.2.1 + mc) (e2 : h'.2.2.2.1 = hs.2.2.2.1 + ms) (a0 : Nat) (hrec : ∀ (b : Nat) (x1 : Option Nat) (h : jH) (r : Int32) (h1 : jH), (rec b x1).1 h = some (r, h1) → jVm l { cls := "WornSkin$Expression", name := "of", desc := "(LWornSkin$Facts;)I" } FR LO 4 b [va_rf x1] h h1 (.returned (some (.int r)))) : ∀ (v0 : Int32), ∀ (h : jH) (H : Heap) (locs : List Loc) (cells slots : Nat) (ls : Array Slot), (fX17_of_16 rec a0 v0).1 h = some (r, h') → jS D dA H0 hs h H locs cells slots → lv_has ls 2 [(0, .ref a0)] → W p l e { frames := FR + 3, cells := mc, slots := ms, locals := LO + 64 } s m args below meth c H locs cells slots (jQ D dA H0 below s (.returned (some (.int r))) h' mc ms) (F0 m 16 ls [.int v0]) := by
  have hx := cx.1
  have hb := cx.2.1
  have hown := cx.2.2.2.1
  have hts := cx.2.2.2.2.1
  have hm : h'.2.2.1 ≤ hs.2.2.1 + mc ∧ h'.2.2.2.1 ≤ hs.2.2.2.1 + ms := ⟨Nat.le_of_eq e1, Nat.le_of_eq e2⟩
  intro v0 h H locs cells slots ls hf hS hl
  unfold fX17_of_16 at hf
  exact j_iret (pc := 16) cx hS hf e1 e2 dX17_of_16
theorem wX17_of_0 {rec : Nat → Option Nat → jM Int32} {FR LO : Nat} {r : Int32} (cx : jCx p s m args meth c cX17_of "WornSkin$Not" 2 (Option.some Jvm.ClassFile.FieldType.int) D dA H0 hs.2.2.2.2) (e1 : h'.2.2.1 = hs.2.2.1 + mc) (e2 : h'.2.2.2.1 = hs.2.2.2.1 + ms) (a0 : Nat) (hrec : ∀ (b : Nat) (x1 : Option Nat) (h : jH) (r : Int32) (h1 : jH), (rec b x1).1 h = some (r, h1) → jVm l { cls := "WornSkin$Expression", name := "of", desc := "(LWornSkin$Facts;)I" } FR LO 4 b [va_rf x1] h h1 (.returned (some (.int r)))) : ∀ (x1 : Option Nat), ∀ (h : jH) (H : Heap) (locs : List Loc) (cells slots : Nat) (ls : Array Slot), (fX17_of rec a0 x1).1 h = some (r, h') → jS D dA H0 hs h H locs cells slots → lv_has ls 2 [(0, .ref a0), (1, va_rf x1)] → W p l e { frames := FR + 3, cells := mc, slots := ms, locals := LO + 64 } s m args below meth c H locs cells slots (jQ D dA H0 below s (.returned (some (.int r))) h' mc ms) (F0 m 0 ls []) := by
  have hx := cx.1
  have hb := cx.2.1
  have hown := cx.2.2.2.1
  have hts := cx.2.2.2.2.1
  have hm : h'.2.2.1 ≤ hs.2.2.1 + mc ∧ h'.2.2.2.1 ≤ hs.2.2.2.1 + ms := ⟨Nat.le_of_eq e1, Nat.le_of_eq e2⟩
  intro x1 h H locs cells slots ls hf hS hl
  unfold fX17_of at hf
  refine lv_aload_n (pc := 0) hx hb dX17_of_0 rfl (lv_at hl 0 rfl) ?_
  refine j_gR (pc := 1) cx hS hf fd_WornSkin_Not_e q992 dX17_of_1 (fun y1 hf => ?_)
  refine j_aload_n (pc := 4) (r := x1) hx hb dX17_of_4 rfl (lv_at hl 1 rfl) ?_
  obtain ⟨b3, eb, hf⟩ := jnn0_s hf
  refine j_nn (pc := 5) eb [va_rf x1] [] rfl ?_
  obtain ⟨y2, h1, e9, hf⟩ := jB_some hf
  refine j_callU (pc := 5) (st1 := [.int y2]) (As := [va_rf x1]) (rest := []) (x := { cls := "WornSkin$Expression", name := "of", desc := "(LWornSkin$Facts;)I" }) cx hS rfl hl.1 hm (hrec _ _ _ _ _ e9) (jle hf) q1233 q1224 (Or.inl q1223) pd_WornSkin_Expression_of rfl rfl (Nat.le_of_ble_eq_true rfl) ⟨jfr2 (Nat.le_of_ble_eq_true rfl), jlo2 (Nat.le_of_ble_eq_true rfl)⟩ dX17_of_5 rfl (fun H locs cells slots hS => ?_)
  refine lv_if_ne (pc := 8) (tgt := 15) hx hb dX17_of_8 (by decide) (fun hc => ?_) (fun hc => ?_)
  · have hf := jI_f hf hc
    refine lv_iconst (pc := 15) (v := 0) hx hb dX17_of_15 rfl ?_
    exact wX17_of_16 cx e1 e2 a0 hrec _ _ _ _ _ _ _ hf hS (lv_sub hl [0] rfl)
  · have hf := jI_t hf hc
    refine lv_iconst (pc := 11) (v := 1) hx hb dX17_of_11 rfl ?_
    refine lv_goto (pc := 12) (tgt := 16) hx hb dX17_of_12 (by decide) ?_
    exact wX17_of_16 cx e1 e2 a0 hrec _ _ _ _ _ _ _ hf hS (lv_sub hl [0] rfl)
theorem metX17_of (l : Launch) (rec : Nat → Option Nat → jM Int32) (FR LO : Nat) (a0 : Nat) (x1 : Option Nat) (h h' : jH) (r : Int32) (hrec : ∀ (b : Nat) (x1 : Option Nat) (h : jH) (r : Int32) (h1 : jH), (rec b x1).1 h = some (r, h1) → jVm l { cls := "WornSkin$Expression", name := "of", desc := "(LWornSkin$Facts;)I" } FR LO 4 b [va_rf x1] h h1 (.returned (some (.int r)))) (hf : (fX17_of rec a0 x1).1 h = some (r, h')) : jMet l yX17_of (ws_ yX17_of cX17_of 2 (Option.some Jvm.ClassFile.FieldType.int)) (FR + 3) (LO + 64) [.ref a0, va_rf x1] h h' (.returned (some (.int r))) := by
  refine jStart rfl (jle hf) (by cases x1 <;> exact Nat.le_of_ble_eq_true rfl) ?_
  intro p e s m below meth c D dA H0 mc ms ls cx hnm e1 e2 hS hl
  have hl : lv_has ls 2 [(0, .ref a0), (1, va_rf x1)] := by cases x1 <;> exact hl
  exact wX17_of_0 cx e1 e2 a0 hrec _ _ _ _ _ _ _ hf hS hl
def d_Link_on (rec : Nat → Option Nat → jM Int32) (b : Nat) (x1 : Int32) (x2 : Option Nat) : jM Int32 := jB (jcls (some b)) fun k => if k = 21 then fX19_on rec b x1 x2 else if k = 22 then fX19_on rec b x1 x2 else if k = 23 then fX19_on rec b x1 x2 else if k = 24 then fX19_on rec b x1 x2 else if k = 25 then fX19_on rec b x1 x2 else if k = 26 then fX19_on rec b x1 x2 else if k = 27 then fX19_on rec b x1 x2 else jE
theorem md_Link_on (l : Launch) (rec : Nat → Option Nat → jM Int32) (FR LO : Nat) (b : Nat) (x1 : Int32) (x2 : Option Nat) (h h' : jH) (r : Int32) (hrec : ∀ (b : Nat) (x1 : Option Nat) (h : jH) (r : Int32) (h1 : jH), (rec b x1).1 h = some (r, h1) → jVm l { cls := "WornSkin$Expression", name := "of", desc := "(LWornSkin$Facts;)I" } FR LO 4 b [va_rf x1] h h1 (.returned (some (.int r)))) (hf : (d_Link_on rec b x1 x2).1 h = some (r, h')) : jVm l { cls := "WornSkin$Link", name := "on", desc := "(ILWornSkin$Facts;)I" } (FR + 1) (LO + 23) 3 b [.int x1, va_rf x2] h h' (.returned (some (.int r))) := by
  unfold d_Link_on at hf
  obtain ⟨k, hk, hf⟩ := jBO_some hf
  by_cases hc21 : k = 21
  · have hf := jI_t hf hc21
    subst hc21
    exact ⟨_, _, _, _, _, metX19_on l _ _ _ _ _ _ _ _ _ hrec hf, hk, ⟨q1248, q1240, q150, q1249⟩, Nat.le_of_ble_eq_true rfl⟩
  have hf := jI_f hf hc21
  by_cases hc22 : k = 22
  · have hf := jI_t hf hc22
    subst hc22
    exact ⟨_, _, _, _, _, metX19_on l _ _ _ _ _ _ _ _ _ hrec hf, hk, ⟨q1246, q1240, q150, q1249⟩, Nat.le_of_ble_eq_true rfl⟩
  have hf := jI_f hf hc22
  by_cases hc23 : k = 23
  · have hf := jI_t hf hc23
    subst hc23
    exact ⟨_, _, _, _, _, metX19_on l _ _ _ _ _ _ _ _ _ hrec hf, hk, ⟨q1244, q1240, q150, q1249⟩, Nat.le_of_ble_eq_true rfl⟩
  have hf := jI_f hf hc23
  by_cases hc24 : k = 24
  · have hf := jI_t hf hc24
    subst hc24
    exact ⟨_, _, _, _, _, metX19_on l _ _ _ _ _ _ _ _ _ hrec hf, hk, ⟨q1243, q1240, q150, q1249⟩, Nat.le_of_ble_eq_true rfl⟩
  have hf := jI_f hf hc24
  by_cases hc25 : k = 25
  · have hf := jI_t hf hc25
    subst hc25
    exact ⟨_, _, _, _, _, metX19_on l _ _ _ _ _ _ _ _ _ hrec hf, hk, ⟨q1247, q1240, q150, q1249⟩, Nat.le_of_ble_eq_true rfl⟩
  have hf := jI_f hf hc25
  by_cases hc26 : k = 26
  · have hf := jI_t hf hc26
    subst hc26
    exact ⟨_, _, _, _, _, metX19_on l _ _ _ _ _ _ _ _ _ hrec hf, hk, ⟨q1242, q1240, q150, q1249⟩, Nat.le_of_ble_eq_true rfl⟩
  have hf := jI_f hf hc26
  by_cases hc27 : k = 27
  · have hf := jI_t hf hc27
    subst hc27
    exact ⟨_, _, _, _, _, metX19_on l _ _ _ _ _ _ _ _ _ hrec hf, hk, ⟨q1245, q1240, q150, q1249⟩, Nat.le_of_ble_eq_true rfl⟩
  have hf := jI_f hf hc27
  exact jE_f hf
def fX18_of_45 (N : Nat) (rec : Nat → Option Nat → jM Int32) (a0 : Nat) (x2 : Int32) : jM Int32 := jR x2
def fX18_of_11 (N : Nat) (rec : Nat → Option Nat → jM Int32) (a0 : Nat) : Nat → Option Nat → Int32 → Int32 → jM Int32
  | 0, _, _, _ => jE
  | n + 1, x1, x2, x3 => jB (jgR [20] 1 (some a0)) fun y1 => jB (jrc 4 y1) fun b3 => jB (fJ2_size b3) fun y2 => if y2 ≤ x3 then (fX18_of_45 N rec a0 x2) else (jB (jgR [20] 1 (some a0)) fun y4 => jB (jrc 4 y4) fun b6 => jB (fJ2_get b6 x3) fun y5 => jB (jck okl_WornSkin_Link y5) fun _ => jB (jnn0 y5) fun b8 => jB (d_Link_on rec b8 x2 x1) fun y7 => fX18_of_11 N rec a0 n x1 y7 (x3 + 1))
def fX18_of (N : Nat) (rec : Nat → Option Nat → jM Int32) (a0 : Nat) (x1 : Option Nat) : jM Int32 := jB (jgR [20] 0 (some a0)) fun y1 => jB (jnn0 y1) fun b3 => jB (rec b3 x1) fun y2 => fX18_of_11 N rec a0 N x1 y2 0
theorem wX18_of_45 {N : Nat} {rec : Nat → Option Nat → jM Int32} {FR LO : Nat} {r : Int32} (cx : jCx p s m args meth c cX18_of "WornSkin$Chain" 4 (Option.some Jvm.ClassFile.FieldType.int) D dA H0 hs.2.2.2.2) (e1 : h'.2.2.1 = hs.2.2.1 + mc) (e2 : h'.2.2.2.1 = hs.2.2.2.1 + ms) (a0 : Nat) (hrec : ∀ (b : Nat) (x1 : Option Nat) (h : jH) (r : Int32) (h1 : jH), (rec b x1).1 h = some (r, h1) → jVm l { cls := "WornSkin$Expression", name := "of", desc := "(LWornSkin$Facts;)I" } FR LO 4 b [va_rf x1] h h1 (.returned (some (.int r)))) : ∀ (x2 : Int32), ∀ (h : jH) (H : Heap) (locs : List Loc) (cells slots : Nat) (ls : Array Slot), (fX18_of_45 N rec a0 x2).1 h = some (r, h') → jS D dA H0 hs h H locs cells slots → lv_has ls 4 [(0, .ref a0), (2, .int x2)] → W p l e { frames := FR + 3, cells := mc, slots := ms, locals := LO + 64 } s m args below meth c H locs cells slots (jQ D dA H0 below s (.returned (some (.int r))) h' mc ms) (F0 m 45 ls []) := by
  have hx := cx.1
  have hb := cx.2.1
  have hown := cx.2.2.2.1
  have hts := cx.2.2.2.2.1
  have hm : h'.2.2.1 ≤ hs.2.2.1 + mc ∧ h'.2.2.2.1 ≤ hs.2.2.2.1 + ms := ⟨Nat.le_of_eq e1, Nat.le_of_eq e2⟩
  intro x2 h H locs cells slots ls hf hS hl
  unfold fX18_of_45 at hf
  refine lv_iload_n (pc := 45) hx hb dX18_of_45 rfl (lv_at hl 1 rfl) ?_
  exact j_iret (pc := 46) cx hS hf e1 e2 dX18_of_46
theorem wX18_of_11 {N : Nat} {rec : Nat → Option Nat → jM Int32} {FR LO : Nat} {r : Int32} (cx : jCx p s m args meth c cX18_of "WornSkin$Chain" 4 (Option.some Jvm.ClassFile.FieldType.int) D dA H0 hs.2.2.2.2) (e1 : h'.2.2.1 = hs.2.2.1 + mc) (e2 : h'.2.2.2.1 = hs.2.2.2.1 + ms) (a0 : Nat) (hrec : ∀ (b : Nat) (x1 : Option Nat) (h : jH) (r : Int32) (h1 : jH), (rec b x1).1 h = some (r, h1) → jVm l { cls := "WornSkin$Expression", name := "of", desc := "(LWornSkin$Facts;)I" } FR LO 4 b [va_rf x1] h h1 (.returned (some (.int r)))) : ∀ (n : Nat) (x1 : Option Nat) (x2 : Int32) (x3 : Int32), ∀ (h : jH) (H : Heap) (locs : List Loc) (cells slots : Nat) (ls : Array Slot), (fX18_of_11 N rec a0 n x1 x2 x3).1 h = some (r, h') → jS D dA H0 hs h H locs cells slots → lv_has ls 4 [(0, .ref a0), (1, va_rf x1), (2, .int x2), (3, .int x3)] → W p l e { frames := FR + 3, cells := mc, slots := ms, locals := LO + 64 } s m args below meth c H locs cells slots (jQ D dA H0 below s (.returned (some (.int r))) h' mc ms) (F0 m 11 ls []) := by
  have hx := cx.1
  have hb := cx.2.1
  have hown := cx.2.2.2.1
  have hts := cx.2.2.2.2.1
  have hm : h'.2.2.1 ≤ hs.2.2.1 + mc ∧ h'.2.2.2.1 ≤ hs.2.2.2.1 + ms := ⟨Nat.le_of_eq e1, Nat.le_of_eq e2⟩
  intro n
  induction n with
  | zero =>
    intro x1 x2 x3 h H locs cells slots ls hf hS hl
    exact jE_f hf
  | succ n ih =>
    intro x1 x2 x3 h H locs cells slots ls hf hS hl
    unfold fX18_of_11 at hf
    refine lv_iload_n (pc := 11) hx hb dX18_of_11 rfl (lv_at hl 3 rfl) ?_
    refine lv_aload_n (pc := 12) hx hb dX18_of_12 rfl (lv_at hl 0 rfl) ?_
    refine j_gR (pc := 13) cx hS hf fd_WornSkin_Chain_links q1016 dX18_of_13 (fun y1 hf => ?_)
    obtain ⟨b3, eb, hrc, hf⟩ := jrc_s hf
    refine j_nn (pc := 16) eb [] [.int x3] rfl ?_
    obtain ⟨y2, h1, e9, hf⟩ := jB_some hf
    refine j_callV (pc := 16) (st1 := [.int y2, .int x3]) (As := []) (rest := [.int x3]) cx hS rfl hl.1 hm (metJ2_size l _ _ _ _ hrc e9) (jle hf) hrc rfl (lw_V q1236 q376 q377 q118 q378) pdJ2_size rfl rfl (Nat.le_of_ble_eq_true rfl) ⟨jfr1 (Nat.le_of_ble_eq_true rfl), jfr1 (Nat.le_of_ble_eq_true rfl)⟩ dX18_of_16 rfl (fun H locs cells slots hS => ?_)
    refine lv_icmp_ge (pc := 19) (tgt := 45) hx hb dX18_of_19 (by decide) (fun hc => ?_) (fun hc => ?_)
    · have hf := jI_t hf hc
      exact wX18_of_45 cx e1 e2 a0 hrec _ _ _ _ _ _ _ hf hS (lv_sub hl [0, 2] rfl)
    · have hf := jI_f hf hc
      refine lv_aload_n (pc := 22) hx hb dX18_of_22 rfl (lv_at hl 0 rfl) ?_
      refine j_gR (pc := 23) cx hS hf fd_WornSkin_Chain_links q1016 dX18_of_23 (fun y4 hf => ?_)
      refine lv_iload_n (pc := 26) hx hb dX18_of_26 rfl (lv_at hl 3 rfl) ?_
      obtain ⟨b6, eb, hrc, hf⟩ := jrc_s hf
      refine j_nn (pc := 27) eb [.int x3] [] rfl ?_
      obtain ⟨y5, h1, e9, hf⟩ := jB_some hf
      refine j_callV (pc := 27) (st1 := [va_rf y5]) (As := [.int x3]) (rest := []) cx hS rfl hl.1 hm (metJ2_get l _ _ _ _ _ hrc e9) (jle hf) hrc rfl (lw_V q1237 q384 q385 q118 q386) pdJ2_get rfl rfl (Nat.le_of_ble_eq_true rfl) ⟨jfr1 (Nat.le_of_ble_eq_true rfl), jfr1 (Nat.le_of_ble_eq_true rfl)⟩ dX18_of_27 rfl (fun H locs cells slots hS => ?_)
      refine j_cast (pc := 30) cx hS hf ok_WornSkin_Link q1238 dX18_of_30 (fun hf => ?_)
      refine lv_iload_n (pc := 33) hx hb dX18_of_33 rfl (lv_at hl 2 rfl) ?_
      refine j_aload_n (pc := 34) (r := x1) hx hb dX18_of_34 rfl (lv_at hl 1 rfl) ?_
      obtain ⟨b8, eb, hf⟩ := jnn0_s hf
      refine j_nn (pc := 35) eb [va_rf x1, .int x2] [] rfl ?_
      obtain ⟨y7, h1, e9, hf⟩ := jB_some hf
      refine j_callU (pc := 35) (st1 := [.int y7]) (As := [.int x2, va_rf x1]) (rest := []) (x := { cls := "WornSkin$Link", name := "on", desc := "(ILWornSkin$Facts;)I" }) cx hS rfl hl.1 hm (md_Link_on l _ _ _ _ _ _ _ _ _ hrec e9) (jle hf) q1239 q1241 (Or.inr ⟨_, _, _, q1240, q1249⟩) pd_WornSkin_Link_on rfl rfl (Nat.le_of_ble_eq_true rfl) ⟨jfr3 (Nat.le_of_ble_eq_true rfl), jlo3 (Nat.le_of_ble_eq_true rfl)⟩ dX18_of_35 rfl (fun H locs cells slots hS => ?_)
      refine lv_istore_n (pc := 38) (i := 2) (lv' := [(2, .int y7), (0, .ref a0), (1, va_rf x1), (3, .int x3)]) hx hb dX18_of_38 rfl hl (Nat.le_of_ble_eq_true rfl) (by cases x1 <;> rfl) (fun ls hl => ?_)
      refine lv_iinc (pc := 39) (v := (x3 + 1)) (lv' := [(3, .int (x3 + 1)), (2, .int y7), (0, .ref a0), (1, va_rf x1)]) hx hb dX18_of_39 hl (k := 3) rfl rfl (Nat.le_of_ble_eq_true rfl) rfl (fun ls hl => ?_)
      refine lv_goto (pc := 42) (tgt := 11) hx hb dX18_of_42 (by decide) ?_
      exact ih _ _ _ _ _ _ _ _ _ hf hS (lv_sub hl [2, 3, 1, 0] rfl)
theorem wX18_of_0 {N : Nat} {rec : Nat → Option Nat → jM Int32} {FR LO : Nat} {r : Int32} (cx : jCx p s m args meth c cX18_of "WornSkin$Chain" 4 (Option.some Jvm.ClassFile.FieldType.int) D dA H0 hs.2.2.2.2) (e1 : h'.2.2.1 = hs.2.2.1 + mc) (e2 : h'.2.2.2.1 = hs.2.2.2.1 + ms) (a0 : Nat) (hrec : ∀ (b : Nat) (x1 : Option Nat) (h : jH) (r : Int32) (h1 : jH), (rec b x1).1 h = some (r, h1) → jVm l { cls := "WornSkin$Expression", name := "of", desc := "(LWornSkin$Facts;)I" } FR LO 4 b [va_rf x1] h h1 (.returned (some (.int r)))) : ∀ (x1 : Option Nat), ∀ (h : jH) (H : Heap) (locs : List Loc) (cells slots : Nat) (ls : Array Slot), (fX18_of N rec a0 x1).1 h = some (r, h') → jS D dA H0 hs h H locs cells slots → lv_has ls 4 [(0, .ref a0), (1, va_rf x1)] → W p l e { frames := FR + 3, cells := mc, slots := ms, locals := LO + 64 } s m args below meth c H locs cells slots (jQ D dA H0 below s (.returned (some (.int r))) h' mc ms) (F0 m 0 ls []) := by
  have hx := cx.1
  have hb := cx.2.1
  have hown := cx.2.2.2.1
  have hts := cx.2.2.2.2.1
  have hm : h'.2.2.1 ≤ hs.2.2.1 + mc ∧ h'.2.2.2.1 ≤ hs.2.2.2.1 + ms := ⟨Nat.le_of_eq e1, Nat.le_of_eq e2⟩
  intro x1 h H locs cells slots ls hf hS hl
  unfold fX18_of at hf
  refine lv_aload_n (pc := 0) hx hb dX18_of_0 rfl (lv_at hl 0 rfl) ?_
  refine j_gR (pc := 1) cx hS hf fd_WornSkin_Chain_first q1015 dX18_of_1 (fun y1 hf => ?_)
  refine j_aload_n (pc := 4) (r := x1) hx hb dX18_of_4 rfl (lv_at hl 1 rfl) ?_
  obtain ⟨b3, eb, hf⟩ := jnn0_s hf
  refine j_nn (pc := 5) eb [va_rf x1] [] rfl ?_
  obtain ⟨y2, h1, e9, hf⟩ := jB_some hf
  refine j_callU (pc := 5) (st1 := [.int y2]) (As := [va_rf x1]) (rest := []) (x := { cls := "WornSkin$Expression", name := "of", desc := "(LWornSkin$Facts;)I" }) cx hS rfl hl.1 hm (hrec _ _ _ _ _ e9) (jle hf) q1228 q1224 (Or.inl q1223) pd_WornSkin_Expression_of rfl rfl (Nat.le_of_ble_eq_true rfl) ⟨jfr2 (Nat.le_of_ble_eq_true rfl), jlo2 (Nat.le_of_ble_eq_true rfl)⟩ dX18_of_5 rfl (fun H locs cells slots hS => ?_)
  refine lv_istore_n (pc := 8) (i := 2) (lv' := [(2, .int y2), (0, .ref a0), (1, va_rf x1)]) hx hb dX18_of_8 rfl hl (Nat.le_of_ble_eq_true rfl) (by cases x1 <;> rfl) (fun ls hl => ?_)
  refine lv_iconst (pc := 9) (v := 0) hx hb dX18_of_9 rfl ?_
  refine lv_istore_n (pc := 10) (i := 3) (lv' := [(3, .int 0), (2, .int y2), (0, .ref a0), (1, va_rf x1)]) hx hb dX18_of_10 rfl hl (Nat.le_of_ble_eq_true rfl) rfl (fun ls hl => ?_)
  exact wX18_of_11 cx e1 e2 a0 hrec N _ _ _ _ _ _ _ _ _ hf hS (lv_sub hl [2, 3, 1, 0] rfl)
theorem metX18_of (l : Launch) (N : Nat) (rec : Nat → Option Nat → jM Int32) (FR LO : Nat) (a0 : Nat) (x1 : Option Nat) (h h' : jH) (r : Int32) (hrec : ∀ (b : Nat) (x1 : Option Nat) (h : jH) (r : Int32) (h1 : jH), (rec b x1).1 h = some (r, h1) → jVm l { cls := "WornSkin$Expression", name := "of", desc := "(LWornSkin$Facts;)I" } FR LO 4 b [va_rf x1] h h1 (.returned (some (.int r)))) (hf : (fX18_of N rec a0 x1).1 h = some (r, h')) : jMet l yX18_of (ws_ yX18_of cX18_of 4 (Option.some Jvm.ClassFile.FieldType.int)) (FR + 3) (LO + 64) [.ref a0, va_rf x1] h h' (.returned (some (.int r))) := by
  refine jStart rfl (jle hf) (by cases x1 <;> exact Nat.le_of_ble_eq_true rfl) ?_
  intro p e s m below meth c D dA H0 mc ms ls cx hnm e1 e2 hS hl
  have hl : lv_has ls 4 [(0, .ref a0), (1, va_rf x1)] := by cases x1 <;> exact hl
  exact wX18_of_0 cx e1 e2 a0 hrec _ _ _ _ _ _ _ hf hS hl
def d_Expression_of (N : Nat) (rec : Nat → Option Nat → jM Int32) (b : Nat) (x1 : Option Nat) : jM Int32 := jB (jcls (some b)) fun k => if k = 17 then fX15_of rec b x1 else if k = 18 then fX16_of rec b x1 else if k = 19 then fX17_of rec b x1 else if k = 20 then fX18_of N rec b x1 else jE
theorem md_Expression_of (l : Launch) (N : Nat) (rec : Nat → Option Nat → jM Int32) (FR LO : Nat) (b : Nat) (x1 : Option Nat) (h h' : jH) (r : Int32) (hrec : ∀ (b : Nat) (x1 : Option Nat) (h : jH) (r : Int32) (h1 : jH), (rec b x1).1 h = some (r, h1) → jVm l { cls := "WornSkin$Expression", name := "of", desc := "(LWornSkin$Facts;)I" } FR LO 4 b [va_rf x1] h h1 (.returned (some (.int r)))) (hf : (d_Expression_of N rec b x1).1 h = some (r, h')) : jVm l { cls := "WornSkin$Expression", name := "of", desc := "(LWornSkin$Facts;)I" } (FR + 3) (LO + 64) 4 b [va_rf x1] h h' (.returned (some (.int r))) := by
  unfold d_Expression_of at hf
  obtain ⟨k, hk, hf⟩ := jBO_some hf
  by_cases hc17 : k = 17
  · have hf := jI_t hf hc17
    subst hc17
    exact ⟨_, _, _, _, _, metX15_of l _ _ _ _ _ _ _ _ hrec hf, hk, ⟨q1275, q1229, q146, q1230⟩, Nat.le_of_ble_eq_true rfl⟩
  have hf := jI_f hf hc17
  by_cases hc18 : k = 18
  · have hf := jI_t hf hc18
    subst hc18
    exact ⟨_, _, _, _, _, metX16_of l _ _ _ _ _ _ _ _ hrec hf, hk, ⟨q1277, q1234, q147, q1235⟩, Nat.le_of_ble_eq_true rfl⟩
  have hf := jI_f hf hc18
  by_cases hc19 : k = 19
  · have hf := jI_t hf hc19
    subst hc19
    exact ⟨_, _, _, _, _, metX17_of l _ _ _ _ _ _ _ _ hrec hf, hk, ⟨q1276, q1231, q148, q1232⟩, Nat.le_of_ble_eq_true rfl⟩
  have hf := jI_f hf hc19
  by_cases hc20 : k = 20
  · have hf := jI_t hf hc20
    subst hc20
    exact ⟨_, _, _, _, _, metX18_of l _ _ _ _ _ _ _ _ _ hrec hf, hk, ⟨q1225, q1226, q149, q1227⟩, Nat.le_of_ble_eq_true rfl⟩
  have hf := jI_f hf hc20
  exact jE_f hf
def e_of (N : Nat) : Nat → Nat → Option Nat → jM Int32
  | 0, _, _ => jE
  | d + 1, b, x1 => d_Expression_of N (e_of N d) b x1
theorem me_of (l : Launch) (N : Nat) : ∀ (d b : Nat) (x1 : Option Nat) (h h' : jH) (r : Int32), (e_of N d b x1).1 h = some (r, h') → jVm l { cls := "WornSkin$Expression", name := "of", desc := "(LWornSkin$Facts;)I" } (3 * d) (64 * d) 4 b [va_rf x1] h h' (.returned (some (.int r))) := by
  intro d
  induction d with
  | zero =>
    intro b x1 h h' r hf
    exact jE_f hf
  | succ d ih =>
    intro b x1 h h' r hf
    exact md_Expression_of l N (e_of N d) (3 * d) (64 * d) b x1 h h' r (fun b x1 h r h1 hh => ih b x1 h h1 r hh) hf
def eof (N : Nat) (b : Nat) (x1 : Option Nat) : jM Int32 := e_of N 40 b x1
theorem meof (l : Launch) (N : Nat) (b : Nat) (x1 : Option Nat) (h h' : jH) (r : Int32) (hf : (eof N b x1).1 h = some (r, h')) : jVm l { cls := "WornSkin$Expression", name := "of", desc := "(LWornSkin$Facts;)I" } 120 2560 4 b [va_rf x1] h h' (.returned (some (.int r))) := me_of l N 40 b x1 h h' r hf
def fX10_wet (a0 : Nat) (x1 : Int32) : jM Int32 := jR x1
theorem wX10_wet_0 {r : Int32} (cx : jCx p s m args meth c cX10_wet "WornSkin$Text" 2 (Option.some Jvm.ClassFile.FieldType.int) D dA H0 hs.2.2.2.2) (e1 : h'.2.2.1 = hs.2.2.1 + mc) (e2 : h'.2.2.2.1 = hs.2.2.2.1 + ms) (a0 : Nat) : ∀ (x1 : Int32), ∀ (h : jH) (H : Heap) (locs : List Loc) (cells slots : Nat) (ls : Array Slot), (fX10_wet a0 x1).1 h = some (r, h') → jS D dA H0 hs h H locs cells slots → lv_has ls 2 [(0, .ref a0), (1, .int x1)] → W p l e { frames := 0, cells := mc, slots := ms, locals := 0 } s m args below meth c H locs cells slots (jQ D dA H0 below s (.returned (some (.int r))) h' mc ms) (F0 m 0 ls []) := by
  have hx := cx.1
  have hb := cx.2.1
  have hown := cx.2.2.2.1
  have hts := cx.2.2.2.2.1
  have hm : h'.2.2.1 ≤ hs.2.2.1 + mc ∧ h'.2.2.2.1 ≤ hs.2.2.2.1 + ms := ⟨Nat.le_of_eq e1, Nat.le_of_eq e2⟩
  intro x1 h H locs cells slots ls hf hS hl
  unfold fX10_wet at hf
  refine lv_iload_n (pc := 0) hx hb dX10_wet_0 rfl (lv_at hl 1 rfl) ?_
  exact j_iret (pc := 1) cx hS hf e1 e2 dX10_wet_1
theorem metX10_wet (l : Launch) (a0 : Nat) (x1 : Int32) (h h' : jH) (r : Int32) (hf : (fX10_wet a0 x1).1 h = some (r, h')) : jMet l yX10_wet (ws_ yX10_wet cX10_wet 2 (Option.some Jvm.ClassFile.FieldType.int)) (0) (0) [.ref a0, .int x1] h h' (.returned (some (.int r))) := by
  refine jStart rfl (jle hf) (Nat.le_of_ble_eq_true rfl) ?_
  intro p e s m below meth c D dA H0 mc ms ls cx hnm e1 e2 hS hl
  exact wX10_wet_0 cx e1 e2 a0 _ _ _ _ _ _ _ hf hS hl
def fX10_deep (a0 : Nat) (x1 : Int32) : jM Int32 := jR x1
theorem wX10_deep_0 {r : Int32} (cx : jCx p s m args meth c cX10_deep "WornSkin$Text" 2 (Option.some Jvm.ClassFile.FieldType.int) D dA H0 hs.2.2.2.2) (e1 : h'.2.2.1 = hs.2.2.1 + mc) (e2 : h'.2.2.2.1 = hs.2.2.2.1 + ms) (a0 : Nat) : ∀ (x1 : Int32), ∀ (h : jH) (H : Heap) (locs : List Loc) (cells slots : Nat) (ls : Array Slot), (fX10_deep a0 x1).1 h = some (r, h') → jS D dA H0 hs h H locs cells slots → lv_has ls 2 [(0, .ref a0), (1, .int x1)] → W p l e { frames := 0, cells := mc, slots := ms, locals := 0 } s m args below meth c H locs cells slots (jQ D dA H0 below s (.returned (some (.int r))) h' mc ms) (F0 m 0 ls []) := by
  have hx := cx.1
  have hb := cx.2.1
  have hown := cx.2.2.2.1
  have hts := cx.2.2.2.2.1
  have hm : h'.2.2.1 ≤ hs.2.2.1 + mc ∧ h'.2.2.2.1 ≤ hs.2.2.2.1 + ms := ⟨Nat.le_of_eq e1, Nat.le_of_eq e2⟩
  intro x1 h H locs cells slots ls hf hS hl
  unfold fX10_deep at hf
  refine lv_iload_n (pc := 0) hx hb dX10_deep_0 rfl (lv_at hl 1 rfl) ?_
  exact j_iret (pc := 1) cx hS hf e1 e2 dX10_deep_1
theorem metX10_deep (l : Launch) (a0 : Nat) (x1 : Int32) (h h' : jH) (r : Int32) (hf : (fX10_deep a0 x1).1 h = some (r, h')) : jMet l yX10_deep (ws_ yX10_deep cX10_deep 2 (Option.some Jvm.ClassFile.FieldType.int)) (0) (0) [.ref a0, .int x1] h h' (.returned (some (.int r))) := by
  refine jStart rfl (jle hf) (Nat.le_of_ble_eq_true rfl) ?_
  intro p e s m below meth c D dA H0 mc ms ls cx hnm e1 e2 hS hl
  exact wX10_deep_0 cx e1 e2 a0 _ _ _ _ _ _ _ hf hS hl
def fX10_kind (a0 : Nat) : jM Int32 := jR 0
theorem wX10_kind_0 {r : Int32} (cx : jCx p s m args meth c cX10_kind "WornSkin$Text" 1 (Option.some Jvm.ClassFile.FieldType.int) D dA H0 hs.2.2.2.2) (e1 : h'.2.2.1 = hs.2.2.1 + mc) (e2 : h'.2.2.2.1 = hs.2.2.2.1 + ms) (a0 : Nat) : ∀ (h : jH) (H : Heap) (locs : List Loc) (cells slots : Nat) (ls : Array Slot), (fX10_kind a0).1 h = some (r, h') → jS D dA H0 hs h H locs cells slots → lv_has ls 1 [(0, .ref a0)] → W p l e { frames := 0, cells := mc, slots := ms, locals := 0 } s m args below meth c H locs cells slots (jQ D dA H0 below s (.returned (some (.int r))) h' mc ms) (F0 m 0 ls []) := by
  have hx := cx.1
  have hb := cx.2.1
  have hown := cx.2.2.2.1
  have hts := cx.2.2.2.2.1
  have hm : h'.2.2.1 ≤ hs.2.2.1 + mc ∧ h'.2.2.2.1 ≤ hs.2.2.2.1 + ms := ⟨Nat.le_of_eq e1, Nat.le_of_eq e2⟩
  intro h H locs cells slots ls hf hS hl
  unfold fX10_kind at hf
  refine lv_iconst (pc := 0) (v := 0) hx hb dX10_kind_0 rfl ?_
  exact j_iret (pc := 1) cx hS hf e1 e2 dX10_kind_1
theorem metX10_kind (l : Launch) (a0 : Nat) (h h' : jH) (r : Int32) (hf : (fX10_kind a0).1 h = some (r, h')) : jMet l yX10_kind (ws_ yX10_kind cX10_kind 1 (Option.some Jvm.ClassFile.FieldType.int)) (0) (0) [.ref a0] h h' (.returned (some (.int r))) := by
  refine jStart rfl (jle hf) (Nat.le_of_ble_eq_true rfl) ?_
  intro p e s m below meth c D dA H0 mc ms ls cx hnm e1 e2 hS hl
  exact wX10_kind_0 cx e1 e2 a0  _ _ _ _ _ _ hf hS hl
def fX10_isOath (a0 : Nat) : jM Int32 := jRn .boolean 0
theorem wX10_isOath_0 {r : Int32} (cx : jCx p s m args meth c cX10_isOath "WornSkin$Text" 1 (Option.some Jvm.ClassFile.FieldType.boolean) D dA H0 hs.2.2.2.2) (e1 : h'.2.2.1 = hs.2.2.1 + mc) (e2 : h'.2.2.2.1 = hs.2.2.2.1 + ms) (a0 : Nat) : ∀ (h : jH) (H : Heap) (locs : List Loc) (cells slots : Nat) (ls : Array Slot), (fX10_isOath a0).1 h = some (r, h') → jS D dA H0 hs h H locs cells slots → lv_has ls 1 [(0, .ref a0)] → W p l e { frames := 0, cells := mc, slots := ms, locals := 0 } s m args below meth c H locs cells slots (jQ D dA H0 below s (.returned (some (.int r))) h' mc ms) (F0 m 0 ls []) := by
  have hx := cx.1
  have hb := cx.2.1
  have hown := cx.2.2.2.1
  have hts := cx.2.2.2.2.1
  have hm : h'.2.2.1 ≤ hs.2.2.1 + mc ∧ h'.2.2.2.1 ≤ hs.2.2.2.1 + ms := ⟨Nat.le_of_eq e1, Nat.le_of_eq e2⟩
  intro h H locs cells slots ls hf hS hl
  unfold fX10_isOath at hf
  refine lv_iconst (pc := 0) (v := 0) hx hb dX10_isOath_0 rfl ?_
  exact j_zret (pc := 1) cx (Or.inl rfl) hS hf e1 e2 dX10_isOath_1
theorem metX10_isOath (l : Launch) (a0 : Nat) (h h' : jH) (r : Int32) (hf : (fX10_isOath a0).1 h = some (r, h')) : jMet l yX10_isOath (ws_ yX10_isOath cX10_isOath 1 (Option.some Jvm.ClassFile.FieldType.boolean)) (0) (0) [.ref a0] h h' (.returned (some (.int r))) := by
  refine jStart rfl (jle hf) (Nat.le_of_ble_eq_true rfl) ?_
  intro p e s m below meth c D dA H0 mc ms ls cx hnm e1 e2 hS hl
  exact wX10_isOath_0 cx e1 e2 a0  _ _ _ _ _ _ hf hS hl
def fX11_wet (a0 : Nat) (x1 : Int32) : jM Int32 := jR (x1 + 1)
theorem wX11_wet_0 {r : Int32} (cx : jCx p s m args meth c cX11_wet "WornSkin$Psalm" 2 (Option.some Jvm.ClassFile.FieldType.int) D dA H0 hs.2.2.2.2) (e1 : h'.2.2.1 = hs.2.2.1 + mc) (e2 : h'.2.2.2.1 = hs.2.2.2.1 + ms) (a0 : Nat) : ∀ (x1 : Int32), ∀ (h : jH) (H : Heap) (locs : List Loc) (cells slots : Nat) (ls : Array Slot), (fX11_wet a0 x1).1 h = some (r, h') → jS D dA H0 hs h H locs cells slots → lv_has ls 2 [(0, .ref a0), (1, .int x1)] → W p l e { frames := 0, cells := mc, slots := ms, locals := 0 } s m args below meth c H locs cells slots (jQ D dA H0 below s (.returned (some (.int r))) h' mc ms) (F0 m 0 ls []) := by
  have hx := cx.1
  have hb := cx.2.1
  have hown := cx.2.2.2.1
  have hts := cx.2.2.2.2.1
  have hm : h'.2.2.1 ≤ hs.2.2.1 + mc ∧ h'.2.2.2.1 ≤ hs.2.2.2.1 + ms := ⟨Nat.le_of_eq e1, Nat.le_of_eq e2⟩
  intro x1 h H locs cells slots ls hf hS hl
  unfold fX11_wet at hf
  refine lv_iload_n (pc := 0) hx hb dX11_wet_0 rfl (lv_at hl 1 rfl) ?_
  refine lv_iconst (pc := 1) (v := 1) hx hb dX11_wet_1 rfl ?_
  refine lv_iadd (pc := 2) hx hb dX11_wet_2 ?_
  exact j_iret (pc := 3) cx hS hf e1 e2 dX11_wet_3
theorem metX11_wet (l : Launch) (a0 : Nat) (x1 : Int32) (h h' : jH) (r : Int32) (hf : (fX11_wet a0 x1).1 h = some (r, h')) : jMet l yX11_wet (ws_ yX11_wet cX11_wet 2 (Option.some Jvm.ClassFile.FieldType.int)) (0) (0) [.ref a0, .int x1] h h' (.returned (some (.int r))) := by
  refine jStart rfl (jle hf) (Nat.le_of_ble_eq_true rfl) ?_
  intro p e s m below meth c D dA H0 mc ms ls cx hnm e1 e2 hS hl
  exact wX11_wet_0 cx e1 e2 a0 _ _ _ _ _ _ _ hf hS hl
def fX11_kind (a0 : Nat) : jM Int32 := jR 1
theorem wX11_kind_0 {r : Int32} (cx : jCx p s m args meth c cX11_kind "WornSkin$Psalm" 1 (Option.some Jvm.ClassFile.FieldType.int) D dA H0 hs.2.2.2.2) (e1 : h'.2.2.1 = hs.2.2.1 + mc) (e2 : h'.2.2.2.1 = hs.2.2.2.1 + ms) (a0 : Nat) : ∀ (h : jH) (H : Heap) (locs : List Loc) (cells slots : Nat) (ls : Array Slot), (fX11_kind a0).1 h = some (r, h') → jS D dA H0 hs h H locs cells slots → lv_has ls 1 [(0, .ref a0)] → W p l e { frames := 0, cells := mc, slots := ms, locals := 0 } s m args below meth c H locs cells slots (jQ D dA H0 below s (.returned (some (.int r))) h' mc ms) (F0 m 0 ls []) := by
  have hx := cx.1
  have hb := cx.2.1
  have hown := cx.2.2.2.1
  have hts := cx.2.2.2.2.1
  have hm : h'.2.2.1 ≤ hs.2.2.1 + mc ∧ h'.2.2.2.1 ≤ hs.2.2.2.1 + ms := ⟨Nat.le_of_eq e1, Nat.le_of_eq e2⟩
  intro h H locs cells slots ls hf hS hl
  unfold fX11_kind at hf
  refine lv_iconst (pc := 0) (v := 1) hx hb dX11_kind_0 rfl ?_
  exact j_iret (pc := 1) cx hS hf e1 e2 dX11_kind_1
theorem metX11_kind (l : Launch) (a0 : Nat) (h h' : jH) (r : Int32) (hf : (fX11_kind a0).1 h = some (r, h')) : jMet l yX11_kind (ws_ yX11_kind cX11_kind 1 (Option.some Jvm.ClassFile.FieldType.int)) (0) (0) [.ref a0] h h' (.returned (some (.int r))) := by
  refine jStart rfl (jle hf) (Nat.le_of_ble_eq_true rfl) ?_
  intro p e s m below meth c D dA H0 mc ms ls cx hnm e1 e2 hS hl
  exact wX11_kind_0 cx e1 e2 a0  _ _ _ _ _ _ hf hS hl
def fX12_deep (a0 : Nat) (x1 : Int32) : jM Int32 := jR (x1 - 1)
theorem wX12_deep_0 {r : Int32} (cx : jCx p s m args meth c cX12_deep "WornSkin$Recipe" 2 (Option.some Jvm.ClassFile.FieldType.int) D dA H0 hs.2.2.2.2) (e1 : h'.2.2.1 = hs.2.2.1 + mc) (e2 : h'.2.2.2.1 = hs.2.2.2.1 + ms) (a0 : Nat) : ∀ (x1 : Int32), ∀ (h : jH) (H : Heap) (locs : List Loc) (cells slots : Nat) (ls : Array Slot), (fX12_deep a0 x1).1 h = some (r, h') → jS D dA H0 hs h H locs cells slots → lv_has ls 2 [(0, .ref a0), (1, .int x1)] → W p l e { frames := 0, cells := mc, slots := ms, locals := 0 } s m args below meth c H locs cells slots (jQ D dA H0 below s (.returned (some (.int r))) h' mc ms) (F0 m 0 ls []) := by
  have hx := cx.1
  have hb := cx.2.1
  have hown := cx.2.2.2.1
  have hts := cx.2.2.2.2.1
  have hm : h'.2.2.1 ≤ hs.2.2.1 + mc ∧ h'.2.2.2.1 ≤ hs.2.2.2.1 + ms := ⟨Nat.le_of_eq e1, Nat.le_of_eq e2⟩
  intro x1 h H locs cells slots ls hf hS hl
  unfold fX12_deep at hf
  refine lv_iload_n (pc := 0) hx hb dX12_deep_0 rfl (lv_at hl 1 rfl) ?_
  refine lv_iconst (pc := 1) (v := 1) hx hb dX12_deep_1 rfl ?_
  refine lv_isub (pc := 2) hx hb dX12_deep_2 ?_
  exact j_iret (pc := 3) cx hS hf e1 e2 dX12_deep_3
theorem metX12_deep (l : Launch) (a0 : Nat) (x1 : Int32) (h h' : jH) (r : Int32) (hf : (fX12_deep a0 x1).1 h = some (r, h')) : jMet l yX12_deep (ws_ yX12_deep cX12_deep 2 (Option.some Jvm.ClassFile.FieldType.int)) (0) (0) [.ref a0, .int x1] h h' (.returned (some (.int r))) := by
  refine jStart rfl (jle hf) (Nat.le_of_ble_eq_true rfl) ?_
  intro p e s m below meth c D dA H0 mc ms ls cx hnm e1 e2 hS hl
  exact wX12_deep_0 cx e1 e2 a0 _ _ _ _ _ _ _ hf hS hl
def fX12_kind (a0 : Nat) : jM Int32 := jR 2
theorem wX12_kind_0 {r : Int32} (cx : jCx p s m args meth c cX12_kind "WornSkin$Recipe" 1 (Option.some Jvm.ClassFile.FieldType.int) D dA H0 hs.2.2.2.2) (e1 : h'.2.2.1 = hs.2.2.1 + mc) (e2 : h'.2.2.2.1 = hs.2.2.2.1 + ms) (a0 : Nat) : ∀ (h : jH) (H : Heap) (locs : List Loc) (cells slots : Nat) (ls : Array Slot), (fX12_kind a0).1 h = some (r, h') → jS D dA H0 hs h H locs cells slots → lv_has ls 1 [(0, .ref a0)] → W p l e { frames := 0, cells := mc, slots := ms, locals := 0 } s m args below meth c H locs cells slots (jQ D dA H0 below s (.returned (some (.int r))) h' mc ms) (F0 m 0 ls []) := by
  have hx := cx.1
  have hb := cx.2.1
  have hown := cx.2.2.2.1
  have hts := cx.2.2.2.2.1
  have hm : h'.2.2.1 ≤ hs.2.2.1 + mc ∧ h'.2.2.2.1 ≤ hs.2.2.2.1 + ms := ⟨Nat.le_of_eq e1, Nat.le_of_eq e2⟩
  intro h H locs cells slots ls hf hS hl
  unfold fX12_kind at hf
  refine lv_iconst (pc := 0) (v := 2) hx hb dX12_kind_0 rfl ?_
  exact j_iret (pc := 1) cx hS hf e1 e2 dX12_kind_1
theorem metX12_kind (l : Launch) (a0 : Nat) (h h' : jH) (r : Int32) (hf : (fX12_kind a0).1 h = some (r, h')) : jMet l yX12_kind (ws_ yX12_kind cX12_kind 1 (Option.some Jvm.ClassFile.FieldType.int)) (0) (0) [.ref a0] h h' (.returned (some (.int r))) := by
  refine jStart rfl (jle hf) (Nat.le_of_ble_eq_true rfl) ?_
  intro p e s m below meth c D dA H0 mc ms ls cx hnm e1 e2 hS hl
  exact wX12_kind_0 cx e1 e2 a0  _ _ _ _ _ _ hf hS hl
def fX13_kind (a0 : Nat) : jM Int32 := jR 3
theorem wX13_kind_0 {r : Int32} (cx : jCx p s m args meth c cX13_kind "WornSkin$Oath" 1 (Option.some Jvm.ClassFile.FieldType.int) D dA H0 hs.2.2.2.2) (e1 : h'.2.2.1 = hs.2.2.1 + mc) (e2 : h'.2.2.2.1 = hs.2.2.2.1 + ms) (a0 : Nat) : ∀ (h : jH) (H : Heap) (locs : List Loc) (cells slots : Nat) (ls : Array Slot), (fX13_kind a0).1 h = some (r, h') → jS D dA H0 hs h H locs cells slots → lv_has ls 1 [(0, .ref a0)] → W p l e { frames := 0, cells := mc, slots := ms, locals := 0 } s m args below meth c H locs cells slots (jQ D dA H0 below s (.returned (some (.int r))) h' mc ms) (F0 m 0 ls []) := by
  have hx := cx.1
  have hb := cx.2.1
  have hown := cx.2.2.2.1
  have hts := cx.2.2.2.2.1
  have hm : h'.2.2.1 ≤ hs.2.2.1 + mc ∧ h'.2.2.2.1 ≤ hs.2.2.2.1 + ms := ⟨Nat.le_of_eq e1, Nat.le_of_eq e2⟩
  intro h H locs cells slots ls hf hS hl
  unfold fX13_kind at hf
  refine lv_iconst (pc := 0) (v := 3) hx hb dX13_kind_0 rfl ?_
  exact j_iret (pc := 1) cx hS hf e1 e2 dX13_kind_1
theorem metX13_kind (l : Launch) (a0 : Nat) (h h' : jH) (r : Int32) (hf : (fX13_kind a0).1 h = some (r, h')) : jMet l yX13_kind (ws_ yX13_kind cX13_kind 1 (Option.some Jvm.ClassFile.FieldType.int)) (0) (0) [.ref a0] h h' (.returned (some (.int r))) := by
  refine jStart rfl (jle hf) (Nat.le_of_ble_eq_true rfl) ?_
  intro p e s m below meth c D dA H0 mc ms ls cx hnm e1 e2 hS hl
  exact wX13_kind_0 cx e1 e2 a0  _ _ _ _ _ _ hf hS hl
def fX13_isOath (a0 : Nat) : jM Int32 := jRn .boolean 1
theorem wX13_isOath_0 {r : Int32} (cx : jCx p s m args meth c cX13_isOath "WornSkin$Oath" 1 (Option.some Jvm.ClassFile.FieldType.boolean) D dA H0 hs.2.2.2.2) (e1 : h'.2.2.1 = hs.2.2.1 + mc) (e2 : h'.2.2.2.1 = hs.2.2.2.1 + ms) (a0 : Nat) : ∀ (h : jH) (H : Heap) (locs : List Loc) (cells slots : Nat) (ls : Array Slot), (fX13_isOath a0).1 h = some (r, h') → jS D dA H0 hs h H locs cells slots → lv_has ls 1 [(0, .ref a0)] → W p l e { frames := 0, cells := mc, slots := ms, locals := 0 } s m args below meth c H locs cells slots (jQ D dA H0 below s (.returned (some (.int r))) h' mc ms) (F0 m 0 ls []) := by
  have hx := cx.1
  have hb := cx.2.1
  have hown := cx.2.2.2.1
  have hts := cx.2.2.2.2.1
  have hm : h'.2.2.1 ≤ hs.2.2.1 + mc ∧ h'.2.2.2.1 ≤ hs.2.2.2.1 + ms := ⟨Nat.le_of_eq e1, Nat.le_of_eq e2⟩
  intro h H locs cells slots ls hf hS hl
  unfold fX13_isOath at hf
  refine lv_iconst (pc := 0) (v := 1) hx hb dX13_isOath_0 rfl ?_
  exact j_zret (pc := 1) cx (Or.inl rfl) hS hf e1 e2 dX13_isOath_1
theorem metX13_isOath (l : Launch) (a0 : Nat) (h h' : jH) (r : Int32) (hf : (fX13_isOath a0).1 h = some (r, h')) : jMet l yX13_isOath (ws_ yX13_isOath cX13_isOath 1 (Option.some Jvm.ClassFile.FieldType.boolean)) (0) (0) [.ref a0] h h' (.returned (some (.int r))) := by
  refine jStart rfl (jle hf) (Nat.le_of_ble_eq_true rfl) ?_
  intro p e s m below meth c D dA H0 mc ms ls cx hnm e1 e2 hS hl
  exact wX13_isOath_0 cx e1 e2 a0  _ _ _ _ _ _ hf hS hl
def fX1_within_15 (v0 : Int32) : jM Int32 := jRn .boolean v0
def fX1_within_14 : jM Int32 := fX1_within_15 0
def fX1_within (x0 : Int32) (x1 : Int32) (x2 : Int32) : jM Int32 := if x0 < x1 then (fX1_within_14) else (if x2 < x0 then (fX1_within_14) else (fX1_within_15 1))
theorem wX1_within_15 {r : Int32} (cx : jCx p s m args meth c cX1_within "WornSkin" 3 (Option.some Jvm.ClassFile.FieldType.boolean) D dA H0 hs.2.2.2.2) (e1 : h'.2.2.1 = hs.2.2.1 + mc) (e2 : h'.2.2.2.1 = hs.2.2.2.1 + ms) : ∀ (v0 : Int32), ∀ (h : jH) (H : Heap) (locs : List Loc) (cells slots : Nat) (ls : Array Slot), (fX1_within_15 v0).1 h = some (r, h') → jS D dA H0 hs h H locs cells slots → lv_has ls 3 [] → W p l e { frames := 0, cells := mc, slots := ms, locals := 0 } s m args below meth c H locs cells slots (jQ D dA H0 below s (.returned (some (.int r))) h' mc ms) (F0 m 15 ls [.int v0]) := by
  have hx := cx.1
  have hb := cx.2.1
  have hown := cx.2.2.2.1
  have hts := cx.2.2.2.2.1
  have hm : h'.2.2.1 ≤ hs.2.2.1 + mc ∧ h'.2.2.2.1 ≤ hs.2.2.2.1 + ms := ⟨Nat.le_of_eq e1, Nat.le_of_eq e2⟩
  intro v0 h H locs cells slots ls hf hS hl
  unfold fX1_within_15 at hf
  exact j_zret (pc := 15) cx (Or.inl rfl) hS hf e1 e2 dX1_within_15
theorem wX1_within_14 {r : Int32} (cx : jCx p s m args meth c cX1_within "WornSkin" 3 (Option.some Jvm.ClassFile.FieldType.boolean) D dA H0 hs.2.2.2.2) (e1 : h'.2.2.1 = hs.2.2.1 + mc) (e2 : h'.2.2.2.1 = hs.2.2.2.1 + ms) : ∀ (h : jH) (H : Heap) (locs : List Loc) (cells slots : Nat) (ls : Array Slot), (fX1_within_14).1 h = some (r, h') → jS D dA H0 hs h H locs cells slots → lv_has ls 3 [] → W p l e { frames := 0, cells := mc, slots := ms, locals := 0 } s m args below meth c H locs cells slots (jQ D dA H0 below s (.returned (some (.int r))) h' mc ms) (F0 m 14 ls []) := by
  have hx := cx.1
  have hb := cx.2.1
  have hown := cx.2.2.2.1
  have hts := cx.2.2.2.2.1
  have hm : h'.2.2.1 ≤ hs.2.2.1 + mc ∧ h'.2.2.2.1 ≤ hs.2.2.2.1 + ms := ⟨Nat.le_of_eq e1, Nat.le_of_eq e2⟩
  intro h H locs cells slots ls hf hS hl
  unfold fX1_within_14 at hf
  refine lv_iconst (pc := 14) (v := 0) hx hb dX1_within_14 rfl ?_
  exact wX1_within_15 cx e1 e2 _ _ _ _ _ _ _ hf hS hl
theorem wX1_within_0 {r : Int32} (cx : jCx p s m args meth c cX1_within "WornSkin" 3 (Option.some Jvm.ClassFile.FieldType.boolean) D dA H0 hs.2.2.2.2) (e1 : h'.2.2.1 = hs.2.2.1 + mc) (e2 : h'.2.2.2.1 = hs.2.2.2.1 + ms) : ∀ (x0 : Int32) (x1 : Int32) (x2 : Int32), ∀ (h : jH) (H : Heap) (locs : List Loc) (cells slots : Nat) (ls : Array Slot), (fX1_within x0 x1 x2).1 h = some (r, h') → jS D dA H0 hs h H locs cells slots → lv_has ls 3 [(0, .int x0), (1, .int x1), (2, .int x2)] → W p l e { frames := 0, cells := mc, slots := ms, locals := 0 } s m args below meth c H locs cells slots (jQ D dA H0 below s (.returned (some (.int r))) h' mc ms) (F0 m 0 ls []) := by
  have hx := cx.1
  have hb := cx.2.1
  have hown := cx.2.2.2.1
  have hts := cx.2.2.2.2.1
  have hm : h'.2.2.1 ≤ hs.2.2.1 + mc ∧ h'.2.2.2.1 ≤ hs.2.2.2.1 + ms := ⟨Nat.le_of_eq e1, Nat.le_of_eq e2⟩
  intro x0 x1 x2 h H locs cells slots ls hf hS hl
  unfold fX1_within at hf
  refine lv_iload_n (pc := 0) hx hb dX1_within_0 rfl (lv_at hl 0 rfl) ?_
  refine lv_iload_n (pc := 1) hx hb dX1_within_1 rfl (lv_at hl 1 rfl) ?_
  refine lv_icmp_lt (pc := 2) (tgt := 14) hx hb dX1_within_2 (by decide) (fun hc => ?_) (fun hc => ?_)
  · have hf := jI_t hf hc
    exact wX1_within_14 cx e1 e2 _ _ _ _ _ _ hf hS (lv_sub hl [] rfl)
  · have hf := jI_f hf hc
    refine lv_iload_n (pc := 5) hx hb dX1_within_5 rfl (lv_at hl 0 rfl) ?_
    refine lv_iload_n (pc := 6) hx hb dX1_within_6 rfl (lv_at hl 2 rfl) ?_
    refine lv_icmp_gt (pc := 7) (tgt := 14) hx hb dX1_within_7 (by decide) (fun hc => ?_) (fun hc => ?_)
    · have hf := jI_t hf hc
      exact wX1_within_14 cx e1 e2 _ _ _ _ _ _ hf hS (lv_sub hl [] rfl)
    · have hf := jI_f hf hc
      refine lv_iconst (pc := 10) (v := 1) hx hb dX1_within_10 rfl ?_
      refine lv_goto (pc := 11) (tgt := 15) hx hb dX1_within_11 (by decide) ?_
      exact wX1_within_15 cx e1 e2 _ _ _ _ _ _ _ hf hS (lv_sub hl [] rfl)
theorem metX1_within (l : Launch) (x0 : Int32) (x1 : Int32) (x2 : Int32) (h h' : jH) (r : Int32) (hf : (fX1_within x0 x1 x2).1 h = some (r, h')) : jMet l yX1_within (ws_ yX1_within cX1_within 3 (Option.some Jvm.ClassFile.FieldType.boolean)) (0) (0) [.int x0, .int x1, .int x2] h h' (.returned (some (.int r))) := by
  refine jStart rfl (jle hf) (Nat.le_of_ble_eq_true rfl) ?_
  intro p e s m below meth c D dA H0 mc ms ls cx hnm e1 e2 hS hl
  exact wX1_within_0 cx e1 e2 _ _ _ _ _ _ _ _ _ hf hS hl
def fX1_has_14 (v0 : Int32) : jM Int32 := jRn .boolean v0
def fX1_has (x0 : Int32) (x1 : Int32) : jM Int32 := if ((x0 >>> (x1 &&& 31)) &&& 1) = 1 then (fX1_has_14 1) else (fX1_has_14 0)
theorem wX1_has_14 {r : Int32} (cx : jCx p s m args meth c cX1_has "WornSkin" 2 (Option.some Jvm.ClassFile.FieldType.boolean) D dA H0 hs.2.2.2.2) (e1 : h'.2.2.1 = hs.2.2.1 + mc) (e2 : h'.2.2.2.1 = hs.2.2.2.1 + ms) : ∀ (v0 : Int32), ∀ (h : jH) (H : Heap) (locs : List Loc) (cells slots : Nat) (ls : Array Slot), (fX1_has_14 v0).1 h = some (r, h') → jS D dA H0 hs h H locs cells slots → lv_has ls 2 [] → W p l e { frames := 0, cells := mc, slots := ms, locals := 0 } s m args below meth c H locs cells slots (jQ D dA H0 below s (.returned (some (.int r))) h' mc ms) (F0 m 14 ls [.int v0]) := by
  have hx := cx.1
  have hb := cx.2.1
  have hown := cx.2.2.2.1
  have hts := cx.2.2.2.2.1
  have hm : h'.2.2.1 ≤ hs.2.2.1 + mc ∧ h'.2.2.2.1 ≤ hs.2.2.2.1 + ms := ⟨Nat.le_of_eq e1, Nat.le_of_eq e2⟩
  intro v0 h H locs cells slots ls hf hS hl
  unfold fX1_has_14 at hf
  exact j_zret (pc := 14) cx (Or.inl rfl) hS hf e1 e2 dX1_has_14
theorem wX1_has_0 {r : Int32} (cx : jCx p s m args meth c cX1_has "WornSkin" 2 (Option.some Jvm.ClassFile.FieldType.boolean) D dA H0 hs.2.2.2.2) (e1 : h'.2.2.1 = hs.2.2.1 + mc) (e2 : h'.2.2.2.1 = hs.2.2.2.1 + ms) : ∀ (x0 : Int32) (x1 : Int32), ∀ (h : jH) (H : Heap) (locs : List Loc) (cells slots : Nat) (ls : Array Slot), (fX1_has x0 x1).1 h = some (r, h') → jS D dA H0 hs h H locs cells slots → lv_has ls 2 [(0, .int x0), (1, .int x1)] → W p l e { frames := 0, cells := mc, slots := ms, locals := 0 } s m args below meth c H locs cells slots (jQ D dA H0 below s (.returned (some (.int r))) h' mc ms) (F0 m 0 ls []) := by
  have hx := cx.1
  have hb := cx.2.1
  have hown := cx.2.2.2.1
  have hts := cx.2.2.2.2.1
  have hm : h'.2.2.1 ≤ hs.2.2.1 + mc ∧ h'.2.2.2.1 ≤ hs.2.2.2.1 + ms := ⟨Nat.le_of_eq e1, Nat.le_of_eq e2⟩
  intro x0 x1 h H locs cells slots ls hf hS hl
  unfold fX1_has at hf
  refine lv_iload_n (pc := 0) hx hb dX1_has_0 rfl (lv_at hl 0 rfl) ?_
  refine lv_iload_n (pc := 1) hx hb dX1_has_1 rfl (lv_at hl 1 rfl) ?_
  refine lv_ishr (pc := 2) hx hb dX1_has_2 ?_
  refine lv_iconst (pc := 3) (v := 1) hx hb dX1_has_3 rfl ?_
  refine lv_iand (pc := 4) hx hb dX1_has_4 ?_
  refine lv_iconst (pc := 5) (v := 1) hx hb dX1_has_5 rfl ?_
  refine lv_icmp_ne (pc := 6) (tgt := 13) hx hb dX1_has_6 (by decide) (fun hc => ?_) (fun hc => ?_)
  · have hf := jI_f hf hc
    refine lv_iconst (pc := 13) (v := 0) hx hb dX1_has_13 rfl ?_
    exact wX1_has_14 cx e1 e2 _ _ _ _ _ _ _ hf hS (lv_sub hl [] rfl)
  · have hf := jI_t hf hc
    refine lv_iconst (pc := 9) (v := 1) hx hb dX1_has_9 rfl ?_
    refine lv_goto (pc := 10) (tgt := 14) hx hb dX1_has_10 (by decide) ?_
    exact wX1_has_14 cx e1 e2 _ _ _ _ _ _ _ hf hS (lv_sub hl [] rfl)
theorem metX1_has (l : Launch) (x0 : Int32) (x1 : Int32) (h h' : jH) (r : Int32) (hf : (fX1_has x0 x1).1 h = some (r, h')) : jMet l yX1_has (ws_ yX1_has cX1_has 2 (Option.some Jvm.ClassFile.FieldType.boolean)) (0) (0) [.int x0, .int x1] h h' (.returned (some (.int r))) := by
  refine jStart rfl (jle hf) (Nat.le_of_ble_eq_true rfl) ?_
  intro p e s m below meth c D dA H0 mc ms ls cx hnm e1 e2 hS hl
  exact wX1_has_0 cx e1 e2 _ _ _ _ _ _ _ _ hf hS hl
def fX1_bits_20 (N : Nat) (x1 : Int32) : jM Int32 := jR x1
def fX1_bits_4 (N : Nat) : Nat → Int32 → Int32 → jM Int32
  | 0, _, _ => jE
  | n + 1, x1, x2 => if x2 = 0 then (fX1_bits_20 N x1) else (fX1_bits_4 N n (x1 + 1) (x2 &&& (x2 - 1)))
def fX1_bits (N : Nat) (x0 : Int32) : jM Int32 := fX1_bits_4 N N 0 x0
theorem wX1_bits_20 {N : Nat} {r : Int32} (cx : jCx p s m args meth c cX1_bits "WornSkin" 3 (Option.some Jvm.ClassFile.FieldType.int) D dA H0 hs.2.2.2.2) (e1 : h'.2.2.1 = hs.2.2.1 + mc) (e2 : h'.2.2.2.1 = hs.2.2.2.1 + ms) : ∀ (x1 : Int32), ∀ (h : jH) (H : Heap) (locs : List Loc) (cells slots : Nat) (ls : Array Slot), (fX1_bits_20 N x1).1 h = some (r, h') → jS D dA H0 hs h H locs cells slots → lv_has ls 3 [(1, .int x1)] → W p l e { frames := 0, cells := mc, slots := ms, locals := 0 } s m args below meth c H locs cells slots (jQ D dA H0 below s (.returned (some (.int r))) h' mc ms) (F0 m 20 ls []) := by
  have hx := cx.1
  have hb := cx.2.1
  have hown := cx.2.2.2.1
  have hts := cx.2.2.2.2.1
  have hm : h'.2.2.1 ≤ hs.2.2.1 + mc ∧ h'.2.2.2.1 ≤ hs.2.2.2.1 + ms := ⟨Nat.le_of_eq e1, Nat.le_of_eq e2⟩
  intro x1 h H locs cells slots ls hf hS hl
  unfold fX1_bits_20 at hf
  refine lv_iload_n (pc := 20) hx hb dX1_bits_20 rfl (lv_at hl 0 rfl) ?_
  exact j_iret (pc := 21) cx hS hf e1 e2 dX1_bits_21
theorem wX1_bits_4 {N : Nat} {r : Int32} (cx : jCx p s m args meth c cX1_bits "WornSkin" 3 (Option.some Jvm.ClassFile.FieldType.int) D dA H0 hs.2.2.2.2) (e1 : h'.2.2.1 = hs.2.2.1 + mc) (e2 : h'.2.2.2.1 = hs.2.2.2.1 + ms) : ∀ (n : Nat) (x1 : Int32) (x2 : Int32), ∀ (h : jH) (H : Heap) (locs : List Loc) (cells slots : Nat) (ls : Array Slot), (fX1_bits_4 N n x1 x2).1 h = some (r, h') → jS D dA H0 hs h H locs cells slots → lv_has ls 3 [(1, .int x1), (2, .int x2)] → W p l e { frames := 0, cells := mc, slots := ms, locals := 0 } s m args below meth c H locs cells slots (jQ D dA H0 below s (.returned (some (.int r))) h' mc ms) (F0 m 4 ls []) := by
  have hx := cx.1
  have hb := cx.2.1
  have hown := cx.2.2.2.1
  have hts := cx.2.2.2.2.1
  have hm : h'.2.2.1 ≤ hs.2.2.1 + mc ∧ h'.2.2.2.1 ≤ hs.2.2.2.1 + ms := ⟨Nat.le_of_eq e1, Nat.le_of_eq e2⟩
  intro n
  induction n with
  | zero =>
    intro x1 x2 h H locs cells slots ls hf hS hl
    exact jE_f hf
  | succ n ih =>
    intro x1 x2 h H locs cells slots ls hf hS hl
    unfold fX1_bits_4 at hf
    refine lv_iload_n (pc := 4) hx hb dX1_bits_4 rfl (lv_at hl 1 rfl) ?_
    refine lv_if_eq (pc := 5) (tgt := 20) hx hb dX1_bits_5 (by decide) (fun hc => ?_) (fun hc => ?_)
    · have hf := jI_t hf hc
      exact wX1_bits_20 cx e1 e2 _ _ _ _ _ _ _ hf hS (lv_sub hl [0] rfl)
    · have hf := jI_f hf hc
      refine lv_iinc (pc := 8) (v := (x1 + 1)) (lv' := [(1, .int (x1 + 1)), (2, .int x2)]) hx hb dX1_bits_8 hl (k := 0) rfl rfl (Nat.le_of_ble_eq_true rfl) rfl (fun ls hl => ?_)
      refine lv_iload_n (pc := 11) hx hb dX1_bits_11 rfl (lv_at hl 1 rfl) ?_
      refine lv_iload_n (pc := 12) hx hb dX1_bits_12 rfl (lv_at hl 1 rfl) ?_
      refine lv_iconst (pc := 13) (v := 1) hx hb dX1_bits_13 rfl ?_
      refine lv_isub (pc := 14) hx hb dX1_bits_14 ?_
      refine lv_iand (pc := 15) hx hb dX1_bits_15 ?_
      refine lv_istore_n (pc := 16) (i := 2) (lv' := [(2, .int (x2 &&& (x2 - 1))), (1, .int (x1 + 1))]) hx hb dX1_bits_16 rfl hl (Nat.le_of_ble_eq_true rfl) rfl (fun ls hl => ?_)
      refine lv_goto (pc := 17) (tgt := 4) hx hb dX1_bits_17 (by decide) ?_
      exact ih _ _ _ _ _ _ _ _ hf hS (lv_sub hl [1, 0] rfl)
theorem wX1_bits_0 {N : Nat} {r : Int32} (cx : jCx p s m args meth c cX1_bits "WornSkin" 3 (Option.some Jvm.ClassFile.FieldType.int) D dA H0 hs.2.2.2.2) (e1 : h'.2.2.1 = hs.2.2.1 + mc) (e2 : h'.2.2.2.1 = hs.2.2.2.1 + ms) : ∀ (x0 : Int32), ∀ (h : jH) (H : Heap) (locs : List Loc) (cells slots : Nat) (ls : Array Slot), (fX1_bits N x0).1 h = some (r, h') → jS D dA H0 hs h H locs cells slots → lv_has ls 3 [(0, .int x0)] → W p l e { frames := 0, cells := mc, slots := ms, locals := 0 } s m args below meth c H locs cells slots (jQ D dA H0 below s (.returned (some (.int r))) h' mc ms) (F0 m 0 ls []) := by
  have hx := cx.1
  have hb := cx.2.1
  have hown := cx.2.2.2.1
  have hts := cx.2.2.2.2.1
  have hm : h'.2.2.1 ≤ hs.2.2.1 + mc ∧ h'.2.2.2.1 ≤ hs.2.2.2.1 + ms := ⟨Nat.le_of_eq e1, Nat.le_of_eq e2⟩
  intro x0 h H locs cells slots ls hf hS hl
  unfold fX1_bits at hf
  refine lv_iconst (pc := 0) (v := 0) hx hb dX1_bits_0 rfl ?_
  refine lv_istore_n (pc := 1) (i := 1) (lv' := [(1, .int 0), (0, .int x0)]) hx hb dX1_bits_1 rfl hl (Nat.le_of_ble_eq_true rfl) rfl (fun ls hl => ?_)
  refine lv_iload_n (pc := 2) hx hb dX1_bits_2 rfl (lv_at hl 1 rfl) ?_
  refine lv_istore_n (pc := 3) (i := 2) (lv' := [(2, .int x0), (1, .int 0), (0, .int x0)]) hx hb dX1_bits_3 rfl hl (Nat.le_of_ble_eq_true rfl) rfl (fun ls hl => ?_)
  exact wX1_bits_4 cx e1 e2 N _ _ _ _ _ _ _ _ hf hS (lv_sub hl [1, 0] rfl)
theorem metX1_bits (l : Launch) (N : Nat) (x0 : Int32) (h h' : jH) (r : Int32) (hf : (fX1_bits N x0).1 h = some (r, h')) : jMet l yX1_bits (ws_ yX1_bits cX1_bits 3 (Option.some Jvm.ClassFile.FieldType.int)) (0) (0) [.int x0] h h' (.returned (some (.int r))) := by
  refine jStart rfl (jle hf) (Nat.le_of_ble_eq_true rfl) ?_
  intro p e s m below meth c D dA H0 mc ms ls cx hnm e1 e2 hS hl
  exact wX1_bits_0 cx e1 e2 _ _ _ _ _ _ _ hf hS hl
def fX1_made (x0 : Int32) (x1 : Int32) (x2 : Int32) : jM (Option Nat) := if x0 = 1 then (jB (jnw 14 2 [.int 0, .int 0]) fun q1 => jB (fX11_init q1 x1 x2) fun _ => jR (some q1)) else (if x0 = 2 then (jB (jnw 15 2 [.int 0, .int 0]) fun q3 => jB (fX12_init q3 x1 x2) fun _ => jR (some q3)) else (if x0 = 3 then (jB (jnw 16 2 [.int 0, .int 0]) fun q5 => jB (fX13_init q5 x1 x2) fun _ => jR (some q5)) else (jB (jnw 13 2 [.int 0, .int 0]) fun q7 => jB (fX10_init q7 x1 x2) fun _ => jR (some q7))))
theorem wX1_made_0 {r : Option Nat} (cx : jCx p s m args meth c cX1_made "WornSkin" 3 (Option.some (Jvm.ClassFile.FieldType.object "WornSkin$Text")) D dA H0 hs.2.2.2.2) (e1 : h'.2.2.1 = hs.2.2.1 + mc) (e2 : h'.2.2.2.1 = hs.2.2.2.1 + ms) : ∀ (x0 : Int32) (x1 : Int32) (x2 : Int32), ∀ (h : jH) (H : Heap) (locs : List Loc) (cells slots : Nat) (ls : Array Slot), (fX1_made x0 x1 x2).1 h = some (r, h') → jS D dA H0 hs h H locs cells slots → lv_has ls 3 [(0, .int x0), (1, .int x1), (2, .int x2)] → W p l e { frames := 3, cells := mc, slots := ms, locals := 64 } s m args below meth c H locs cells slots (jQ D dA H0 below s (.returned (some (va_rf r))) h' mc ms) (F0 m 0 ls []) := by
  have hx := cx.1
  have hb := cx.2.1
  have hown := cx.2.2.2.1
  have hts := cx.2.2.2.2.1
  have hm : h'.2.2.1 ≤ hs.2.2.1 + mc ∧ h'.2.2.2.1 ≤ hs.2.2.2.1 + ms := ⟨Nat.le_of_eq e1, Nat.le_of_eq e2⟩
  intro x0 x1 x2 h H locs cells slots ls hf hS hl
  unfold fX1_made at hf
  refine lv_iload_n (pc := 0) hx hb dX1_made_0 rfl (lv_at hl 0 rfl) ?_
  by_cases hc0 : x0 = 1
  · have hf := jI_t hf hc0
    refine lv_tableIn (pc := 1) (off := 27) (tgt := 28) hx hb dX1_made_1 (by rw [hc0]; decide) (by rw [hc0]; decide) (by rw [hc0]; rfl) (by decide) ?_
    refine j_new (pc := 28) cx hS hf cn_X11 q877 dX1_made_28 hm (fun q1 h H cells slots hf hS => ?_)
    refine lv_dup (pc := 31) hx hb dX1_made_31 rfl ?_
    refine lv_iload_n (pc := 32) hx hb dX1_made_32 rfl (lv_at hl 1 rfl) ?_
    refine lv_iload_n (pc := 33) hx hb dX1_made_33 rfl (lv_at hl 2 rfl) ?_
    obtain ⟨_, h1, e9, hf⟩ := jB_some hf
    refine j_callI (pc := 34) (st1 := [.ref q1]) (As := [.int x1, .int x2]) (rest := [.ref q1]) cx hS rfl hl.1 hm (metX11_init l _ _ _ _ _ _ e9) (jle hf) rfl q881 q880 q879 q142 pdX11_init rfl rfl (Nat.le_of_ble_eq_true rfl) ⟨Nat.le_of_ble_eq_true rfl, Nat.le_of_ble_eq_true rfl⟩ dX1_made_34 rfl (fun H locs cells slots hS => ?_)
    exact j_aret (pc := 37) cx hS hf (Or.inl ⟨_, rfl⟩) e1 e2 dX1_made_37
  have hf := jI_f hf hc0
  by_cases hc1 : x0 = 2
  · have hf := jI_t hf hc1
    refine lv_tableIn (pc := 1) (off := 37) (tgt := 38) hx hb dX1_made_1 (by rw [hc1]; decide) (by rw [hc1]; decide) (by rw [hc1]; rfl) (by decide) ?_
    refine j_new (pc := 38) cx hS hf cn_X12 q899 dX1_made_38 hm (fun q3 h H cells slots hf hS => ?_)
    refine lv_dup (pc := 41) hx hb dX1_made_41 rfl ?_
    refine lv_iload_n (pc := 42) hx hb dX1_made_42 rfl (lv_at hl 1 rfl) ?_
    refine lv_iload_n (pc := 43) hx hb dX1_made_43 rfl (lv_at hl 2 rfl) ?_
    obtain ⟨_, h1, e9, hf⟩ := jB_some hf
    refine j_callI (pc := 44) (st1 := [.ref q3]) (As := [.int x1, .int x2]) (rest := [.ref q3]) cx hS rfl hl.1 hm (metX12_init l _ _ _ _ _ _ e9) (jle hf) rfl q903 q902 q901 q143 pdX12_init rfl rfl (Nat.le_of_ble_eq_true rfl) ⟨Nat.le_of_ble_eq_true rfl, Nat.le_of_ble_eq_true rfl⟩ dX1_made_44 rfl (fun H locs cells slots hS => ?_)
    exact j_aret (pc := 47) cx hS hf (Or.inl ⟨_, rfl⟩) e1 e2 dX1_made_47
  have hf := jI_f hf hc1
  by_cases hc2 : x0 = 3
  · have hf := jI_t hf hc2
    refine lv_tableIn (pc := 1) (off := 47) (tgt := 48) hx hb dX1_made_1 (by rw [hc2]; decide) (by rw [hc2]; decide) (by rw [hc2]; rfl) (by decide) ?_
    refine j_new (pc := 48) cx hS hf cn_X13 q908 dX1_made_48 hm (fun q5 h H cells slots hf hS => ?_)
    refine lv_dup (pc := 51) hx hb dX1_made_51 rfl ?_
    refine lv_iload_n (pc := 52) hx hb dX1_made_52 rfl (lv_at hl 1 rfl) ?_
    refine lv_iload_n (pc := 53) hx hb dX1_made_53 rfl (lv_at hl 2 rfl) ?_
    obtain ⟨_, h1, e9, hf⟩ := jB_some hf
    refine j_callI (pc := 54) (st1 := [.ref q5]) (As := [.int x1, .int x2]) (rest := [.ref q5]) cx hS rfl hl.1 hm (metX13_init l _ _ _ _ _ _ e9) (jle hf) rfl q912 q911 q910 q144 pdX13_init rfl rfl (Nat.le_of_ble_eq_true rfl) ⟨Nat.le_of_ble_eq_true rfl, Nat.le_of_ble_eq_true rfl⟩ dX1_made_54 rfl (fun H locs cells slots hS => ?_)
    exact j_aret (pc := 57) cx hS hf (Or.inl ⟨_, rfl⟩) e1 e2 dX1_made_57
  have hf := jI_f hf hc2
  refine lv_tableOut (pc := 1) (tgt := 58) hx hb dX1_made_1 (by have i0 := lv_neT hc0 (by decide : (1 : Int32).toInt = 1); have i1 := lv_neT hc1 (by decide : (2 : Int32).toInt = 2); have i2 := lv_neT hc2 (by decide : (3 : Int32).toInt = 3); omega) (by decide) ?_
  refine j_new (pc := 58) cx hS hf cn_X10 q917 dX1_made_58 hm (fun q7 h H cells slots hf hS => ?_)
  refine lv_dup (pc := 61) hx hb dX1_made_61 rfl ?_
  refine lv_iload_n (pc := 62) hx hb dX1_made_62 rfl (lv_at hl 1 rfl) ?_
  refine lv_iload_n (pc := 63) hx hb dX1_made_63 rfl (lv_at hl 2 rfl) ?_
  obtain ⟨_, h1, e9, hf⟩ := jB_some hf
  refine j_callI (pc := 64) (st1 := [.ref q7]) (As := [.int x1, .int x2]) (rest := [.ref q7]) cx hS rfl hl.1 hm (metX10_init l _ _ _ _ _ _ e9) (jle hf) rfl q884 q883 q919 q141 pdX10_init rfl rfl (Nat.le_of_ble_eq_true rfl) ⟨Nat.le_of_ble_eq_true rfl, Nat.le_of_ble_eq_true rfl⟩ dX1_made_64 rfl (fun H locs cells slots hS => ?_)
  exact j_aret (pc := 67) cx hS hf (Or.inl ⟨_, rfl⟩) e1 e2 dX1_made_67
theorem metX1_made (l : Launch) (x0 : Int32) (x1 : Int32) (x2 : Int32) (h h' : jH) (r : Option Nat) (hf : (fX1_made x0 x1 x2).1 h = some (r, h')) : jMet l yX1_made (ws_ yX1_made cX1_made 3 (Option.some (Jvm.ClassFile.FieldType.object "WornSkin$Text"))) (3) (64) [.int x0, .int x1, .int x2] h h' (.returned (some (va_rf r))) := by
  refine jStart rfl (jle hf) (Nat.le_of_ble_eq_true rfl) ?_
  intro p e s m below meth c D dA H0 mc ms ls cx hnm e1 e2 hS hl
  exact wX1_made_0 cx e1 e2 _ _ _ _ _ _ _ _ _ hf hS hl
def fX1_gets_25 (v0 : Int32) : jM Int32 := jR v0
def fX1_gets_14 (v0 : Int32) : jM Int32 := jR v0
def fX1_gets (x0 : Int32) (x1 : Int32) (x2 : Int32) (x3 : Int32) (x4 : Int32) : jM Int32 := if x0 = 0 then (if x1 = 0 then (fX1_gets_25 0) else (fX1_gets_25 x4)) else (if x1 = 0 then (fX1_gets_14 x3) else (fX1_gets_14 (-x2)))
theorem wX1_gets_25 {r : Int32} (cx : jCx p s m args meth c cX1_gets "WornSkin" 5 (Option.some Jvm.ClassFile.FieldType.int) D dA H0 hs.2.2.2.2) (e1 : h'.2.2.1 = hs.2.2.1 + mc) (e2 : h'.2.2.2.1 = hs.2.2.2.1 + ms) : ∀ (v0 : Int32), ∀ (h : jH) (H : Heap) (locs : List Loc) (cells slots : Nat) (ls : Array Slot), (fX1_gets_25 v0).1 h = some (r, h') → jS D dA H0 hs h H locs cells slots → lv_has ls 5 [] → W p l e { frames := 0, cells := mc, slots := ms, locals := 0 } s m args below meth c H locs cells slots (jQ D dA H0 below s (.returned (some (.int r))) h' mc ms) (F0 m 25 ls [.int v0]) := by
  have hx := cx.1
  have hb := cx.2.1
  have hown := cx.2.2.2.1
  have hts := cx.2.2.2.2.1
  have hm : h'.2.2.1 ≤ hs.2.2.1 + mc ∧ h'.2.2.2.1 ≤ hs.2.2.2.1 + ms := ⟨Nat.le_of_eq e1, Nat.le_of_eq e2⟩
  intro v0 h H locs cells slots ls hf hS hl
  unfold fX1_gets_25 at hf
  exact j_iret (pc := 25) cx hS hf e1 e2 dX1_gets_25
theorem wX1_gets_14 {r : Int32} (cx : jCx p s m args meth c cX1_gets "WornSkin" 5 (Option.some Jvm.ClassFile.FieldType.int) D dA H0 hs.2.2.2.2) (e1 : h'.2.2.1 = hs.2.2.1 + mc) (e2 : h'.2.2.2.1 = hs.2.2.2.1 + ms) : ∀ (v0 : Int32), ∀ (h : jH) (H : Heap) (locs : List Loc) (cells slots : Nat) (ls : Array Slot), (fX1_gets_14 v0).1 h = some (r, h') → jS D dA H0 hs h H locs cells slots → lv_has ls 5 [] → W p l e { frames := 0, cells := mc, slots := ms, locals := 0 } s m args below meth c H locs cells slots (jQ D dA H0 below s (.returned (some (.int r))) h' mc ms) (F0 m 14 ls [.int v0]) := by
  have hx := cx.1
  have hb := cx.2.1
  have hown := cx.2.2.2.1
  have hts := cx.2.2.2.2.1
  have hm : h'.2.2.1 ≤ hs.2.2.1 + mc ∧ h'.2.2.2.1 ≤ hs.2.2.2.1 + ms := ⟨Nat.le_of_eq e1, Nat.le_of_eq e2⟩
  intro v0 h H locs cells slots ls hf hS hl
  unfold fX1_gets_14 at hf
  exact j_iret (pc := 14) cx hS hf e1 e2 dX1_gets_14
theorem wX1_gets_0 {r : Int32} (cx : jCx p s m args meth c cX1_gets "WornSkin" 5 (Option.some Jvm.ClassFile.FieldType.int) D dA H0 hs.2.2.2.2) (e1 : h'.2.2.1 = hs.2.2.1 + mc) (e2 : h'.2.2.2.1 = hs.2.2.2.1 + ms) : ∀ (x0 : Int32) (x1 : Int32) (x2 : Int32) (x3 : Int32) (x4 : Int32), ∀ (h : jH) (H : Heap) (locs : List Loc) (cells slots : Nat) (ls : Array Slot), (fX1_gets x0 x1 x2 x3 x4).1 h = some (r, h') → jS D dA H0 hs h H locs cells slots → lv_has ls 5 [(0, .int x0), (1, .int x1), (2, .int x2), (3, .int x3), (4, .int x4)] → W p l e { frames := 0, cells := mc, slots := ms, locals := 0 } s m args below meth c H locs cells slots (jQ D dA H0 below s (.returned (some (.int r))) h' mc ms) (F0 m 0 ls []) := by
  have hx := cx.1
  have hb := cx.2.1
  have hown := cx.2.2.2.1
  have hts := cx.2.2.2.2.1
  have hm : h'.2.2.1 ≤ hs.2.2.1 + mc ∧ h'.2.2.2.1 ≤ hs.2.2.2.1 + ms := ⟨Nat.le_of_eq e1, Nat.le_of_eq e2⟩
  intro x0 x1 x2 x3 x4 h H locs cells slots ls hf hS hl
  unfold fX1_gets at hf
  refine lv_iload_n (pc := 0) hx hb dX1_gets_0 rfl (lv_at hl 0 rfl) ?_
  refine lv_if_eq (pc := 1) (tgt := 15) hx hb dX1_gets_1 (by decide) (fun hc => ?_) (fun hc => ?_)
  · have hf := jI_t hf hc
    refine lv_iload_n (pc := 15) hx hb dX1_gets_15 rfl (lv_at hl 1 rfl) ?_
    refine lv_if_eq (pc := 16) (tgt := 24) hx hb dX1_gets_16 (by decide) (fun hc => ?_) (fun hc => ?_)
    · have hf := jI_t hf hc
      refine lv_iconst (pc := 24) (v := 0) hx hb dX1_gets_24 rfl ?_
      exact wX1_gets_25 cx e1 e2 _ _ _ _ _ _ _ hf hS (lv_sub hl [] rfl)
    · have hf := jI_f hf hc
      refine lv_iload (pc := 19) hx hb dX1_gets_19 (lv_at hl 4 rfl) ?_
      refine lv_goto (pc := 21) (tgt := 25) hx hb dX1_gets_21 (by decide) ?_
      exact wX1_gets_25 cx e1 e2 _ _ _ _ _ _ _ hf hS (lv_sub hl [] rfl)
  · have hf := jI_f hf hc
    refine lv_iload_n (pc := 4) hx hb dX1_gets_4 rfl (lv_at hl 1 rfl) ?_
    refine lv_if_eq (pc := 5) (tgt := 13) hx hb dX1_gets_5 (by decide) (fun hc => ?_) (fun hc => ?_)
    · have hf := jI_t hf hc
      refine lv_iload_n (pc := 13) hx hb dX1_gets_13 rfl (lv_at hl 3 rfl) ?_
      exact wX1_gets_14 cx e1 e2 _ _ _ _ _ _ _ hf hS (lv_sub hl [] rfl)
    · have hf := jI_f hf hc
      refine lv_iload_n (pc := 8) hx hb dX1_gets_8 rfl (lv_at hl 2 rfl) ?_
      refine lv_ineg (pc := 9) hx hb dX1_gets_9 ?_
      refine lv_goto (pc := 10) (tgt := 14) hx hb dX1_gets_10 (by decide) ?_
      exact wX1_gets_14 cx e1 e2 _ _ _ _ _ _ _ hf hS (lv_sub hl [] rfl)
theorem metX1_gets (l : Launch) (x0 : Int32) (x1 : Int32) (x2 : Int32) (x3 : Int32) (x4 : Int32) (h h' : jH) (r : Int32) (hf : (fX1_gets x0 x1 x2 x3 x4).1 h = some (r, h')) : jMet l yX1_gets (ws_ yX1_gets cX1_gets 5 (Option.some Jvm.ClassFile.FieldType.int)) (0) (0) [.int x0, .int x1, .int x2, .int x3, .int x4] h h' (.returned (some (.int r))) := by
  refine jStart rfl (jle hf) (Nat.le_of_ble_eq_true rfl) ?_
  intro p e s m below meth c D dA H0 mc ms ls cx hnm e1 e2 hS hl
  exact wX1_gets_0 cx e1 e2 _ _ _ _ _ _ _ _ _ _ _ hf hS hl
def fX1_isRest_63 (v0 : Int32) : jM Int32 := jRn .boolean v0
def fX1_isRest_62 : jM Int32 := fX1_isRest_63 0
def fX1_isRest_38 (x0 : Int32) (x1 : Int32) (x2 : Int32) (x3 : Int32) (x4 : Int32) (v0 : Int32) : jM Int32 := jB (fX1_gets v0 x0 x2 x3 x4) fun y1 => jB (fX1_gets x1 x0 x2 x3 x4) fun y2 => if y2 < y1 then (fX1_isRest_62) else (fX1_isRest_63 1)
def fX1_isRest_9 (x0 : Int32) (x1 : Int32) (x2 : Int32) (x3 : Int32) (x4 : Int32) (v0 : Int32) : jM Int32 := jB (fX1_gets v0 x1 x2 x3 x4) fun y1 => jB (fX1_gets x0 x1 x2 x3 x4) fun y2 => if y2 < y1 then (fX1_isRest_62) else (if x1 = 0 then (fX1_isRest_38 x0 x1 x2 x3 x4 1) else (fX1_isRest_38 x0 x1 x2 x3 x4 0))
def fX1_isRest (x0 : Int32) (x1 : Int32) (x2 : Int32) (x3 : Int32) (x4 : Int32) : jM Int32 := if x0 = 0 then (fX1_isRest_9 x0 x1 x2 x3 x4 1) else (fX1_isRest_9 x0 x1 x2 x3 x4 0)
theorem wX1_isRest_63 {r : Int32} (cx : jCx p s m args meth c cX1_isRest "WornSkin" 5 (Option.some Jvm.ClassFile.FieldType.boolean) D dA H0 hs.2.2.2.2) (e1 : h'.2.2.1 = hs.2.2.1 + mc) (e2 : h'.2.2.2.1 = hs.2.2.2.1 + ms) : ∀ (v0 : Int32), ∀ (h : jH) (H : Heap) (locs : List Loc) (cells slots : Nat) (ls : Array Slot), (fX1_isRest_63 v0).1 h = some (r, h') → jS D dA H0 hs h H locs cells slots → lv_has ls 5 [] → W p l e { frames := 1, cells := mc, slots := ms, locals := 24 } s m args below meth c H locs cells slots (jQ D dA H0 below s (.returned (some (.int r))) h' mc ms) (F0 m 63 ls [.int v0]) := by
  have hx := cx.1
  have hb := cx.2.1
  have hown := cx.2.2.2.1
  have hts := cx.2.2.2.2.1
  have hm : h'.2.2.1 ≤ hs.2.2.1 + mc ∧ h'.2.2.2.1 ≤ hs.2.2.2.1 + ms := ⟨Nat.le_of_eq e1, Nat.le_of_eq e2⟩
  intro v0 h H locs cells slots ls hf hS hl
  unfold fX1_isRest_63 at hf
  exact j_zret (pc := 63) cx (Or.inl rfl) hS hf e1 e2 dX1_isRest_63
theorem wX1_isRest_62 {r : Int32} (cx : jCx p s m args meth c cX1_isRest "WornSkin" 5 (Option.some Jvm.ClassFile.FieldType.boolean) D dA H0 hs.2.2.2.2) (e1 : h'.2.2.1 = hs.2.2.1 + mc) (e2 : h'.2.2.2.1 = hs.2.2.2.1 + ms) : ∀ (h : jH) (H : Heap) (locs : List Loc) (cells slots : Nat) (ls : Array Slot), (fX1_isRest_62).1 h = some (r, h') → jS D dA H0 hs h H locs cells slots → lv_has ls 5 [] → W p l e { frames := 1, cells := mc, slots := ms, locals := 24 } s m args below meth c H locs cells slots (jQ D dA H0 below s (.returned (some (.int r))) h' mc ms) (F0 m 62 ls []) := by
  have hx := cx.1
  have hb := cx.2.1
  have hown := cx.2.2.2.1
  have hts := cx.2.2.2.2.1
  have hm : h'.2.2.1 ≤ hs.2.2.1 + mc ∧ h'.2.2.2.1 ≤ hs.2.2.2.1 + ms := ⟨Nat.le_of_eq e1, Nat.le_of_eq e2⟩
  intro h H locs cells slots ls hf hS hl
  unfold fX1_isRest_62 at hf
  refine lv_iconst (pc := 62) (v := 0) hx hb dX1_isRest_62 rfl ?_
  exact wX1_isRest_63 cx e1 e2 _ _ _ _ _ _ _ hf hS hl
theorem wX1_isRest_38 {r : Int32} (cx : jCx p s m args meth c cX1_isRest "WornSkin" 5 (Option.some Jvm.ClassFile.FieldType.boolean) D dA H0 hs.2.2.2.2) (e1 : h'.2.2.1 = hs.2.2.1 + mc) (e2 : h'.2.2.2.1 = hs.2.2.2.1 + ms) : ∀ (x0 : Int32) (x1 : Int32) (x2 : Int32) (x3 : Int32) (x4 : Int32) (v0 : Int32), ∀ (h : jH) (H : Heap) (locs : List Loc) (cells slots : Nat) (ls : Array Slot), (fX1_isRest_38 x0 x1 x2 x3 x4 v0).1 h = some (r, h') → jS D dA H0 hs h H locs cells slots → lv_has ls 5 [(0, .int x0), (1, .int x1), (2, .int x2), (3, .int x3), (4, .int x4)] → W p l e { frames := 1, cells := mc, slots := ms, locals := 24 } s m args below meth c H locs cells slots (jQ D dA H0 below s (.returned (some (.int r))) h' mc ms) (F0 m 38 ls [.int v0]) := by
  have hx := cx.1
  have hb := cx.2.1
  have hown := cx.2.2.2.1
  have hts := cx.2.2.2.2.1
  have hm : h'.2.2.1 ≤ hs.2.2.1 + mc ∧ h'.2.2.2.1 ≤ hs.2.2.2.1 + ms := ⟨Nat.le_of_eq e1, Nat.le_of_eq e2⟩
  intro x0 x1 x2 x3 x4 v0 h H locs cells slots ls hf hS hl
  unfold fX1_isRest_38 at hf
  refine lv_iload_n (pc := 38) hx hb dX1_isRest_38 rfl (lv_at hl 0 rfl) ?_
  refine lv_iload_n (pc := 39) hx hb dX1_isRest_39 rfl (lv_at hl 2 rfl) ?_
  refine lv_iload_n (pc := 40) hx hb dX1_isRest_40 rfl (lv_at hl 3 rfl) ?_
  refine lv_iload (pc := 41) hx hb dX1_isRest_41 (lv_at hl 4 rfl) ?_
  obtain ⟨y1, h1, e9, hf⟩ := jB_some hf
  refine j_callS (pc := 43) (st1 := [.int y1]) (As := [.int v0, .int x0, .int x2, .int x3, .int x4]) (rest := []) cx hS rfl hl.1 hm (metX1_gets l _ _ _ _ _ _ _ _ e9) (jle hf) (lw_S q1675 q1676 q112 q1677) pdX1_gets rfl rfl (Nat.le_of_ble_eq_true rfl) ⟨Nat.le_of_ble_eq_true rfl, Nat.le_of_ble_eq_true rfl⟩ dX1_isRest_43 rfl (fun H locs cells slots hS => ?_)
  refine lv_iload_n (pc := 46) hx hb dX1_isRest_46 rfl (lv_at hl 1 rfl) ?_
  refine lv_iload_n (pc := 47) hx hb dX1_isRest_47 rfl (lv_at hl 0 rfl) ?_
  refine lv_iload_n (pc := 48) hx hb dX1_isRest_48 rfl (lv_at hl 2 rfl) ?_
  refine lv_iload_n (pc := 49) hx hb dX1_isRest_49 rfl (lv_at hl 3 rfl) ?_
  refine lv_iload (pc := 50) hx hb dX1_isRest_50 (lv_at hl 4 rfl) ?_
  obtain ⟨y2, h1, e9, hf⟩ := jB_some hf
  refine j_callS (pc := 52) (st1 := [.int y2, .int y1]) (As := [.int x1, .int x0, .int x2, .int x3, .int x4]) (rest := [.int y1]) cx hS rfl hl.1 hm (metX1_gets l _ _ _ _ _ _ _ _ e9) (jle hf) (lw_S q1675 q1676 q112 q1677) pdX1_gets rfl rfl (Nat.le_of_ble_eq_true rfl) ⟨Nat.le_of_ble_eq_true rfl, Nat.le_of_ble_eq_true rfl⟩ dX1_isRest_52 rfl (fun H locs cells slots hS => ?_)
  refine lv_icmp_gt (pc := 55) (tgt := 62) hx hb dX1_isRest_55 (by decide) (fun hc => ?_) (fun hc => ?_)
  · have hf := jI_t hf hc
    exact wX1_isRest_62 cx e1 e2 _ _ _ _ _ _ hf hS (lv_sub hl [] rfl)
  · have hf := jI_f hf hc
    refine lv_iconst (pc := 58) (v := 1) hx hb dX1_isRest_58 rfl ?_
    refine lv_goto (pc := 59) (tgt := 63) hx hb dX1_isRest_59 (by decide) ?_
    exact wX1_isRest_63 cx e1 e2 _ _ _ _ _ _ _ hf hS (lv_sub hl [] rfl)
theorem wX1_isRest_9 {r : Int32} (cx : jCx p s m args meth c cX1_isRest "WornSkin" 5 (Option.some Jvm.ClassFile.FieldType.boolean) D dA H0 hs.2.2.2.2) (e1 : h'.2.2.1 = hs.2.2.1 + mc) (e2 : h'.2.2.2.1 = hs.2.2.2.1 + ms) : ∀ (x0 : Int32) (x1 : Int32) (x2 : Int32) (x3 : Int32) (x4 : Int32) (v0 : Int32), ∀ (h : jH) (H : Heap) (locs : List Loc) (cells slots : Nat) (ls : Array Slot), (fX1_isRest_9 x0 x1 x2 x3 x4 v0).1 h = some (r, h') → jS D dA H0 hs h H locs cells slots → lv_has ls 5 [(0, .int x0), (1, .int x1), (2, .int x2), (3, .int x3), (4, .int x4)] → W p l e { frames := 1, cells := mc, slots := ms, locals := 24 } s m args below meth c H locs cells slots (jQ D dA H0 below s (.returned (some (.int r))) h' mc ms) (F0 m 9 ls [.int v0]) := by
  have hx := cx.1
  have hb := cx.2.1
  have hown := cx.2.2.2.1
  have hts := cx.2.2.2.2.1
  have hm : h'.2.2.1 ≤ hs.2.2.1 + mc ∧ h'.2.2.2.1 ≤ hs.2.2.2.1 + ms := ⟨Nat.le_of_eq e1, Nat.le_of_eq e2⟩
  intro x0 x1 x2 x3 x4 v0 h H locs cells slots ls hf hS hl
  unfold fX1_isRest_9 at hf
  refine lv_iload_n (pc := 9) hx hb dX1_isRest_9 rfl (lv_at hl 1 rfl) ?_
  refine lv_iload_n (pc := 10) hx hb dX1_isRest_10 rfl (lv_at hl 2 rfl) ?_
  refine lv_iload_n (pc := 11) hx hb dX1_isRest_11 rfl (lv_at hl 3 rfl) ?_
  refine lv_iload (pc := 12) hx hb dX1_isRest_12 (lv_at hl 4 rfl) ?_
  obtain ⟨y1, h1, e9, hf⟩ := jB_some hf
  refine j_callS (pc := 14) (st1 := [.int y1]) (As := [.int v0, .int x1, .int x2, .int x3, .int x4]) (rest := []) cx hS rfl hl.1 hm (metX1_gets l _ _ _ _ _ _ _ _ e9) (jle hf) (lw_S q1675 q1676 q112 q1677) pdX1_gets rfl rfl (Nat.le_of_ble_eq_true rfl) ⟨Nat.le_of_ble_eq_true rfl, Nat.le_of_ble_eq_true rfl⟩ dX1_isRest_14 rfl (fun H locs cells slots hS => ?_)
  refine lv_iload_n (pc := 17) hx hb dX1_isRest_17 rfl (lv_at hl 0 rfl) ?_
  refine lv_iload_n (pc := 18) hx hb dX1_isRest_18 rfl (lv_at hl 1 rfl) ?_
  refine lv_iload_n (pc := 19) hx hb dX1_isRest_19 rfl (lv_at hl 2 rfl) ?_
  refine lv_iload_n (pc := 20) hx hb dX1_isRest_20 rfl (lv_at hl 3 rfl) ?_
  refine lv_iload (pc := 21) hx hb dX1_isRest_21 (lv_at hl 4 rfl) ?_
  obtain ⟨y2, h1, e9, hf⟩ := jB_some hf
  refine j_callS (pc := 23) (st1 := [.int y2, .int y1]) (As := [.int x0, .int x1, .int x2, .int x3, .int x4]) (rest := [.int y1]) cx hS rfl hl.1 hm (metX1_gets l _ _ _ _ _ _ _ _ e9) (jle hf) (lw_S q1675 q1676 q112 q1677) pdX1_gets rfl rfl (Nat.le_of_ble_eq_true rfl) ⟨Nat.le_of_ble_eq_true rfl, Nat.le_of_ble_eq_true rfl⟩ dX1_isRest_23 rfl (fun H locs cells slots hS => ?_)
  refine lv_icmp_gt (pc := 26) (tgt := 62) hx hb dX1_isRest_26 (by decide) (fun hc => ?_) (fun hc => ?_)
  · have hf := jI_t hf hc
    exact wX1_isRest_62 cx e1 e2 _ _ _ _ _ _ hf hS (lv_sub hl [] rfl)
  · have hf := jI_f hf hc
    refine lv_iload_n (pc := 29) hx hb dX1_isRest_29 rfl (lv_at hl 1 rfl) ?_
    refine lv_if_ne (pc := 30) (tgt := 37) hx hb dX1_isRest_30 (by decide) (fun hc => ?_) (fun hc => ?_)
    · have hf := jI_f hf hc
      refine lv_iconst (pc := 37) (v := 0) hx hb dX1_isRest_37 rfl ?_
      exact wX1_isRest_38 cx e1 e2 _ _ _ _ _ _ _ _ _ _ _ _ hf hS hl
    · have hf := jI_t hf hc
      refine lv_iconst (pc := 33) (v := 1) hx hb dX1_isRest_33 rfl ?_
      refine lv_goto (pc := 34) (tgt := 38) hx hb dX1_isRest_34 (by decide) ?_
      exact wX1_isRest_38 cx e1 e2 _ _ _ _ _ _ _ _ _ _ _ _ hf hS hl
theorem wX1_isRest_0 {r : Int32} (cx : jCx p s m args meth c cX1_isRest "WornSkin" 5 (Option.some Jvm.ClassFile.FieldType.boolean) D dA H0 hs.2.2.2.2) (e1 : h'.2.2.1 = hs.2.2.1 + mc) (e2 : h'.2.2.2.1 = hs.2.2.2.1 + ms) : ∀ (x0 : Int32) (x1 : Int32) (x2 : Int32) (x3 : Int32) (x4 : Int32), ∀ (h : jH) (H : Heap) (locs : List Loc) (cells slots : Nat) (ls : Array Slot), (fX1_isRest x0 x1 x2 x3 x4).1 h = some (r, h') → jS D dA H0 hs h H locs cells slots → lv_has ls 5 [(0, .int x0), (1, .int x1), (2, .int x2), (3, .int x3), (4, .int x4)] → W p l e { frames := 1, cells := mc, slots := ms, locals := 24 } s m args below meth c H locs cells slots (jQ D dA H0 below s (.returned (some (.int r))) h' mc ms) (F0 m 0 ls []) := by
  have hx := cx.1
  have hb := cx.2.1
  have hown := cx.2.2.2.1
  have hts := cx.2.2.2.2.1
  have hm : h'.2.2.1 ≤ hs.2.2.1 + mc ∧ h'.2.2.2.1 ≤ hs.2.2.2.1 + ms := ⟨Nat.le_of_eq e1, Nat.le_of_eq e2⟩
  intro x0 x1 x2 x3 x4 h H locs cells slots ls hf hS hl
  unfold fX1_isRest at hf
  refine lv_iload_n (pc := 0) hx hb dX1_isRest_0 rfl (lv_at hl 0 rfl) ?_
  refine lv_if_ne (pc := 1) (tgt := 8) hx hb dX1_isRest_1 (by decide) (fun hc => ?_) (fun hc => ?_)
  · have hf := jI_f hf hc
    refine lv_iconst (pc := 8) (v := 0) hx hb dX1_isRest_8 rfl ?_
    exact wX1_isRest_9 cx e1 e2 _ _ _ _ _ _ _ _ _ _ _ _ hf hS hl
  · have hf := jI_t hf hc
    refine lv_iconst (pc := 4) (v := 1) hx hb dX1_isRest_4 rfl ?_
    refine lv_goto (pc := 5) (tgt := 9) hx hb dX1_isRest_5 (by decide) ?_
    exact wX1_isRest_9 cx e1 e2 _ _ _ _ _ _ _ _ _ _ _ _ hf hS hl
theorem metX1_isRest (l : Launch) (x0 : Int32) (x1 : Int32) (x2 : Int32) (x3 : Int32) (x4 : Int32) (h h' : jH) (r : Int32) (hf : (fX1_isRest x0 x1 x2 x3 x4).1 h = some (r, h')) : jMet l yX1_isRest (ws_ yX1_isRest cX1_isRest 5 (Option.some Jvm.ClassFile.FieldType.boolean)) (1) (24) [.int x0, .int x1, .int x2, .int x3, .int x4] h h' (.returned (some (.int r))) := by
  refine jStart rfl (jle hf) (Nat.le_of_ble_eq_true rfl) ?_
  intro p e s m below meth c D dA H0 mc ms ls cx hnm e1 e2 hS hl
  exact wX1_isRest_0 cx e1 e2 _ _ _ _ _ _ _ _ _ _ _ hf hS hl
def fX4_find_53 (N : Nat) (a0 : Nat) : jM Int32 := jR (-1)
def fX4_find_32 (N : Nat) (a0 : Nat) (x3 : Int32) : jM Int32 := jB (jgR [3] 1 (some a0)) fun y1 => jB (jrc 4 y1) fun b3 => jB (fJ2_get b3 x3) fun y2 => jB (jck [11] y2) fun _ => jB (jrc 11 y2) fun b5 => jB (fJ16_intValue b5) fun y4 => jR y4
def fX4_find_2 (N : Nat) (a0 : Nat) : Nat → Int64 → Int32 → jM Int32
  | 0, _, _ => jE
  | n + 1, x1, x3 => jB (jgR [3] 0 (some a0)) fun y1 => jB (jrc 4 y1) fun b3 => jB (fJ2_size b3) fun y2 => if y2 ≤ x3 then (fX4_find_53 N a0) else (jB (jgR [3] 0 (some a0)) fun y4 => jB (jrc 4 y4) fun b6 => jB (fJ2_get b6 x3) fun y5 => jB (jck [10] y5) fun _ => jB (jrc 10 y5) fun b8 => jB (fJ13_longValue b8) fun y7 => if (lg_cmp y7 x1) = 0 then (fX4_find_32 N a0 x3) else (fX4_find_2 N a0 n x1 (x3 + 1)))
def fX4_find (N : Nat) (a0 : Nat) (x1 : Int64) : jM Int32 := fX4_find_2 N a0 N x1 0
theorem wX4_find_53 {N : Nat} {r : Int32} (cx : jCx p s m args meth c cX4_find "WornSkin$Library" 4 (Option.some Jvm.ClassFile.FieldType.int) D dA H0 hs.2.2.2.2) (e1 : h'.2.2.1 = hs.2.2.1 + mc) (e2 : h'.2.2.2.1 = hs.2.2.2.1 + ms) (a0 : Nat) (hth : jTh hs a0 3) : ∀ (h : jH) (H : Heap) (locs : List Loc) (cells slots : Nat) (ls : Array Slot), (fX4_find_53 N a0).1 h = some (r, h') → jS D dA H0 hs h H locs cells slots → lv_has ls 4 [(0, .ref a0)] → W p l e { frames := 3, cells := mc, slots := ms, locals := 64 } s m args below meth c H locs cells slots (jQ D dA H0 below s (.returned (some (.int r))) h' mc ms) (F0 m 53 ls []) := by
  have hx := cx.1
  have hb := cx.2.1
  have hown := cx.2.2.2.1
  have hts := cx.2.2.2.2.1
  have hm : h'.2.2.1 ≤ hs.2.2.1 + mc ∧ h'.2.2.2.1 ≤ hs.2.2.2.1 + ms := ⟨Nat.le_of_eq e1, Nat.le_of_eq e2⟩
  intro h H locs cells slots ls hf hS hl
  unfold fX4_find_53 at hf
  refine lv_iconst (pc := 53) (v := (-1)) hx hb dX4_find_53 rfl ?_
  exact j_iret (pc := 54) cx hS hf e1 e2 dX4_find_54
theorem wX4_find_32 {N : Nat} {r : Int32} (cx : jCx p s m args meth c cX4_find "WornSkin$Library" 4 (Option.some Jvm.ClassFile.FieldType.int) D dA H0 hs.2.2.2.2) (e1 : h'.2.2.1 = hs.2.2.1 + mc) (e2 : h'.2.2.2.1 = hs.2.2.2.1 + ms) (a0 : Nat) (hth : jTh hs a0 3) : ∀ (x3 : Int32), ∀ (h : jH) (H : Heap) (locs : List Loc) (cells slots : Nat) (ls : Array Slot), (fX4_find_32 N a0 x3).1 h = some (r, h') → jS D dA H0 hs h H locs cells slots → lv_has ls 4 [(0, .ref a0), (3, .int x3)] → W p l e { frames := 3, cells := mc, slots := ms, locals := 64 } s m args below meth c H locs cells slots (jQ D dA H0 below s (.returned (some (.int r))) h' mc ms) (F0 m 32 ls []) := by
  have hx := cx.1
  have hb := cx.2.1
  have hown := cx.2.2.2.1
  have hts := cx.2.2.2.2.1
  have hm : h'.2.2.1 ≤ hs.2.2.1 + mc ∧ h'.2.2.2.1 ≤ hs.2.2.2.1 + ms := ⟨Nat.le_of_eq e1, Nat.le_of_eq e2⟩
  intro x3 h H locs cells slots ls hf hS hl
  unfold fX4_find_32 at hf
  refine lv_aload_n (pc := 32) hx hb dX4_find_32 rfl (lv_at hl 0 rfl) ?_
  refine j_gR (pc := 33) cx hS hf fd_WornSkin_Library_nameOf q330 dX4_find_33 (fun y1 hf => ?_)
  refine lv_iload_n (pc := 36) hx hb dX4_find_36 rfl (lv_at hl 1 rfl) ?_
  obtain ⟨b3, eb, hrc, hf⟩ := jrc_s hf
  refine j_nn (pc := 37) eb [.int x3] [] rfl ?_
  obtain ⟨y2, h1, e9, hf⟩ := jB_some hf
  refine j_callV (pc := 37) (st1 := [va_rf y2]) (As := [.int x3]) (rest := []) cx hS rfl hl.1 hm (metJ2_get l _ _ _ _ _ hrc e9) (jle hf) hrc rfl (lw_V q695 q384 q385 q118 q386) pdJ2_get rfl rfl (Nat.le_of_ble_eq_true rfl) ⟨Nat.le_of_ble_eq_true rfl, Nat.le_of_ble_eq_true rfl⟩ dX4_find_37 rfl (fun H locs cells slots hS => ?_)
  refine j_cast (pc := 40) cx hS hf ok_java_lang_Integer q701 dX4_find_40 (fun hf => ?_)
  obtain ⟨b5, eb, hrc, hf⟩ := jrc_s hf
  refine j_nn (pc := 43) eb [] [] rfl ?_
  obtain ⟨y4, h1, e9, hf⟩ := jB_some hf
  refine j_callV (pc := 43) (st1 := [.int y4]) (As := []) (rest := []) cx hS rfl hl.1 hm (metJ16_intValue l _ _ _ _ hrc e9) (jle hf) hrc rfl (lw_V q702 q703 q704 q138 q705) pdJ16_intValue rfl rfl (Nat.le_of_ble_eq_true rfl) ⟨Nat.le_of_ble_eq_true rfl, Nat.le_of_ble_eq_true rfl⟩ dX4_find_43 rfl (fun H locs cells slots hS => ?_)
  exact j_iret (pc := 46) cx hS hf e1 e2 dX4_find_46
theorem wX4_find_2 {N : Nat} {r : Int32} (cx : jCx p s m args meth c cX4_find "WornSkin$Library" 4 (Option.some Jvm.ClassFile.FieldType.int) D dA H0 hs.2.2.2.2) (e1 : h'.2.2.1 = hs.2.2.1 + mc) (e2 : h'.2.2.2.1 = hs.2.2.2.1 + ms) (a0 : Nat) (hth : jTh hs a0 3) : ∀ (n : Nat) (x1 : Int64) (x3 : Int32), ∀ (h : jH) (H : Heap) (locs : List Loc) (cells slots : Nat) (ls : Array Slot), (fX4_find_2 N a0 n x1 x3).1 h = some (r, h') → jS D dA H0 hs h H locs cells slots → lv_has ls 4 [(0, .ref a0), (1, .long x1), (3, .int x3)] → W p l e { frames := 3, cells := mc, slots := ms, locals := 64 } s m args below meth c H locs cells slots (jQ D dA H0 below s (.returned (some (.int r))) h' mc ms) (F0 m 2 ls []) := by
  have hx := cx.1
  have hb := cx.2.1
  have hown := cx.2.2.2.1
  have hts := cx.2.2.2.2.1
  have hm : h'.2.2.1 ≤ hs.2.2.1 + mc ∧ h'.2.2.2.1 ≤ hs.2.2.2.1 + ms := ⟨Nat.le_of_eq e1, Nat.le_of_eq e2⟩
  intro n
  induction n with
  | zero =>
    intro x1 x3 h H locs cells slots ls hf hS hl
    exact jE_f hf
  | succ n ih =>
    intro x1 x3 h H locs cells slots ls hf hS hl
    unfold fX4_find_2 at hf
    refine lv_iload_n (pc := 2) hx hb dX4_find_2 rfl (lv_at hl 2 rfl) ?_
    refine lv_aload_n (pc := 3) hx hb dX4_find_3 rfl (lv_at hl 0 rfl) ?_
    refine j_gR (pc := 4) cx hS hf fd_WornSkin_Library_names q328 dX4_find_4 (fun y1 hf => ?_)
    obtain ⟨b3, eb, hrc, hf⟩ := jrc_s hf
    refine j_nn (pc := 7) eb [] [.int x3] rfl ?_
    obtain ⟨y2, h1, e9, hf⟩ := jB_some hf
    refine j_callV (pc := 7) (st1 := [.int y2, .int x3]) (As := []) (rest := [.int x3]) cx hS rfl hl.1 hm (metJ2_size l _ _ _ _ hrc e9) (jle hf) hrc rfl (lw_V q694 q376 q377 q118 q378) pdJ2_size rfl rfl (Nat.le_of_ble_eq_true rfl) ⟨Nat.le_of_ble_eq_true rfl, Nat.le_of_ble_eq_true rfl⟩ dX4_find_7 rfl (fun H locs cells slots hS => ?_)
    refine lv_icmp_ge (pc := 10) (tgt := 53) hx hb dX4_find_10 (by decide) (fun hc => ?_) (fun hc => ?_)
    · have hf := jI_t hf hc
      exact wX4_find_53 cx e1 e2 a0 hth _ _ _ _ _ _ hf hS (lv_sub hl [0] rfl)
    · have hf := jI_f hf hc
      refine lv_aload_n (pc := 13) hx hb dX4_find_13 rfl (lv_at hl 0 rfl) ?_
      refine j_gR (pc := 14) cx hS hf fd_WornSkin_Library_names q328 dX4_find_14 (fun y4 hf => ?_)
      refine lv_iload_n (pc := 17) hx hb dX4_find_17 rfl (lv_at hl 2 rfl) ?_
      obtain ⟨b6, eb, hrc, hf⟩ := jrc_s hf
      refine j_nn (pc := 18) eb [.int x3] [] rfl ?_
      obtain ⟨y5, h1, e9, hf⟩ := jB_some hf
      refine j_callV (pc := 18) (st1 := [va_rf y5]) (As := [.int x3]) (rest := []) cx hS rfl hl.1 hm (metJ2_get l _ _ _ _ _ hrc e9) (jle hf) hrc rfl (lw_V q695 q384 q385 q118 q386) pdJ2_get rfl rfl (Nat.le_of_ble_eq_true rfl) ⟨Nat.le_of_ble_eq_true rfl, Nat.le_of_ble_eq_true rfl⟩ dX4_find_18 rfl (fun H locs cells slots hS => ?_)
      refine j_cast (pc := 21) cx hS hf ok_java_lang_Long q696 dX4_find_21 (fun hf => ?_)
      obtain ⟨b8, eb, hrc, hf⟩ := jrc_s hf
      refine j_nn (pc := 24) eb [] [] rfl ?_
      obtain ⟨y7, h1, e9, hf⟩ := jB_some hf
      refine j_callV (pc := 24) (st1 := [.long y7]) (As := []) (rest := []) cx hS rfl hl.1 hm (metJ13_longValue l _ _ _ _ hrc e9) (jle hf) hrc rfl (lw_V q697 q698 q699 q133 q700) pdJ13_longValue rfl rfl (Nat.le_of_ble_eq_true rfl) ⟨Nat.le_of_ble_eq_true rfl, Nat.le_of_ble_eq_true rfl⟩ dX4_find_24 rfl (fun H locs cells slots hS => ?_)
      refine lv_lload_n (pc := 27) hx hb dX4_find_27 rfl (lv_at hl 1 rfl) ?_
      refine W.lcmp (pc := 28) hx hb dX4_find_28 ?_
      refine lv_if_ne (pc := 29) (tgt := 47) hx hb dX4_find_29 (by decide) (fun hc => ?_) (fun hc => ?_)
      · have hf := jI_f hf hc
        refine lv_iinc (pc := 47) (v := (x3 + 1)) (lv' := [(3, .int (x3 + 1)), (0, .ref a0), (1, .long x1)]) hx hb dX4_find_47 hl (k := 2) rfl rfl (Nat.le_of_ble_eq_true rfl) rfl (fun ls hl => ?_)
        refine lv_goto (pc := 50) (tgt := 2) hx hb dX4_find_50 (by decide) ?_
        exact ih _ _ _ _ _ _ _ _ hf hS (lv_sub hl [1, 2, 0] rfl)
      · have hf := jI_t hf hc
        exact wX4_find_32 cx e1 e2 a0 hth _ _ _ _ _ _ _ hf hS (lv_sub hl [0, 2] rfl)
theorem wX4_find_0 {N : Nat} {r : Int32} (cx : jCx p s m args meth c cX4_find "WornSkin$Library" 4 (Option.some Jvm.ClassFile.FieldType.int) D dA H0 hs.2.2.2.2) (e1 : h'.2.2.1 = hs.2.2.1 + mc) (e2 : h'.2.2.2.1 = hs.2.2.2.1 + ms) (a0 : Nat) (hth : jTh hs a0 3) : ∀ (x1 : Int64), ∀ (h : jH) (H : Heap) (locs : List Loc) (cells slots : Nat) (ls : Array Slot), (fX4_find N a0 x1).1 h = some (r, h') → jS D dA H0 hs h H locs cells slots → lv_has ls 4 [(0, .ref a0), (1, .long x1)] → W p l e { frames := 3, cells := mc, slots := ms, locals := 64 } s m args below meth c H locs cells slots (jQ D dA H0 below s (.returned (some (.int r))) h' mc ms) (F0 m 0 ls []) := by
  have hx := cx.1
  have hb := cx.2.1
  have hown := cx.2.2.2.1
  have hts := cx.2.2.2.2.1
  have hm : h'.2.2.1 ≤ hs.2.2.1 + mc ∧ h'.2.2.2.1 ≤ hs.2.2.2.1 + ms := ⟨Nat.le_of_eq e1, Nat.le_of_eq e2⟩
  intro x1 h H locs cells slots ls hf hS hl
  unfold fX4_find at hf
  refine lv_iconst (pc := 0) (v := 0) hx hb dX4_find_0 rfl ?_
  refine lv_istore_n (pc := 1) (i := 3) (lv' := [(3, .int 0), (0, .ref a0), (1, .long x1)]) hx hb dX4_find_1 rfl hl (Nat.le_of_ble_eq_true rfl) rfl (fun ls hl => ?_)
  exact wX4_find_2 cx e1 e2 a0 hth N _ _ _ _ _ _ _ _ hf hS (lv_sub hl [1, 2, 0] rfl)
theorem metX4_find (l : Launch) (N : Nat) (a0 : Nat) (x1 : Int64) (h h' : jH) (r : Int32) (hth : jcd h a0 = some 3) (hf : (fX4_find N a0 x1).1 h = some (r, h')) : jMet l yX4_find (ws_ yX4_find cX4_find 4 (Option.some Jvm.ClassFile.FieldType.int)) (3) (64) [.ref a0, .long x1] h h' (.returned (some (.int r))) := by
  refine jStart rfl (jle hf) (Nat.le_of_ble_eq_true rfl) ?_
  intro p e s m below meth c D dA H0 mc ms ls cx hnm e1 e2 hS hl
  have hth := jTh.mk hS hth
  exact wX4_find_0 cx e1 e2 a0 hth _ _ _ _ _ _ _ hf hS hl
def fX4_wets (a0 : Nat) (x1 : Int32) : jM Unit := jB (jgR [3] 4 (some a0)) fun y1 => jB (jgI [3] 5 (some a0)) fun y2 => jB (jsI 0 y1 y2 x1) fun _ => jB (jgI [3] 5 (some a0)) fun y3 => jB (jpI [3] 5 (some a0) (y3 + 1)) fun _ => jR ()
theorem wX4_wets_0 {r : Unit} (cx : jCx p s m args meth c cX4_wets "WornSkin$Library" 2 (Option.none : Option Jvm.ClassFile.FieldType) D dA H0 hs.2.2.2.2) (e1 : h'.2.2.1 = hs.2.2.1 + mc) (e2 : h'.2.2.2.1 = hs.2.2.2.1 + ms) (a0 : Nat) (hth : jTh hs a0 3) : ∀ (x1 : Int32), ∀ (h : jH) (H : Heap) (locs : List Loc) (cells slots : Nat) (ls : Array Slot), (fX4_wets a0 x1).1 h = some (r, h') → jS D dA H0 hs h H locs cells slots → lv_has ls 2 [(0, .ref a0), (1, .int x1)] → W p l e { frames := 0, cells := mc, slots := ms, locals := 0 } s m args below meth c H locs cells slots (jQ D dA H0 below s (.returned none) h' mc ms) (F0 m 0 ls []) := by
  have hx := cx.1
  have hb := cx.2.1
  have hown := cx.2.2.2.1
  have hts := cx.2.2.2.2.1
  have hm : h'.2.2.1 ≤ hs.2.2.1 + mc ∧ h'.2.2.2.1 ≤ hs.2.2.2.1 + ms := ⟨Nat.le_of_eq e1, Nat.le_of_eq e2⟩
  intro x1 h H locs cells slots ls hf hS hl
  unfold fX4_wets at hf
  refine lv_aload_n (pc := 0) hx hb dX4_wets_0 rfl (lv_at hl 0 rfl) ?_
  refine j_gR (pc := 1) cx hS hf fd_WornSkin_Library_damp q340 dX4_wets_1 (fun y1 hf => ?_)
  refine lv_aload_n (pc := 4) hx hb dX4_wets_4 rfl (lv_at hl 0 rfl) ?_
  refine j_gI (pc := 5) cx hS hf fd_WornSkin_Library_damps q341 dX4_wets_5 (fun y2 hf => ?_)
  refine lv_iload_n (pc := 8) hx hb dX4_wets_8 rfl (lv_at hl 1 rfl) ?_
  refine j_sI (pc := 9) cx hS hf rfl dX4_wets_9 (fun h H locs hf hS => ?_)
  refine lv_aload_n (pc := 10) hx hb dX4_wets_10 rfl (lv_at hl 0 rfl) ?_
  refine lv_dup (pc := 11) hx hb dX4_wets_11 rfl ?_
  refine j_gI (pc := 12) cx hS hf fd_WornSkin_Library_damps q341 dX4_wets_12 (fun y3 hf => ?_)
  refine lv_iconst (pc := 15) (v := 1) hx hb dX4_wets_15 rfl ?_
  refine lv_iadd (pc := 16) hx hb dX4_wets_16 ?_
  refine j_pI (pc := 17) cx hS hf fp_WornSkin_Library_damps (Or.inl rfl) q341 dX4_wets_17 (fun h H locs hf hS => ?_)
  exact j_vret (pc := 20) cx hS hf e1 e2 dX4_wets_20
theorem metX4_wets (l : Launch) (a0 : Nat) (x1 : Int32) (h h' : jH) (r : Unit) (hth : jcd h a0 = some 3) (hf : (fX4_wets a0 x1).1 h = some (r, h')) : jMet l yX4_wets (ws_ yX4_wets cX4_wets 2 (Option.none : Option Jvm.ClassFile.FieldType)) (0) (0) [.ref a0, .int x1] h h' (.returned none) := by
  refine jStart rfl (jle hf) (Nat.le_of_ble_eq_true rfl) ?_
  intro p e s m below meth c D dA H0 mc ms ls cx hnm e1 e2 hS hl
  have hth := jTh.mk hS hth
  exact wX4_wets_0 cx e1 e2 a0 hth _ _ _ _ _ _ _ hf hS hl
def fX4_damp_22 (a0 : Nat) (v0 : Int32) : jM Int32 := jR v0
def fX4_damp (a0 : Nat) (x1 : Int32) : jM Int32 := jB (jgI [3] 5 (some a0)) fun y1 => if y1 = 0 then (fX4_damp_22 a0 0) else (jB (jgR [3] 4 (some a0)) fun y2 => jB (jgI [3] 5 (some a0)) fun y3 => jB (jnz y3) fun _ => jB (jaI 0 y2 (x1 - x1 / y3 * y3)) fun y4 => fX4_damp_22 a0 y4)
theorem wX4_damp_22 {r : Int32} (cx : jCx p s m args meth c cX4_damp "WornSkin$Library" 2 (Option.some Jvm.ClassFile.FieldType.int) D dA H0 hs.2.2.2.2) (e1 : h'.2.2.1 = hs.2.2.1 + mc) (e2 : h'.2.2.2.1 = hs.2.2.2.1 + ms) (a0 : Nat) (hth : jTh hs a0 3) : ∀ (v0 : Int32), ∀ (h : jH) (H : Heap) (locs : List Loc) (cells slots : Nat) (ls : Array Slot), (fX4_damp_22 a0 v0).1 h = some (r, h') → jS D dA H0 hs h H locs cells slots → lv_has ls 2 [(0, .ref a0)] → W p l e { frames := 0, cells := mc, slots := ms, locals := 0 } s m args below meth c H locs cells slots (jQ D dA H0 below s (.returned (some (.int r))) h' mc ms) (F0 m 22 ls [.int v0]) := by
  have hx := cx.1
  have hb := cx.2.1
  have hown := cx.2.2.2.1
  have hts := cx.2.2.2.2.1
  have hm : h'.2.2.1 ≤ hs.2.2.1 + mc ∧ h'.2.2.2.1 ≤ hs.2.2.2.1 + ms := ⟨Nat.le_of_eq e1, Nat.le_of_eq e2⟩
  intro v0 h H locs cells slots ls hf hS hl
  unfold fX4_damp_22 at hf
  exact j_iret (pc := 22) cx hS hf e1 e2 dX4_damp_22
theorem wX4_damp_0 {r : Int32} (cx : jCx p s m args meth c cX4_damp "WornSkin$Library" 2 (Option.some Jvm.ClassFile.FieldType.int) D dA H0 hs.2.2.2.2) (e1 : h'.2.2.1 = hs.2.2.1 + mc) (e2 : h'.2.2.2.1 = hs.2.2.2.1 + ms) (a0 : Nat) (hth : jTh hs a0 3) : ∀ (x1 : Int32), ∀ (h : jH) (H : Heap) (locs : List Loc) (cells slots : Nat) (ls : Array Slot), (fX4_damp a0 x1).1 h = some (r, h') → jS D dA H0 hs h H locs cells slots → lv_has ls 2 [(0, .ref a0), (1, .int x1)] → W p l e { frames := 0, cells := mc, slots := ms, locals := 0 } s m args below meth c H locs cells slots (jQ D dA H0 below s (.returned (some (.int r))) h' mc ms) (F0 m 0 ls []) := by
  have hx := cx.1
  have hb := cx.2.1
  have hown := cx.2.2.2.1
  have hts := cx.2.2.2.2.1
  have hm : h'.2.2.1 ≤ hs.2.2.1 + mc ∧ h'.2.2.2.1 ≤ hs.2.2.2.1 + ms := ⟨Nat.le_of_eq e1, Nat.le_of_eq e2⟩
  intro x1 h H locs cells slots ls hf hS hl
  unfold fX4_damp at hf
  refine lv_aload_n (pc := 0) hx hb dX4_damp_0 rfl (lv_at hl 0 rfl) ?_
  refine j_gI (pc := 1) cx hS hf fd_WornSkin_Library_damps q341 dX4_damp_1 (fun y1 hf => ?_)
  refine lv_if_ne (pc := 4) (tgt := 11) hx hb dX4_damp_4 (by decide) (fun hc => ?_) (fun hc => ?_)
  · have hf := jI_f hf hc
    refine lv_aload_n (pc := 11) hx hb dX4_damp_11 rfl (lv_at hl 0 rfl) ?_
    refine j_gR (pc := 12) cx hS hf fd_WornSkin_Library_damp q340 dX4_damp_12 (fun y2 hf => ?_)
    refine lv_iload_n (pc := 15) hx hb dX4_damp_15 rfl (lv_at hl 1 rfl) ?_
    refine lv_aload_n (pc := 16) hx hb dX4_damp_16 rfl (lv_at hl 0 rfl) ?_
    refine j_gI (pc := 17) cx hS hf fd_WornSkin_Library_damps q341 dX4_damp_17 (fun y3 hf => ?_)
    obtain ⟨hne, hf⟩ := jnz_s hf
    refine lv_irem (pc := 20) hx hb dX4_damp_20 hne ?_
    refine j_aI (pc := 21) cx hS hf rfl dX4_damp_21 (fun y4 hf => ?_)
    exact wX4_damp_22 cx e1 e2 a0 hth _ _ _ _ _ _ _ hf hS (lv_sub hl [0] rfl)
  · have hf := jI_t hf hc
    refine lv_iconst (pc := 7) (v := 0) hx hb dX4_damp_7 rfl ?_
    refine lv_goto (pc := 8) (tgt := 22) hx hb dX4_damp_8 (by decide) ?_
    exact wX4_damp_22 cx e1 e2 a0 hth _ _ _ _ _ _ _ hf hS (lv_sub hl [0] rfl)
theorem metX4_damp (l : Launch) (a0 : Nat) (x1 : Int32) (h h' : jH) (r : Int32) (hth : jcd h a0 = some 3) (hf : (fX4_damp a0 x1).1 h = some (r, h')) : jMet l yX4_damp (ws_ yX4_damp cX4_damp 2 (Option.some Jvm.ClassFile.FieldType.int)) (0) (0) [.ref a0, .int x1] h h' (.returned (some (.int r))) := by
  refine jStart rfl (jle hf) (Nat.le_of_ble_eq_true rfl) ?_
  intro p e s m below meth c D dA H0 mc ms ls cx hnm e1 e2 hS hl
  have hth := jTh.mk hS hth
  exact wX4_damp_0 cx e1 e2 a0 hth _ _ _ _ _ _ _ hf hS hl
def d_Text_wet (b : Nat) (x1 : Int32) : jM Int32 := jB (jcls (some b)) fun k => if k = 13 then fX10_wet b x1 else if k = 14 then fX11_wet b x1 else if k = 15 then fX10_wet b x1 else if k = 16 then fX10_wet b x1 else jE
theorem md_Text_wet (l : Launch) (b : Nat) (x1 : Int32) (h h' : jH) (r : Int32) (hf : (d_Text_wet b x1).1 h = some (r, h')) : jVm l { cls := "WornSkin$Text", name := "wet", desc := "(I)I" } (0) (0) 2 b [.int x1] h h' (.returned (some (.int r))) := by
  unfold d_Text_wet at hf
  obtain ⟨k, hk, hf⟩ := jBO_some hf
  by_cases hc13 : k = 13
  · have hf := jI_t hf hc13
    subst hc13
    exact ⟨_, _, _, _, _, metX10_wet l _ _ _ _ _ hf, hk, ⟨q1204, q1203, q141, q1211⟩, Nat.le_of_ble_eq_true rfl⟩
  have hf := jI_f hf hc13
  by_cases hc14 : k = 14
  · have hf := jI_t hf hc14
    subst hc14
    exact ⟨_, _, _, _, _, metX11_wet l _ _ _ _ _ hf, hk, ⟨q1207, q1208, q142, q1209⟩, Nat.le_of_ble_eq_true rfl⟩
  have hf := jI_f hf hc14
  by_cases hc15 : k = 15
  · have hf := jI_t hf hc15
    subst hc15
    exact ⟨_, _, _, _, _, metX10_wet l _ _ _ _ _ hf, hk, ⟨q1210, q1203, q141, q1211⟩, Nat.le_of_ble_eq_true rfl⟩
  have hf := jI_f hf hc15
  by_cases hc16 : k = 16
  · have hf := jI_t hf hc16
    subst hc16
    exact ⟨_, _, _, _, _, metX10_wet l _ _ _ _ _ hf, hk, ⟨q1206, q1203, q141, q1211⟩, Nat.le_of_ble_eq_true rfl⟩
  have hf := jI_f hf hc16
  exact jE_f hf
def d_Text_deep (b : Nat) (x1 : Int32) : jM Int32 := jB (jcls (some b)) fun k => if k = 13 then fX10_deep b x1 else if k = 14 then fX10_deep b x1 else if k = 15 then fX12_deep b x1 else if k = 16 then fX10_deep b x1 else jE
theorem md_Text_deep (l : Launch) (b : Nat) (x1 : Int32) (h h' : jH) (r : Int32) (hf : (d_Text_deep b x1).1 h = some (r, h')) : jVm l { cls := "WornSkin$Text", name := "deep", desc := "(I)I" } (0) (0) 2 b [.int x1] h h' (.returned (some (.int r))) := by
  unfold d_Text_deep at hf
  obtain ⟨k, hk, hf⟩ := jBO_some hf
  by_cases hc13 : k = 13
  · have hf := jI_t hf hc13
    subst hc13
    exact ⟨_, _, _, _, _, metX10_deep l _ _ _ _ _ hf, hk, ⟨q1214, q1213, q141, q1221⟩, Nat.le_of_ble_eq_true rfl⟩
  have hf := jI_f hf hc13
  by_cases hc14 : k = 14
  · have hf := jI_t hf hc14
    subst hc14
    exact ⟨_, _, _, _, _, metX10_deep l _ _ _ _ _ hf, hk, ⟨q1217, q1213, q141, q1221⟩, Nat.le_of_ble_eq_true rfl⟩
  have hf := jI_f hf hc14
  by_cases hc15 : k = 15
  · have hf := jI_t hf hc15
    subst hc15
    exact ⟨_, _, _, _, _, metX12_deep l _ _ _ _ _ hf, hk, ⟨q1218, q1219, q143, q1220⟩, Nat.le_of_ble_eq_true rfl⟩
  have hf := jI_f hf hc15
  by_cases hc16 : k = 16
  · have hf := jI_t hf hc16
    subst hc16
    exact ⟨_, _, _, _, _, metX10_deep l _ _ _ _ _ hf, hk, ⟨q1216, q1213, q141, q1221⟩, Nat.le_of_ble_eq_true rfl⟩
  have hf := jI_f hf hc16
  exact jE_f hf
def fX4_shows_116 (N : Nat) (a0 : Nat) (v0 : Int32) : jM Int32 := jRn .boolean v0
def fX4_shows_52 (N : Nat) (a0 : Nat) (v0 : Int32) : jM Int32 := jRn .boolean v0
def fX4_shows_26 (N : Nat) (a0 : Nat) (x4 : Int32) (x5 : Int32) (x6 : Int32) (v0 : Int32) : jM Int32 := jB (jgR [3] 6 (some a0)) fun y1 => if y1 = none then (if x5 ≤ ((x6 * 2) - v0) then (fX4_shows_52 N a0 0) else (fX4_shows_52 N a0 1)) else (jB (jgR [3] 7 (some a0)) fun y2 => jB (jgR [5] 0 y2) fun y3 => jB (jsI 0 y3 0 x5) fun _ => jB (jgR [3] 7 (some a0)) fun y4 => jB (jgR [5] 0 y4) fun y5 => jB (jsI 0 y5 1 x6) fun _ => jB (jgR [3] 7 (some a0)) fun y6 => jB (jgR [5] 0 y6) fun y7 => jB (jsI 0 y7 2 v0) fun _ => jB (jgR [3] 7 (some a0)) fun y8 => jB (jgR [5] 0 y8) fun y9 => jB (jsI 0 y9 3 x4) fun _ => jB (jgR [3] 6 (some a0)) fun y10 => jB (jgR [3] 7 (some a0)) fun y11 => jB (jnn0 y10) fun b13 => jB (eof N b13 y11) fun y12 => if y12 = 0 then (fX4_shows_116 N a0 0) else (fX4_shows_116 N a0 1))
def fX4_shows (N : Nat) (a0 : Nat) (x1 : Option Nat) (x2 : Int32) (x3 : Int32) (x4 : Int32) : jM Int32 := jB (jnn0 x1) fun b2 => jB (d_Text_wet b2 x3) fun y1 => jB (jnn0 x1) fun b4 => jB (d_Text_deep b4 x2) fun y3 => jB (jgI [13, 14, 15, 16] 0 x1) fun y5 => if y5 = 0 then (fX4_shows_26 N a0 x4 y1 y3 0) else (fX4_shows_26 N a0 x4 y1 y3 1)
theorem wX4_shows_116 {N : Nat} {r : Int32} (cx : jCx p s m args meth c cX4_shows "WornSkin$Library" 8 (Option.some Jvm.ClassFile.FieldType.boolean) D dA H0 hs.2.2.2.2) (e1 : h'.2.2.1 = hs.2.2.1 + mc) (e2 : h'.2.2.2.1 = hs.2.2.2.1 + ms) (a0 : Nat) (hth : jTh hs a0 3) : ∀ (v0 : Int32), ∀ (h : jH) (H : Heap) (locs : List Loc) (cells slots : Nat) (ls : Array Slot), (fX4_shows_116 N a0 v0).1 h = some (r, h') → jS D dA H0 hs h H locs cells slots → lv_has ls 8 [(0, .ref a0)] → W p l e { frames := 121, cells := mc, slots := ms, locals := 2583 } s m args below meth c H locs cells slots (jQ D dA H0 below s (.returned (some (.int r))) h' mc ms) (F0 m 116 ls [.int v0]) := by
  have hx := cx.1
  have hb := cx.2.1
  have hown := cx.2.2.2.1
  have hts := cx.2.2.2.2.1
  have hm : h'.2.2.1 ≤ hs.2.2.1 + mc ∧ h'.2.2.2.1 ≤ hs.2.2.2.1 + ms := ⟨Nat.le_of_eq e1, Nat.le_of_eq e2⟩
  intro v0 h H locs cells slots ls hf hS hl
  unfold fX4_shows_116 at hf
  exact j_zret (pc := 116) cx (Or.inl rfl) hS hf e1 e2 dX4_shows_116
theorem wX4_shows_52 {N : Nat} {r : Int32} (cx : jCx p s m args meth c cX4_shows "WornSkin$Library" 8 (Option.some Jvm.ClassFile.FieldType.boolean) D dA H0 hs.2.2.2.2) (e1 : h'.2.2.1 = hs.2.2.1 + mc) (e2 : h'.2.2.2.1 = hs.2.2.2.1 + ms) (a0 : Nat) (hth : jTh hs a0 3) : ∀ (v0 : Int32), ∀ (h : jH) (H : Heap) (locs : List Loc) (cells slots : Nat) (ls : Array Slot), (fX4_shows_52 N a0 v0).1 h = some (r, h') → jS D dA H0 hs h H locs cells slots → lv_has ls 8 [(0, .ref a0)] → W p l e { frames := 121, cells := mc, slots := ms, locals := 2583 } s m args below meth c H locs cells slots (jQ D dA H0 below s (.returned (some (.int r))) h' mc ms) (F0 m 52 ls [.int v0]) := by
  have hx := cx.1
  have hb := cx.2.1
  have hown := cx.2.2.2.1
  have hts := cx.2.2.2.2.1
  have hm : h'.2.2.1 ≤ hs.2.2.1 + mc ∧ h'.2.2.2.1 ≤ hs.2.2.2.1 + ms := ⟨Nat.le_of_eq e1, Nat.le_of_eq e2⟩
  intro v0 h H locs cells slots ls hf hS hl
  unfold fX4_shows_52 at hf
  exact j_zret (pc := 52) cx (Or.inl rfl) hS hf e1 e2 dX4_shows_52
theorem wX4_shows_26 {N : Nat} {r : Int32} (cx : jCx p s m args meth c cX4_shows "WornSkin$Library" 8 (Option.some Jvm.ClassFile.FieldType.boolean) D dA H0 hs.2.2.2.2) (e1 : h'.2.2.1 = hs.2.2.1 + mc) (e2 : h'.2.2.2.1 = hs.2.2.2.1 + ms) (a0 : Nat) (hth : jTh hs a0 3) : ∀ (x4 : Int32) (x5 : Int32) (x6 : Int32) (v0 : Int32), ∀ (h : jH) (H : Heap) (locs : List Loc) (cells slots : Nat) (ls : Array Slot), (fX4_shows_26 N a0 x4 x5 x6 v0).1 h = some (r, h') → jS D dA H0 hs h H locs cells slots → lv_has ls 8 [(0, .ref a0), (4, .int x4), (5, .int x5), (6, .int x6)] → W p l e { frames := 121, cells := mc, slots := ms, locals := 2583 } s m args below meth c H locs cells slots (jQ D dA H0 below s (.returned (some (.int r))) h' mc ms) (F0 m 26 ls [.int v0]) := by
  have hx := cx.1
  have hb := cx.2.1
  have hown := cx.2.2.2.1
  have hts := cx.2.2.2.2.1
  have hm : h'.2.2.1 ≤ hs.2.2.1 + mc ∧ h'.2.2.2.1 ≤ hs.2.2.2.1 + ms := ⟨Nat.le_of_eq e1, Nat.le_of_eq e2⟩
  intro x4 x5 x6 v0 h H locs cells slots ls hf hS hl
  unfold fX4_shows_26 at hf
  refine lv_istore (pc := 26) (i := 7) (lv' := [(7, .int v0), (0, .ref a0), (4, .int x4), (5, .int x5), (6, .int x6)]) hx hb dX4_shows_26 hl (Nat.le_of_ble_eq_true rfl) rfl (fun ls hl => ?_)
  refine lv_aload_n (pc := 28) hx hb dX4_shows_28 rfl (lv_at hl 1 rfl) ?_
  refine j_gR (pc := 29) cx hS hf fd_WornSkin_Library_shows q343 dX4_shows_29 (fun y1 hf => ?_)
  refine j_ifnonnull (pc := 32) (tgt := 53) (r := y1) hx hb dX4_shows_32 (by decide) (fun hc => ?_) (fun hc => ?_)
  · have hf := jI_f hf hc
    refine lv_aload_n (pc := 53) hx hb dX4_shows_53 rfl (lv_at hl 1 rfl) ?_
    refine j_gR (pc := 54) cx hS hf fd_WornSkin_Library_facts q345 dX4_shows_54 (fun y2 hf => ?_)
    refine j_gR (pc := 57) cx hS hf fd_WornSkin_Facts_of q324 dX4_shows_57 (fun y3 hf => ?_)
    refine lv_iconst (pc := 60) (v := 0) hx hb dX4_shows_60 rfl ?_
    refine lv_iload (pc := 61) hx hb dX4_shows_61 (lv_at hl 3 rfl) ?_
    refine j_sI (pc := 63) cx hS hf rfl dX4_shows_63 (fun h H locs hf hS => ?_)
    refine lv_aload_n (pc := 64) hx hb dX4_shows_64 rfl (lv_at hl 1 rfl) ?_
    refine j_gR (pc := 65) cx hS hf fd_WornSkin_Library_facts q345 dX4_shows_65 (fun y4 hf => ?_)
    refine j_gR (pc := 68) cx hS hf fd_WornSkin_Facts_of q324 dX4_shows_68 (fun y5 hf => ?_)
    refine lv_iconst (pc := 71) (v := 1) hx hb dX4_shows_71 rfl ?_
    refine lv_iload (pc := 72) hx hb dX4_shows_72 (lv_at hl 4 rfl) ?_
    refine j_sI (pc := 74) cx hS hf rfl dX4_shows_74 (fun h H locs hf hS => ?_)
    refine lv_aload_n (pc := 75) hx hb dX4_shows_75 rfl (lv_at hl 1 rfl) ?_
    refine j_gR (pc := 76) cx hS hf fd_WornSkin_Library_facts q345 dX4_shows_76 (fun y6 hf => ?_)
    refine j_gR (pc := 79) cx hS hf fd_WornSkin_Facts_of q324 dX4_shows_79 (fun y7 hf => ?_)
    refine lv_iconst (pc := 82) (v := 2) hx hb dX4_shows_82 rfl ?_
    refine lv_iload (pc := 83) hx hb dX4_shows_83 (lv_at hl 0 rfl) ?_
    refine j_sI (pc := 85) cx hS hf rfl dX4_shows_85 (fun h H locs hf hS => ?_)
    refine lv_aload_n (pc := 86) hx hb dX4_shows_86 rfl (lv_at hl 1 rfl) ?_
    refine j_gR (pc := 87) cx hS hf fd_WornSkin_Library_facts q345 dX4_shows_87 (fun y8 hf => ?_)
    refine j_gR (pc := 90) cx hS hf fd_WornSkin_Facts_of q324 dX4_shows_90 (fun y9 hf => ?_)
    refine lv_iconst (pc := 93) (v := 3) hx hb dX4_shows_93 rfl ?_
    refine lv_iload (pc := 94) hx hb dX4_shows_94 (lv_at hl 2 rfl) ?_
    refine j_sI (pc := 96) cx hS hf rfl dX4_shows_96 (fun h H locs hf hS => ?_)
    refine lv_aload_n (pc := 97) hx hb dX4_shows_97 rfl (lv_at hl 1 rfl) ?_
    refine j_gR (pc := 98) cx hS hf fd_WornSkin_Library_shows q343 dX4_shows_98 (fun y10 hf => ?_)
    refine lv_aload_n (pc := 101) hx hb dX4_shows_101 rfl (lv_at hl 1 rfl) ?_
    refine j_gR (pc := 102) cx hS hf fd_WornSkin_Library_facts q345 dX4_shows_102 (fun y11 hf => ?_)
    obtain ⟨b13, eb, hf⟩ := jnn0_s hf
    refine j_nn (pc := 105) eb [va_rf y11] [] rfl ?_
    obtain ⟨y12, h1, e9, hf⟩ := jB_some hf
    refine j_callU (pc := 105) (st1 := [.int y12]) (As := [va_rf y11]) (rest := []) (x := { cls := "WornSkin$Expression", name := "of", desc := "(LWornSkin$Facts;)I" }) cx hS rfl hl.1 hm (meof l _ _ _ _ _ _ e9) (jle hf) q1222 q1224 (Or.inl q1223) pd_WornSkin_Expression_of rfl rfl (Nat.le_of_ble_eq_true rfl) ⟨Nat.le_of_ble_eq_true rfl, Nat.le_of_ble_eq_true rfl⟩ dX4_shows_105 rfl (fun H locs cells slots hS => ?_)
    refine lv_if_eq (pc := 108) (tgt := 115) hx hb dX4_shows_108 (by decide) (fun hc => ?_) (fun hc => ?_)
    · have hf := jI_t hf hc
      refine lv_iconst (pc := 115) (v := 0) hx hb dX4_shows_115 rfl ?_
      exact wX4_shows_116 cx e1 e2 a0 hth _ _ _ _ _ _ _ hf hS (lv_sub hl [1] rfl)
    · have hf := jI_f hf hc
      refine lv_iconst (pc := 111) (v := 1) hx hb dX4_shows_111 rfl ?_
      refine lv_goto (pc := 112) (tgt := 116) hx hb dX4_shows_112 (by decide) ?_
      exact wX4_shows_116 cx e1 e2 a0 hth _ _ _ _ _ _ _ hf hS (lv_sub hl [1] rfl)
  · have hf := jI_t hf hc
    refine lv_iload (pc := 35) hx hb dX4_shows_35 (lv_at hl 4 rfl) ?_
    refine lv_iconst (pc := 37) (v := 2) hx hb dX4_shows_37 rfl ?_
    refine lv_imul (pc := 38) hx hb dX4_shows_38 ?_
    refine lv_iload (pc := 39) hx hb dX4_shows_39 (lv_at hl 0 rfl) ?_
    refine lv_isub (pc := 41) hx hb dX4_shows_41 ?_
    refine lv_iload (pc := 42) hx hb dX4_shows_42 (lv_at hl 3 rfl) ?_
    refine lv_icmp_ge (pc := 44) (tgt := 51) hx hb dX4_shows_44 (by decide) (fun hc => ?_) (fun hc => ?_)
    · have hf := jI_t hf hc
      refine lv_iconst (pc := 51) (v := 0) hx hb dX4_shows_51 rfl ?_
      exact wX4_shows_52 cx e1 e2 a0 hth _ _ _ _ _ _ _ hf hS (lv_sub hl [1] rfl)
    · have hf := jI_f hf hc
      refine lv_iconst (pc := 47) (v := 1) hx hb dX4_shows_47 rfl ?_
      refine lv_goto (pc := 48) (tgt := 52) hx hb dX4_shows_48 (by decide) ?_
      exact wX4_shows_52 cx e1 e2 a0 hth _ _ _ _ _ _ _ hf hS (lv_sub hl [1] rfl)
theorem wX4_shows_0 {N : Nat} {r : Int32} (cx : jCx p s m args meth c cX4_shows "WornSkin$Library" 8 (Option.some Jvm.ClassFile.FieldType.boolean) D dA H0 hs.2.2.2.2) (e1 : h'.2.2.1 = hs.2.2.1 + mc) (e2 : h'.2.2.2.1 = hs.2.2.2.1 + ms) (a0 : Nat) (hth : jTh hs a0 3) : ∀ (x1 : Option Nat) (x2 : Int32) (x3 : Int32) (x4 : Int32), ∀ (h : jH) (H : Heap) (locs : List Loc) (cells slots : Nat) (ls : Array Slot), (fX4_shows N a0 x1 x2 x3 x4).1 h = some (r, h') → jS D dA H0 hs h H locs cells slots → lv_has ls 8 [(0, .ref a0), (1, va_rf x1), (2, .int x2), (3, .int x3), (4, .int x4)] → W p l e { frames := 121, cells := mc, slots := ms, locals := 2583 } s m args below meth c H locs cells slots (jQ D dA H0 below s (.returned (some (.int r))) h' mc ms) (F0 m 0 ls []) := by
  have hx := cx.1
  have hb := cx.2.1
  have hown := cx.2.2.2.1
  have hts := cx.2.2.2.2.1
  have hm : h'.2.2.1 ≤ hs.2.2.1 + mc ∧ h'.2.2.2.1 ≤ hs.2.2.2.1 + ms := ⟨Nat.le_of_eq e1, Nat.le_of_eq e2⟩
  intro x1 x2 x3 x4 h H locs cells slots ls hf hS hl
  unfold fX4_shows at hf
  refine j_aload_n (pc := 0) (r := x1) hx hb dX4_shows_0 rfl (lv_at hl 1 rfl) ?_
  refine lv_iload_n (pc := 1) hx hb dX4_shows_1 rfl (lv_at hl 3 rfl) ?_
  obtain ⟨b2, eb, hf⟩ := jnn0_s hf
  refine j_nn (pc := 2) eb [.int x3] [] rfl ?_
  obtain ⟨y1, h1, e9, hf⟩ := jB_some hf
  refine j_callU (pc := 2) (st1 := [.int y1]) (As := [.int x3]) (rest := []) (x := { cls := "WornSkin$Text", name := "wet", desc := "(I)I" }) cx hS rfl hl.1 hm (md_Text_wet l _ _ _ _ _ e9) (jle hf) q1202 q1205 (Or.inr ⟨_, _, _, q1203, q1211⟩) pd_WornSkin_Text_wet rfl rfl (Nat.le_of_ble_eq_true rfl) ⟨Nat.le_of_ble_eq_true rfl, Nat.le_of_ble_eq_true rfl⟩ dX4_shows_2 rfl (fun H locs cells slots hS => ?_)
  refine lv_istore (pc := 5) (i := 5) (lv' := [(5, .int y1), (0, .ref a0), (1, va_rf x1), (2, .int x2), (3, .int x3), (4, .int x4)]) hx hb dX4_shows_5 hl (Nat.le_of_ble_eq_true rfl) rfl (fun ls hl => ?_)
  refine j_aload_n (pc := 7) (r := x1) hx hb dX4_shows_7 rfl (lv_at hl 2 rfl) ?_
  refine lv_iload_n (pc := 8) hx hb dX4_shows_8 rfl (lv_at hl 3 rfl) ?_
  obtain ⟨b4, eb, hf⟩ := jnn0_s hf
  refine j_nn (pc := 9) eb [.int x2] [] rfl ?_
  obtain ⟨y3, h1, e9, hf⟩ := jB_some hf
  refine j_callU (pc := 9) (st1 := [.int y3]) (As := [.int x2]) (rest := []) (x := { cls := "WornSkin$Text", name := "deep", desc := "(I)I" }) cx hS rfl hl.1 hm (md_Text_deep l _ _ _ _ _ e9) (jle hf) q1212 q1215 (Or.inr ⟨_, _, _, q1213, q1221⟩) pd_WornSkin_Text_deep rfl rfl (Nat.le_of_ble_eq_true rfl) ⟨Nat.le_of_ble_eq_true rfl, Nat.le_of_ble_eq_true rfl⟩ dX4_shows_9 rfl (fun H locs cells slots hS => ?_)
  refine lv_istore (pc := 12) (i := 6) (lv' := [(6, .int y3), (5, .int y1), (0, .ref a0), (1, va_rf x1), (2, .int x2), (3, .int x3), (4, .int x4)]) hx hb dX4_shows_12 hl (Nat.le_of_ble_eq_true rfl) rfl (fun ls hl => ?_)
  refine j_aload_n (pc := 14) (r := x1) hx hb dX4_shows_14 rfl (lv_at hl 3 rfl) ?_
  refine j_gI (pc := 15) cx hS hf fd_WornSkin_Text_gall q887 dX4_shows_15 (fun y5 hf => ?_)
  refine lv_if_eq (pc := 18) (tgt := 25) hx hb dX4_shows_18 (by decide) (fun hc => ?_) (fun hc => ?_)
  · have hf := jI_t hf hc
    refine lv_iconst (pc := 25) (v := 0) hx hb dX4_shows_25 rfl ?_
    exact wX4_shows_26 cx e1 e2 a0 hth _ _ _ _ _ _ _ _ _ _ hf hS (lv_sub hl [2, 6, 1, 0] rfl)
  · have hf := jI_f hf hc
    refine lv_iconst (pc := 21) (v := 1) hx hb dX4_shows_21 rfl ?_
    refine lv_goto (pc := 22) (tgt := 26) hx hb dX4_shows_22 (by decide) ?_
    exact wX4_shows_26 cx e1 e2 a0 hth _ _ _ _ _ _ _ _ _ _ hf hS (lv_sub hl [2, 6, 1, 0] rfl)
theorem metX4_shows (l : Launch) (N : Nat) (a0 : Nat) (x1 : Option Nat) (x2 : Int32) (x3 : Int32) (x4 : Int32) (h h' : jH) (r : Int32) (hth : jcd h a0 = some 3) (hf : (fX4_shows N a0 x1 x2 x3 x4).1 h = some (r, h')) : jMet l yX4_shows (ws_ yX4_shows cX4_shows 8 (Option.some Jvm.ClassFile.FieldType.boolean)) (121) (2583) [.ref a0, va_rf x1, .int x2, .int x3, .int x4] h h' (.returned (some (.int r))) := by
  refine jStart rfl (jle hf) (by cases x1 <;> exact Nat.le_of_ble_eq_true rfl) ?_
  intro p e s m below meth c D dA H0 mc ms ls cx hnm e1 e2 hS hl
  have hl : lv_has ls 8 [(0, .ref a0), (1, va_rf x1), (2, .int x2), (3, .int x3), (4, .int x4)] := by cases x1 <;> exact hl
  have hth := jTh.mk hS hth
  exact wX4_shows_0 cx e1 e2 a0 hth _ _ _ _ _ _ _ _ _ _ hf hS hl
def fX3_init (a0 : Nat) : jM Unit := jB (jnaI 0 3) fun q1 => jB (jpR [2] 3 (some a0) (some q1)) fun _ => jB (jnaI 0 18) fun q2 => jB (jpR [2] 4 (some a0) (some q2)) fun _ => jB (jnaI 0 18) fun q3 => jB (jpR [2] 5 (some a0) (some q3)) fun _ => jR ()
theorem wX3_init_0 {r : Unit} (cx : jCx p s m args meth c cX3_init "WornSkin$Shelf" 1 (Option.none : Option Jvm.ClassFile.FieldType) D dA H0 hs.2.2.2.2) (e1 : h'.2.2.1 = hs.2.2.1 + mc) (e2 : h'.2.2.2.1 = hs.2.2.2.1 + ms) (hin : meth.name = "<init>") (a0 : Nat) : ∀ (h : jH) (H : Heap) (locs : List Loc) (cells slots : Nat) (ls : Array Slot), (fX3_init a0).1 h = some (r, h') → jS D dA H0 hs h H locs cells slots → lv_has ls 1 [(0, .ref a0)] → W p l e { frames := 1, cells := mc, slots := ms, locals := 20 } s m args below meth c H locs cells slots (jQ D dA H0 below s (.returned none) h' mc ms) (F0 m 0 ls []) := by
  have hx := cx.1
  have hb := cx.2.1
  have hown := cx.2.2.2.1
  have hts := cx.2.2.2.2.1
  have hm : h'.2.2.1 ≤ hs.2.2.1 + mc ∧ h'.2.2.2.1 ≤ hs.2.2.2.1 + ms := ⟨Nat.le_of_eq e1, Nat.le_of_eq e2⟩
  intro h H locs cells slots ls hf hS hl
  unfold fX3_init at hf
  refine lv_aload_n (pc := 0) hx hb dX3_init_0 rfl (lv_at hl 0 rfl) ?_
  refine j_objInit (pc := 1) cx q254 q171 q172 hl.1 dX3_init_1 (Nat.le_of_ble_eq_true rfl) (Nat.le_of_ble_eq_true rfl) ?_
  refine lv_aload_n (pc := 4) hx hb dX3_init_4 rfl (lv_at hl 0 rfl) ?_
  refine lv_iconst (pc := 5) (v := 3) hx hb dX3_init_5 rfl ?_
  refine j_naG (pc := 6) cx hS hf (ty := .int) rfl rfl (fun _ => rfl) (by decide) q247 dX3_init_6 (fun _ hh => by cases hh) hm (fun q1 h H cells slots hf hS => ?_)
  refine j_pRa (pc := 8) cx hS hf fp_WornSkin_Shelf_thick (Or.inr ⟨rfl, hin, rfl⟩) q262 dX3_init_8 (fun h H locs hf hS => ?_)
  refine lv_aload_n (pc := 11) hx hb dX3_init_11 rfl (lv_at hl 0 rfl) ?_
  refine lv_bipush (pc := 12) (v := 18) hx hb dX3_init_12 rfl ?_
  refine j_naG (pc := 14) cx hS hf (ty := .int) rfl rfl (fun _ => rfl) (by decide) q247 dX3_init_14 (fun _ hh => by cases hh) hm (fun q2 h H cells slots hf hS => ?_)
  refine j_pRa (pc := 16) cx hS hf fp_WornSkin_Shelf_of (Or.inr ⟨rfl, hin, rfl⟩) q264 dX3_init_16 (fun h H locs hf hS => ?_)
  refine lv_aload_n (pc := 19) hx hb dX3_init_19 rfl (lv_at hl 0 rfl) ?_
  refine lv_bipush (pc := 20) (v := 18) hx hb dX3_init_20 rfl ?_
  refine j_naG (pc := 22) cx hS hf (ty := .int) rfl rfl (fun _ => rfl) (by decide) q247 dX3_init_22 (fun _ hh => by cases hh) hm (fun q3 h H cells slots hf hS => ?_)
  refine j_pRa (pc := 24) cx hS hf fp_WornSkin_Shelf_many (Or.inr ⟨rfl, hin, rfl⟩) q266 dX3_init_24 (fun h H locs hf hS => ?_)
  exact j_vret (pc := 27) cx hS hf e1 e2 dX3_init_27
theorem metX3_init (l : Launch) (a0 : Nat) (h h' : jH) (r : Unit) (hf : (fX3_init a0).1 h = some (r, h')) : jMet l yX3_init (ws_ yX3_init cX3_init 1 (Option.none : Option Jvm.ClassFile.FieldType)) (1) (20) [.ref a0] h h' (.returned none) := by
  refine jStart rfl (jle hf) (Nat.le_of_ble_eq_true rfl) ?_
  intro p e s m below meth c D dA H0 mc ms ls cx hnm e1 e2 hS hl
  exact wX3_init_0 cx e1 e2 hnm a0  _ _ _ _ _ _ hf hS hl
def fX3_clears (a0 : Nat) (x1 : Int32) : jM Unit := jB (jgR [2] 4 (some a0)) fun y1 => jB (jsI 0 y1 x1 0) fun _ => jB (jgR [2] 5 (some a0)) fun y2 => jB (jsI 0 y2 x1 0) fun _ => jB (jgI [2] 2 (some a0)) fun y3 => jB (jpI [2] 2 (some a0) (y3 &&& ((1 <<< (x1 &&& 31)) ^^^ (-1)))) fun _ => jR ()
theorem wX3_clears_0 {r : Unit} (cx : jCx p s m args meth c cX3_clears "WornSkin$Shelf" 2 (Option.none : Option Jvm.ClassFile.FieldType) D dA H0 hs.2.2.2.2) (e1 : h'.2.2.1 = hs.2.2.1 + mc) (e2 : h'.2.2.2.1 = hs.2.2.2.1 + ms) (a0 : Nat) (hth : jTh hs a0 2) : ∀ (x1 : Int32), ∀ (h : jH) (H : Heap) (locs : List Loc) (cells slots : Nat) (ls : Array Slot), (fX3_clears a0 x1).1 h = some (r, h') → jS D dA H0 hs h H locs cells slots → lv_has ls 2 [(0, .ref a0), (1, .int x1)] → W p l e { frames := 0, cells := mc, slots := ms, locals := 0 } s m args below meth c H locs cells slots (jQ D dA H0 below s (.returned none) h' mc ms) (F0 m 0 ls []) := by
  have hx := cx.1
  have hb := cx.2.1
  have hown := cx.2.2.2.1
  have hts := cx.2.2.2.2.1
  have hm : h'.2.2.1 ≤ hs.2.2.1 + mc ∧ h'.2.2.2.1 ≤ hs.2.2.2.1 + ms := ⟨Nat.le_of_eq e1, Nat.le_of_eq e2⟩
  intro x1 h H locs cells slots ls hf hS hl
  unfold fX3_clears at hf
  refine lv_aload_n (pc := 0) hx hb dX3_clears_0 rfl (lv_at hl 0 rfl) ?_
  refine j_gR (pc := 1) cx hS hf fd_WornSkin_Shelf_of q264 dX3_clears_1 (fun y1 hf => ?_)
  refine lv_iload_n (pc := 4) hx hb dX3_clears_4 rfl (lv_at hl 1 rfl) ?_
  refine lv_iconst (pc := 5) (v := 0) hx hb dX3_clears_5 rfl ?_
  refine j_sI (pc := 6) cx hS hf rfl dX3_clears_6 (fun h H locs hf hS => ?_)
  refine lv_aload_n (pc := 7) hx hb dX3_clears_7 rfl (lv_at hl 0 rfl) ?_
  refine j_gR (pc := 8) cx hS hf fd_WornSkin_Shelf_many q266 dX3_clears_8 (fun y2 hf => ?_)
  refine lv_iload_n (pc := 11) hx hb dX3_clears_11 rfl (lv_at hl 1 rfl) ?_
  refine lv_iconst (pc := 12) (v := 0) hx hb dX3_clears_12 rfl ?_
  refine j_sI (pc := 13) cx hS hf rfl dX3_clears_13 (fun h H locs hf hS => ?_)
  refine lv_aload_n (pc := 14) hx hb dX3_clears_14 rfl (lv_at hl 0 rfl) ?_
  refine lv_dup (pc := 15) hx hb dX3_clears_15 rfl ?_
  refine j_gI (pc := 16) cx hS hf fd_WornSkin_Shelf_open q260 dX3_clears_16 (fun y3 hf => ?_)
  refine lv_iconst (pc := 19) (v := 1) hx hb dX3_clears_19 rfl ?_
  refine lv_iload_n (pc := 20) hx hb dX3_clears_20 rfl (lv_at hl 1 rfl) ?_
  refine lv_ishl (pc := 21) hx hb dX3_clears_21 ?_
  refine lv_iconst (pc := 22) (v := (-1)) hx hb dX3_clears_22 rfl ?_
  refine lv_ixor (pc := 23) hx hb dX3_clears_23 ?_
  refine lv_iand (pc := 24) hx hb dX3_clears_24 ?_
  refine j_pI (pc := 25) cx hS hf fp_WornSkin_Shelf_open (Or.inl rfl) q260 dX3_clears_25 (fun h H locs hf hS => ?_)
  exact j_vret (pc := 28) cx hS hf e1 e2 dX3_clears_28
theorem metX3_clears (l : Launch) (a0 : Nat) (x1 : Int32) (h h' : jH) (r : Unit) (hth : jcd h a0 = some 2) (hf : (fX3_clears a0 x1).1 h = some (r, h')) : jMet l yX3_clears (ws_ yX3_clears cX3_clears 2 (Option.none : Option Jvm.ClassFile.FieldType)) (0) (0) [.ref a0, .int x1] h h' (.returned none) := by
  refine jStart rfl (jle hf) (Nat.le_of_ble_eq_true rfl) ?_
  intro p e s m below meth c D dA H0 mc ms ls cx hnm e1 e2 hS hl
  have hth := jTh.mk hS hth
  exact wX3_clears_0 cx e1 e2 a0 hth _ _ _ _ _ _ _ hf hS hl
def fX3_skins (a0 : Nat) : jM Int32 := jB (jgR [2] 0 (some a0)) fun y1 => jB (jgR [3] 2 y1) fun y2 => jB (jrc 4 y2) fun b4 => jB (fJ2_size b4) fun y3 => jR y3
theorem wX3_skins_0 {r : Int32} (cx : jCx p s m args meth c cX3_skins "WornSkin$Shelf" 1 (Option.some Jvm.ClassFile.FieldType.int) D dA H0 hs.2.2.2.2) (e1 : h'.2.2.1 = hs.2.2.1 + mc) (e2 : h'.2.2.2.1 = hs.2.2.2.1 + ms) (a0 : Nat) (hth : jTh hs a0 2) : ∀ (h : jH) (H : Heap) (locs : List Loc) (cells slots : Nat) (ls : Array Slot), (fX3_skins a0).1 h = some (r, h') → jS D dA H0 hs h H locs cells slots → lv_has ls 1 [(0, .ref a0)] → W p l e { frames := 1, cells := mc, slots := ms, locals := 20 } s m args below meth c H locs cells slots (jQ D dA H0 below s (.returned (some (.int r))) h' mc ms) (F0 m 0 ls []) := by
  have hx := cx.1
  have hb := cx.2.1
  have hown := cx.2.2.2.1
  have hts := cx.2.2.2.2.1
  have hm : h'.2.2.1 ≤ hs.2.2.1 + mc ∧ h'.2.2.2.1 ≤ hs.2.2.2.1 + ms := ⟨Nat.le_of_eq e1, Nat.le_of_eq e2⟩
  intro h H locs cells slots ls hf hS hl
  unfold fX3_skins at hf
  refine lv_aload_n (pc := 0) hx hb dX3_skins_0 rfl (lv_at hl 0 rfl) ?_
  refine j_gR (pc := 1) cx hS hf fd_WornSkin_Shelf_library q255 dX3_skins_1 (fun y1 hf => ?_)
  refine j_gR (pc := 4) cx hS hf fd_WornSkin_Library_skins q333 dX3_skins_4 (fun y2 hf => ?_)
  obtain ⟨b4, eb, hrc, hf⟩ := jrc_s hf
  refine j_nn (pc := 7) eb [] [] rfl ?_
  obtain ⟨y3, h1, e9, hf⟩ := jB_some hf
  refine j_callV (pc := 7) (st1 := [.int y3]) (As := []) (rest := []) cx hS rfl hl.1 hm (metJ2_size l _ _ _ _ hrc e9) (jle hf) hrc rfl (lw_V q375 q376 q377 q118 q378) pdJ2_size rfl rfl (Nat.le_of_ble_eq_true rfl) ⟨Nat.le_of_ble_eq_true rfl, Nat.le_of_ble_eq_true rfl⟩ dX3_skins_7 rfl (fun H locs cells slots hS => ?_)
  exact j_iret (pc := 10) cx hS hf e1 e2 dX3_skins_10
theorem metX3_skins (l : Launch) (a0 : Nat) (h h' : jH) (r : Int32) (hth : jcd h a0 = some 2) (hf : (fX3_skins a0).1 h = some (r, h')) : jMet l yX3_skins (ws_ yX3_skins cX3_skins 1 (Option.some Jvm.ClassFile.FieldType.int)) (1) (20) [.ref a0] h h' (.returned (some (.int r))) := by
  refine jStart rfl (jle hf) (Nat.le_of_ble_eq_true rfl) ?_
  intro p e s m below meth c D dA H0 mc ms ls cx hnm e1 e2 hS hl
  have hth := jTh.mk hS hth
  exact wX3_skins_0 cx e1 e2 a0 hth  _ _ _ _ _ _ hf hS hl
def fX3_skin (a0 : Nat) (x1 : Int32) : jM (Option Nat) := jB (jgR [2] 0 (some a0)) fun y1 => jB (jgR [3] 2 y1) fun y2 => jB (jrc 4 y2) fun b4 => jB (fJ2_get b4 x1) fun y3 => jB (jck [12] y3) fun _ => jR y3
theorem wX3_skin_0 {r : Option Nat} (cx : jCx p s m args meth c cX3_skin "WornSkin$Shelf" 2 (Option.some (Jvm.ClassFile.FieldType.object "WornSkin$Skin")) D dA H0 hs.2.2.2.2) (e1 : h'.2.2.1 = hs.2.2.1 + mc) (e2 : h'.2.2.2.1 = hs.2.2.2.1 + ms) (a0 : Nat) (hth : jTh hs a0 2) : ∀ (x1 : Int32), ∀ (h : jH) (H : Heap) (locs : List Loc) (cells slots : Nat) (ls : Array Slot), (fX3_skin a0 x1).1 h = some (r, h') → jS D dA H0 hs h H locs cells slots → lv_has ls 2 [(0, .ref a0), (1, .int x1)] → W p l e { frames := 3, cells := mc, slots := ms, locals := 64 } s m args below meth c H locs cells slots (jQ D dA H0 below s (.returned (some (va_rf r))) h' mc ms) (F0 m 0 ls []) := by
  have hx := cx.1
  have hb := cx.2.1
  have hown := cx.2.2.2.1
  have hts := cx.2.2.2.2.1
  have hm : h'.2.2.1 ≤ hs.2.2.1 + mc ∧ h'.2.2.2.1 ≤ hs.2.2.2.1 + ms := ⟨Nat.le_of_eq e1, Nat.le_of_eq e2⟩
  intro x1 h H locs cells slots ls hf hS hl
  unfold fX3_skin at hf
  refine lv_aload_n (pc := 0) hx hb dX3_skin_0 rfl (lv_at hl 0 rfl) ?_
  refine j_gR (pc := 1) cx hS hf fd_WornSkin_Shelf_library q255 dX3_skin_1 (fun y1 hf => ?_)
  refine j_gR (pc := 4) cx hS hf fd_WornSkin_Library_skins q333 dX3_skin_4 (fun y2 hf => ?_)
  refine lv_iload_n (pc := 7) hx hb dX3_skin_7 rfl (lv_at hl 1 rfl) ?_
  obtain ⟨b4, eb, hrc, hf⟩ := jrc_s hf
  refine j_nn (pc := 8) eb [.int x1] [] rfl ?_
  obtain ⟨y3, h1, e9, hf⟩ := jB_some hf
  refine j_callV (pc := 8) (st1 := [va_rf y3]) (As := [.int x1]) (rest := []) cx hS rfl hl.1 hm (metJ2_get l _ _ _ _ _ hrc e9) (jle hf) hrc rfl (lw_V q383 q384 q385 q118 q386) pdJ2_get rfl rfl (Nat.le_of_ble_eq_true rfl) ⟨Nat.le_of_ble_eq_true rfl, Nat.le_of_ble_eq_true rfl⟩ dX3_skin_8 rfl (fun H locs cells slots hS => ?_)
  refine j_cast (pc := 11) cx hS hf ok_WornSkin_Skin q397 dX3_skin_11 (fun hf => ?_)
  exact j_aret (pc := 14) cx hS hf (Or.inl ⟨_, rfl⟩) e1 e2 dX3_skin_14
theorem metX3_skin (l : Launch) (a0 : Nat) (x1 : Int32) (h h' : jH) (r : Option Nat) (hth : jcd h a0 = some 2) (hf : (fX3_skin a0 x1).1 h = some (r, h')) : jMet l yX3_skin (ws_ yX3_skin cX3_skin 2 (Option.some (Jvm.ClassFile.FieldType.object "WornSkin$Skin"))) (3) (64) [.ref a0, .int x1] h h' (.returned (some (va_rf r))) := by
  refine jStart rfl (jle hf) (Nat.le_of_ble_eq_true rfl) ?_
  intro p e s m below meth c D dA H0 mc ms ls cx hnm e1 e2 hS hl
  have hth := jTh.mk hS hth
  exact wX3_skin_0 cx e1 e2 a0 hth _ _ _ _ _ _ _ hf hS hl
def fX3_begins_64 (N : Nat) (a0 : Nat) : jM (Option Nat) := jR (some a0)
def fX3_begins_36 (N : Nat) (a0 : Nat) : Nat → Int32 → jM (Option Nat)
  | 0, _ => jE
  | n + 1, x2 => jB (fX3_skins a0) fun y1 => if y1 ≤ x2 then (fX3_begins_64 N a0) else (jB (jgR [2] 3 (some a0)) fun y2 => jB (fX3_skin a0 x2) fun y3 => jB (jgI [12] 1 y3) fun y4 => jB (jsI 0 y2 x2 y4) fun _ => fX3_begins_36 N a0 n (x2 + 1))
def fX3_begins_34 (N : Nat) (a0 : Nat) : jM (Option Nat) := fX3_begins_36 N a0 N 0
def fX3_begins_17 (N : Nat) (a0 : Nat) : Nat → Int32 → jM (Option Nat)
  | 0, _ => jE
  | n + 1, x2 => if 18 ≤ x2 then (fX3_begins_34 N a0) else (jB (fX3_clears a0 x2) fun _ => fX3_begins_17 N a0 n (x2 + 1))
def fX3_begins (N : Nat) (a0 : Nat) (x1 : Option Nat) : jM (Option Nat) := jB (jpR [2] 0 (some a0) x1) fun _ => jB (jpI [2] 1 (some a0) 0) fun _ => jB (jpI [2] 2 (some a0) 0) fun _ => fX3_begins_17 N a0 N 0
theorem wX3_begins_64 {N : Nat} {r : Option Nat} (cx : jCx p s m args meth c cX3_begins "WornSkin$Shelf" 3 (Option.some (Jvm.ClassFile.FieldType.object "WornSkin$Shelf")) D dA H0 hs.2.2.2.2) (e1 : h'.2.2.1 = hs.2.2.1 + mc) (e2 : h'.2.2.2.1 = hs.2.2.2.1 + ms) (a0 : Nat) (hth : jTh hs a0 2) : ∀ (h : jH) (H : Heap) (locs : List Loc) (cells slots : Nat) (ls : Array Slot), (fX3_begins_64 N a0).1 h = some (r, h') → jS D dA H0 hs h H locs cells slots → lv_has ls 3 [(0, .ref a0)] → W p l e { frames := 4, cells := mc, slots := ms, locals := 85 } s m args below meth c H locs cells slots (jQ D dA H0 below s (.returned (some (va_rf r))) h' mc ms) (F0 m 64 ls []) := by
  have hx := cx.1
  have hb := cx.2.1
  have hown := cx.2.2.2.1
  have hts := cx.2.2.2.2.1
  have hm : h'.2.2.1 ≤ hs.2.2.1 + mc ∧ h'.2.2.2.1 ≤ hs.2.2.2.1 + ms := ⟨Nat.le_of_eq e1, Nat.le_of_eq e2⟩
  intro h H locs cells slots ls hf hS hl
  unfold fX3_begins_64 at hf
  refine lv_aload_n (pc := 64) hx hb dX3_begins_64 rfl (lv_at hl 0 rfl) ?_
  exact j_aret (pc := 65) cx hS hf (Or.inl ⟨_, rfl⟩) e1 e2 dX3_begins_65
theorem wX3_begins_36 {N : Nat} {r : Option Nat} (cx : jCx p s m args meth c cX3_begins "WornSkin$Shelf" 3 (Option.some (Jvm.ClassFile.FieldType.object "WornSkin$Shelf")) D dA H0 hs.2.2.2.2) (e1 : h'.2.2.1 = hs.2.2.1 + mc) (e2 : h'.2.2.2.1 = hs.2.2.2.1 + ms) (a0 : Nat) (hth : jTh hs a0 2) : ∀ (n : Nat) (x2 : Int32), ∀ (h : jH) (H : Heap) (locs : List Loc) (cells slots : Nat) (ls : Array Slot), (fX3_begins_36 N a0 n x2).1 h = some (r, h') → jS D dA H0 hs h H locs cells slots → lv_has ls 3 [(0, .ref a0), (2, .int x2)] → W p l e { frames := 4, cells := mc, slots := ms, locals := 85 } s m args below meth c H locs cells slots (jQ D dA H0 below s (.returned (some (va_rf r))) h' mc ms) (F0 m 36 ls []) := by
  have hx := cx.1
  have hb := cx.2.1
  have hown := cx.2.2.2.1
  have hts := cx.2.2.2.2.1
  have hm : h'.2.2.1 ≤ hs.2.2.1 + mc ∧ h'.2.2.2.1 ≤ hs.2.2.2.1 + ms := ⟨Nat.le_of_eq e1, Nat.le_of_eq e2⟩
  intro n
  induction n with
  | zero =>
    intro x2 h H locs cells slots ls hf hS hl
    exact jE_f hf
  | succ n ih =>
    intro x2 h H locs cells slots ls hf hS hl
    unfold fX3_begins_36 at hf
    refine lv_iload_n (pc := 36) hx hb dX3_begins_36 rfl (lv_at hl 1 rfl) ?_
    refine lv_aload_n (pc := 37) hx hb dX3_begins_37 rfl (lv_at hl 0 rfl) ?_
    obtain ⟨y1, h1, e9, hf⟩ := jB_some hf
    refine j_callV (pc := 38) (st1 := [.int y1, .int x2]) (As := []) (rest := [.int x2]) cx hS rfl hl.1 hm (metX3_skins l _ _ _ _ (hth.at hS) e9) (jle hf) (hth.at hS) rfl (lw_V q371 q372 q373 q114 q374) pdX3_skins rfl rfl (Nat.le_of_ble_eq_true rfl) ⟨Nat.le_of_ble_eq_true rfl, Nat.le_of_ble_eq_true rfl⟩ dX3_begins_38 rfl (fun H locs cells slots hS => ?_)
    refine lv_icmp_ge (pc := 41) (tgt := 64) hx hb dX3_begins_41 (by decide) (fun hc => ?_) (fun hc => ?_)
    · have hf := jI_t hf hc
      exact wX3_begins_64 cx e1 e2 a0 hth _ _ _ _ _ _ hf hS (lv_sub hl [0] rfl)
    · have hf := jI_f hf hc
      refine lv_aload_n (pc := 44) hx hb dX3_begins_44 rfl (lv_at hl 0 rfl) ?_
      refine j_gR (pc := 45) cx hS hf fd_WornSkin_Shelf_thick q262 dX3_begins_45 (fun y2 hf => ?_)
      refine lv_iload_n (pc := 48) hx hb dX3_begins_48 rfl (lv_at hl 1 rfl) ?_
      refine lv_aload_n (pc := 49) hx hb dX3_begins_49 rfl (lv_at hl 0 rfl) ?_
      refine lv_iload_n (pc := 50) hx hb dX3_begins_50 rfl (lv_at hl 1 rfl) ?_
      obtain ⟨y3, h1, e9, hf⟩ := jB_some hf
      refine j_callV (pc := 51) (st1 := [va_rf y3, .int x2, va_rf y2]) (As := [.int x2]) (rest := [.int x2, va_rf y2]) cx hS rfl hl.1 hm (metX3_skin l _ _ _ _ _ (hth.at hS) e9) (jle hf) (hth.at hS) rfl (lw_V q379 q380 q381 q114 q382) pdX3_skin rfl rfl (by simp only [List.map_cons, List.map_nil, List.sum_cons, List.sum_nil, jrfc]; exact Nat.le_of_ble_eq_true rfl) ⟨Nat.le_of_ble_eq_true rfl, Nat.le_of_ble_eq_true rfl⟩ dX3_begins_51 rfl (fun H locs cells slots hS => ?_)
      refine j_gI (pc := 54) cx hS hf fd_WornSkin_Skin_thick q843 dX3_begins_54 (fun y4 hf => ?_)
      refine j_sI (pc := 57) cx hS hf rfl dX3_begins_57 (fun h H locs hf hS => ?_)
      refine lv_iinc (pc := 58) (v := (x2 + 1)) (lv' := [(2, .int (x2 + 1)), (0, .ref a0)]) hx hb dX3_begins_58 hl (k := 1) rfl rfl (Nat.le_of_ble_eq_true rfl) rfl (fun ls hl => ?_)
      refine lv_goto (pc := 61) (tgt := 36) hx hb dX3_begins_61 (by decide) ?_
      exact ih _ _ _ _ _ _ _ hf hS (lv_sub hl [1, 0] rfl)
theorem wX3_begins_34 {N : Nat} {r : Option Nat} (cx : jCx p s m args meth c cX3_begins "WornSkin$Shelf" 3 (Option.some (Jvm.ClassFile.FieldType.object "WornSkin$Shelf")) D dA H0 hs.2.2.2.2) (e1 : h'.2.2.1 = hs.2.2.1 + mc) (e2 : h'.2.2.2.1 = hs.2.2.2.1 + ms) (a0 : Nat) (hth : jTh hs a0 2) : ∀ (h : jH) (H : Heap) (locs : List Loc) (cells slots : Nat) (ls : Array Slot), (fX3_begins_34 N a0).1 h = some (r, h') → jS D dA H0 hs h H locs cells slots → lv_has ls 3 [(0, .ref a0)] → W p l e { frames := 4, cells := mc, slots := ms, locals := 85 } s m args below meth c H locs cells slots (jQ D dA H0 below s (.returned (some (va_rf r))) h' mc ms) (F0 m 34 ls []) := by
  have hx := cx.1
  have hb := cx.2.1
  have hown := cx.2.2.2.1
  have hts := cx.2.2.2.2.1
  have hm : h'.2.2.1 ≤ hs.2.2.1 + mc ∧ h'.2.2.2.1 ≤ hs.2.2.2.1 + ms := ⟨Nat.le_of_eq e1, Nat.le_of_eq e2⟩
  intro h H locs cells slots ls hf hS hl
  unfold fX3_begins_34 at hf
  refine lv_iconst (pc := 34) (v := 0) hx hb dX3_begins_34 rfl ?_
  refine lv_istore_n (pc := 35) (i := 2) (lv' := [(2, .int 0), (0, .ref a0)]) hx hb dX3_begins_35 rfl hl (Nat.le_of_ble_eq_true rfl) rfl (fun ls hl => ?_)
  exact wX3_begins_36 cx e1 e2 a0 hth N _ _ _ _ _ _ _ hf hS (lv_sub hl [1, 0] rfl)
theorem wX3_begins_17 {N : Nat} {r : Option Nat} (cx : jCx p s m args meth c cX3_begins "WornSkin$Shelf" 3 (Option.some (Jvm.ClassFile.FieldType.object "WornSkin$Shelf")) D dA H0 hs.2.2.2.2) (e1 : h'.2.2.1 = hs.2.2.1 + mc) (e2 : h'.2.2.2.1 = hs.2.2.2.1 + ms) (a0 : Nat) (hth : jTh hs a0 2) : ∀ (n : Nat) (x2 : Int32), ∀ (h : jH) (H : Heap) (locs : List Loc) (cells slots : Nat) (ls : Array Slot), (fX3_begins_17 N a0 n x2).1 h = some (r, h') → jS D dA H0 hs h H locs cells slots → lv_has ls 3 [(0, .ref a0), (2, .int x2)] → W p l e { frames := 4, cells := mc, slots := ms, locals := 85 } s m args below meth c H locs cells slots (jQ D dA H0 below s (.returned (some (va_rf r))) h' mc ms) (F0 m 17 ls []) := by
  have hx := cx.1
  have hb := cx.2.1
  have hown := cx.2.2.2.1
  have hts := cx.2.2.2.2.1
  have hm : h'.2.2.1 ≤ hs.2.2.1 + mc ∧ h'.2.2.2.1 ≤ hs.2.2.2.1 + ms := ⟨Nat.le_of_eq e1, Nat.le_of_eq e2⟩
  intro n
  induction n with
  | zero =>
    intro x2 h H locs cells slots ls hf hS hl
    exact jE_f hf
  | succ n ih =>
    intro x2 h H locs cells slots ls hf hS hl
    unfold fX3_begins_17 at hf
    refine lv_iload_n (pc := 17) hx hb dX3_begins_17 rfl (lv_at hl 1 rfl) ?_
    refine lv_bipush (pc := 18) (v := 18) hx hb dX3_begins_18 rfl ?_
    refine lv_icmp_ge (pc := 20) (tgt := 34) hx hb dX3_begins_20 (by decide) (fun hc => ?_) (fun hc => ?_)
    · have hf := jI_t hf hc
      exact wX3_begins_34 cx e1 e2 a0 hth _ _ _ _ _ _ hf hS (lv_sub hl [0] rfl)
    · have hf := jI_f hf hc
      refine lv_aload_n (pc := 23) hx hb dX3_begins_23 rfl (lv_at hl 0 rfl) ?_
      refine lv_iload_n (pc := 24) hx hb dX3_begins_24 rfl (lv_at hl 1 rfl) ?_
      obtain ⟨_, h1, e9, hf⟩ := jB_some hf
      refine j_callV (pc := 25) (st1 := []) (As := [.int x2]) (rest := []) cx hS rfl hl.1 hm (metX3_clears l _ _ _ _ _ (hth.at hS) e9) (jle hf) (hth.at hS) rfl (lw_V q367 q369 qs0 q114 q370) pdX3_clears rfl rfl (Nat.le_of_ble_eq_true rfl) ⟨Nat.le_of_ble_eq_true rfl, Nat.le_of_ble_eq_true rfl⟩ dX3_begins_25 rfl (fun H locs cells slots hS => ?_)
      refine lv_iinc (pc := 28) (v := (x2 + 1)) (lv' := [(2, .int (x2 + 1)), (0, .ref a0)]) hx hb dX3_begins_28 hl (k := 1) rfl rfl (Nat.le_of_ble_eq_true rfl) rfl (fun ls hl => ?_)
      refine lv_goto (pc := 31) (tgt := 17) hx hb dX3_begins_31 (by decide) ?_
      exact ih _ _ _ _ _ _ _ hf hS (lv_sub hl [1, 0] rfl)
theorem wX3_begins_0 {N : Nat} {r : Option Nat} (cx : jCx p s m args meth c cX3_begins "WornSkin$Shelf" 3 (Option.some (Jvm.ClassFile.FieldType.object "WornSkin$Shelf")) D dA H0 hs.2.2.2.2) (e1 : h'.2.2.1 = hs.2.2.1 + mc) (e2 : h'.2.2.2.1 = hs.2.2.2.1 + ms) (a0 : Nat) (hth : jTh hs a0 2) : ∀ (x1 : Option Nat), ∀ (h : jH) (H : Heap) (locs : List Loc) (cells slots : Nat) (ls : Array Slot), (fX3_begins N a0 x1).1 h = some (r, h') → jS D dA H0 hs h H locs cells slots → lv_has ls 3 [(0, .ref a0), (1, va_rf x1)] → W p l e { frames := 4, cells := mc, slots := ms, locals := 85 } s m args below meth c H locs cells slots (jQ D dA H0 below s (.returned (some (va_rf r))) h' mc ms) (F0 m 0 ls []) := by
  have hx := cx.1
  have hb := cx.2.1
  have hown := cx.2.2.2.1
  have hts := cx.2.2.2.2.1
  have hm : h'.2.2.1 ≤ hs.2.2.1 + mc ∧ h'.2.2.2.1 ≤ hs.2.2.2.1 + ms := ⟨Nat.le_of_eq e1, Nat.le_of_eq e2⟩
  intro x1 h H locs cells slots ls hf hS hl
  unfold fX3_begins at hf
  refine lv_aload_n (pc := 0) hx hb dX3_begins_0 rfl (lv_at hl 0 rfl) ?_
  refine j_aload_n (pc := 1) (r := x1) hx hb dX3_begins_1 rfl (lv_at hl 1 rfl) ?_
  refine j_pR (pc := 2) cx hS hf fp_WornSkin_Shelf_library (Or.inl rfl) q255 dX3_begins_2 (fun h H locs hf hS => ?_)
  refine lv_aload_n (pc := 5) hx hb dX3_begins_5 rfl (lv_at hl 0 rfl) ?_
  refine lv_iconst (pc := 6) (v := 0) hx hb dX3_begins_6 rfl ?_
  refine j_pI (pc := 7) cx hS hf fp_WornSkin_Shelf_week (Or.inl rfl) q258 dX3_begins_7 (fun h H locs hf hS => ?_)
  refine lv_aload_n (pc := 10) hx hb dX3_begins_10 rfl (lv_at hl 0 rfl) ?_
  refine lv_iconst (pc := 11) (v := 0) hx hb dX3_begins_11 rfl ?_
  refine j_pI (pc := 12) cx hS hf fp_WornSkin_Shelf_open (Or.inl rfl) q260 dX3_begins_12 (fun h H locs hf hS => ?_)
  refine lv_iconst (pc := 15) (v := 0) hx hb dX3_begins_15 rfl ?_
  refine lv_istore_n (pc := 16) (i := 2) (lv' := [(2, .int 0), (0, .ref a0), (1, va_rf x1)]) hx hb dX3_begins_16 rfl hl (Nat.le_of_ble_eq_true rfl) (by cases x1 <;> rfl) (fun ls hl => ?_)
  exact wX3_begins_17 cx e1 e2 a0 hth N _ _ _ _ _ _ _ hf hS (lv_sub hl [1, 0] rfl)
theorem metX3_begins (l : Launch) (N : Nat) (a0 : Nat) (x1 : Option Nat) (h h' : jH) (r : Option Nat) (hth : jcd h a0 = some 2) (hf : (fX3_begins N a0 x1).1 h = some (r, h')) : jMet l yX3_begins (ws_ yX3_begins cX3_begins 3 (Option.some (Jvm.ClassFile.FieldType.object "WornSkin$Shelf"))) (4) (85) [.ref a0, va_rf x1] h h' (.returned (some (va_rf r))) := by
  refine jStart rfl (jle hf) (by cases x1 <;> exact Nat.le_of_ble_eq_true rfl) ?_
  intro p e s m below meth c D dA H0 mc ms ls cx hnm e1 e2 hS hl
  have hl : lv_has ls 3 [(0, .ref a0), (1, va_rf x1)] := by cases x1 <;> exact hl
  have hth := jTh.mk hS hth
  exact wX3_begins_0 cx e1 e2 a0 hth _ _ _ _ _ _ _ hf hS hl
def fX3_open (a0 : Nat) (x1 : Int32) : jM Int32 := jB (jgI [2] 2 (some a0)) fun y1 => jR ((y1 >>> ((6 * x1) &&& 31)) &&& 63)
theorem wX3_open_0 {r : Int32} (cx : jCx p s m args meth c cX3_open "WornSkin$Shelf" 2 (Option.some Jvm.ClassFile.FieldType.int) D dA H0 hs.2.2.2.2) (e1 : h'.2.2.1 = hs.2.2.1 + mc) (e2 : h'.2.2.2.1 = hs.2.2.2.1 + ms) (a0 : Nat) (hth : jTh hs a0 2) : ∀ (x1 : Int32), ∀ (h : jH) (H : Heap) (locs : List Loc) (cells slots : Nat) (ls : Array Slot), (fX3_open a0 x1).1 h = some (r, h') → jS D dA H0 hs h H locs cells slots → lv_has ls 2 [(0, .ref a0), (1, .int x1)] → W p l e { frames := 0, cells := mc, slots := ms, locals := 0 } s m args below meth c H locs cells slots (jQ D dA H0 below s (.returned (some (.int r))) h' mc ms) (F0 m 0 ls []) := by
  have hx := cx.1
  have hb := cx.2.1
  have hown := cx.2.2.2.1
  have hts := cx.2.2.2.2.1
  have hm : h'.2.2.1 ≤ hs.2.2.1 + mc ∧ h'.2.2.2.1 ≤ hs.2.2.2.1 + ms := ⟨Nat.le_of_eq e1, Nat.le_of_eq e2⟩
  intro x1 h H locs cells slots ls hf hS hl
  unfold fX3_open at hf
  refine lv_aload_n (pc := 0) hx hb dX3_open_0 rfl (lv_at hl 0 rfl) ?_
  refine j_gI (pc := 1) cx hS hf fd_WornSkin_Shelf_open q260 dX3_open_1 (fun y1 hf => ?_)
  refine lv_bipush (pc := 4) (v := 6) hx hb dX3_open_4 rfl ?_
  refine lv_iload_n (pc := 6) hx hb dX3_open_6 rfl (lv_at hl 1 rfl) ?_
  refine lv_imul (pc := 7) hx hb dX3_open_7 ?_
  refine lv_ishr (pc := 8) hx hb dX3_open_8 ?_
  refine lv_bipush (pc := 9) (v := 63) hx hb dX3_open_9 rfl ?_
  refine lv_iand (pc := 11) hx hb dX3_open_11 ?_
  exact j_iret (pc := 12) cx hS hf e1 e2 dX3_open_12
theorem metX3_open (l : Launch) (a0 : Nat) (x1 : Int32) (h h' : jH) (r : Int32) (hth : jcd h a0 = some 2) (hf : (fX3_open a0 x1).1 h = some (r, h')) : jMet l yX3_open (ws_ yX3_open cX3_open 2 (Option.some Jvm.ClassFile.FieldType.int)) (0) (0) [.ref a0, .int x1] h h' (.returned (some (.int r))) := by
  refine jStart rfl (jle hf) (Nat.le_of_ble_eq_true rfl) ?_
  intro p e s m below meth c D dA H0 mc ms ls cx hnm e1 e2 hS hl
  have hth := jTh.mk hS hth
  exact wX3_open_0 cx e1 e2 a0 hth _ _ _ _ _ _ _ hf hS hl
def fX3_damp (a0 : Nat) : jM Int32 := jB (jgR [2] 0 (some a0)) fun y1 => jB (jgI [2] 1 (some a0)) fun y2 => jB (jrc 3 y1) fun b4 => jB (fX4_damp b4 y2) fun y3 => jR y3
theorem wX3_damp_0 {r : Int32} (cx : jCx p s m args meth c cX3_damp "WornSkin$Shelf" 1 (Option.some Jvm.ClassFile.FieldType.int) D dA H0 hs.2.2.2.2) (e1 : h'.2.2.1 = hs.2.2.1 + mc) (e2 : h'.2.2.2.1 = hs.2.2.2.1 + ms) (a0 : Nat) (hth : jTh hs a0 2) : ∀ (h : jH) (H : Heap) (locs : List Loc) (cells slots : Nat) (ls : Array Slot), (fX3_damp a0).1 h = some (r, h') → jS D dA H0 hs h H locs cells slots → lv_has ls 1 [(0, .ref a0)] → W p l e { frames := 1, cells := mc, slots := ms, locals := 21 } s m args below meth c H locs cells slots (jQ D dA H0 below s (.returned (some (.int r))) h' mc ms) (F0 m 0 ls []) := by
  have hx := cx.1
  have hb := cx.2.1
  have hown := cx.2.2.2.1
  have hts := cx.2.2.2.2.1
  have hm : h'.2.2.1 ≤ hs.2.2.1 + mc ∧ h'.2.2.2.1 ≤ hs.2.2.2.1 + ms := ⟨Nat.le_of_eq e1, Nat.le_of_eq e2⟩
  intro h H locs cells slots ls hf hS hl
  unfold fX3_damp at hf
  refine lv_aload_n (pc := 0) hx hb dX3_damp_0 rfl (lv_at hl 0 rfl) ?_
  refine j_gR (pc := 1) cx hS hf fd_WornSkin_Shelf_library q255 dX3_damp_1 (fun y1 hf => ?_)
  refine lv_aload_n (pc := 4) hx hb dX3_damp_4 rfl (lv_at hl 0 rfl) ?_
  refine j_gI (pc := 5) cx hS hf fd_WornSkin_Shelf_week q258 dX3_damp_5 (fun y2 hf => ?_)
  obtain ⟨b4, eb, hrc, hf⟩ := jrc_s hf
  refine j_nn (pc := 8) eb [.int y2] [] rfl ?_
  obtain ⟨y3, h1, e9, hf⟩ := jB_some hf
  refine j_callV (pc := 8) (st1 := [.int y3]) (As := [.int y2]) (rest := []) cx hS rfl hl.1 hm (metX4_damp l _ _ _ _ _ hrc e9) (jle hf) hrc rfl (lw_V q1172 q1173 q1174 q115 q1175) pdX4_damp rfl rfl (Nat.le_of_ble_eq_true rfl) ⟨Nat.le_of_ble_eq_true rfl, Nat.le_of_ble_eq_true rfl⟩ dX3_damp_8 rfl (fun H locs cells slots hS => ?_)
  exact j_iret (pc := 11) cx hS hf e1 e2 dX3_damp_11
theorem metX3_damp (l : Launch) (a0 : Nat) (h h' : jH) (r : Int32) (hth : jcd h a0 = some 2) (hf : (fX3_damp a0).1 h = some (r, h')) : jMet l yX3_damp (ws_ yX3_damp cX3_damp 1 (Option.some Jvm.ClassFile.FieldType.int)) (1) (21) [.ref a0] h h' (.returned (some (.int r))) := by
  refine jStart rfl (jle hf) (Nat.le_of_ble_eq_true rfl) ?_
  intro p e s m below meth c D dA H0 mc ms ls cx hnm e1 e2 hS hl
  have hth := jTh.mk hS hth
  exact wX3_damp_0 cx e1 e2 a0 hth  _ _ _ _ _ _ hf hS hl
def fX3_isOpen (a0 : Nat) (x1 : Int32) : jM Int32 := jB (jgI [2] 2 (some a0)) fun y1 => jB (fX1_has y1 x1) fun y2 => jRn .boolean y2
theorem wX3_isOpen_0 {r : Int32} (cx : jCx p s m args meth c cX3_isOpen "WornSkin$Shelf" 2 (Option.some Jvm.ClassFile.FieldType.boolean) D dA H0 hs.2.2.2.2) (e1 : h'.2.2.1 = hs.2.2.1 + mc) (e2 : h'.2.2.2.1 = hs.2.2.2.1 + ms) (a0 : Nat) (hth : jTh hs a0 2) : ∀ (x1 : Int32), ∀ (h : jH) (H : Heap) (locs : List Loc) (cells slots : Nat) (ls : Array Slot), (fX3_isOpen a0 x1).1 h = some (r, h') → jS D dA H0 hs h H locs cells slots → lv_has ls 2 [(0, .ref a0), (1, .int x1)] → W p l e { frames := 1, cells := mc, slots := ms, locals := 21 } s m args below meth c H locs cells slots (jQ D dA H0 below s (.returned (some (.int r))) h' mc ms) (F0 m 0 ls []) := by
  have hx := cx.1
  have hb := cx.2.1
  have hown := cx.2.2.2.1
  have hts := cx.2.2.2.2.1
  have hm : h'.2.2.1 ≤ hs.2.2.1 + mc ∧ h'.2.2.2.1 ≤ hs.2.2.2.1 + ms := ⟨Nat.le_of_eq e1, Nat.le_of_eq e2⟩
  intro x1 h H locs cells slots ls hf hS hl
  unfold fX3_isOpen at hf
  refine lv_aload_n (pc := 0) hx hb dX3_isOpen_0 rfl (lv_at hl 0 rfl) ?_
  refine j_gI (pc := 1) cx hS hf fd_WornSkin_Shelf_open q260 dX3_isOpen_1 (fun y1 hf => ?_)
  refine lv_iload_n (pc := 4) hx hb dX3_isOpen_4 rfl (lv_at hl 1 rfl) ?_
  obtain ⟨y2, h1, e9, hf⟩ := jB_some hf
  refine j_callSN (pc := 5) (st1 := [.int y2]) (As := [.int y1, .int x1]) (rest := []) cx hS rfl hl.1 hm (metX1_has l _ _ _ _ _ e9) (jle hf) q865 q864 q1184 q112 pdX1_has rfl rfl (Nat.le_of_ble_eq_true rfl) ⟨Nat.le_of_ble_eq_true rfl, Nat.le_of_ble_eq_true rfl⟩ dX3_isOpen_5 rfl (fun H locs cells slots hS => ?_)
  exact j_zret (pc := 8) cx (Or.inl rfl) hS hf e1 e2 dX3_isOpen_8
theorem metX3_isOpen (l : Launch) (a0 : Nat) (x1 : Int32) (h h' : jH) (r : Int32) (hth : jcd h a0 = some 2) (hf : (fX3_isOpen a0 x1).1 h = some (r, h')) : jMet l yX3_isOpen (ws_ yX3_isOpen cX3_isOpen 2 (Option.some Jvm.ClassFile.FieldType.boolean)) (1) (21) [.ref a0, .int x1] h h' (.returned (some (.int r))) := by
  refine jStart rfl (jle hf) (Nat.le_of_ble_eq_true rfl) ?_
  intro p e s m below meth c D dA H0 mc ms ls cx hnm e1 e2 hS hl
  have hth := jTh.mk hS hth
  exact wX3_isOpen_0 cx e1 e2 a0 hth _ _ _ _ _ _ _ hf hS hl
def fX3_layer (a0 : Nat) (x1 : Int32) (x2 : Int32) : jM Int32 := jB (jgR [2] 4 (some a0)) fun y1 => jB (jaI 0 y1 x1) fun y2 => jR ((y2 >>> ((3 * x2) &&& 31)) &&& 7)
theorem wX3_layer_0 {r : Int32} (cx : jCx p s m args meth c cX3_layer "WornSkin$Shelf" 3 (Option.some Jvm.ClassFile.FieldType.int) D dA H0 hs.2.2.2.2) (e1 : h'.2.2.1 = hs.2.2.1 + mc) (e2 : h'.2.2.2.1 = hs.2.2.2.1 + ms) (a0 : Nat) (hth : jTh hs a0 2) : ∀ (x1 : Int32) (x2 : Int32), ∀ (h : jH) (H : Heap) (locs : List Loc) (cells slots : Nat) (ls : Array Slot), (fX3_layer a0 x1 x2).1 h = some (r, h') → jS D dA H0 hs h H locs cells slots → lv_has ls 3 [(0, .ref a0), (1, .int x1), (2, .int x2)] → W p l e { frames := 0, cells := mc, slots := ms, locals := 0 } s m args below meth c H locs cells slots (jQ D dA H0 below s (.returned (some (.int r))) h' mc ms) (F0 m 0 ls []) := by
  have hx := cx.1
  have hb := cx.2.1
  have hown := cx.2.2.2.1
  have hts := cx.2.2.2.2.1
  have hm : h'.2.2.1 ≤ hs.2.2.1 + mc ∧ h'.2.2.2.1 ≤ hs.2.2.2.1 + ms := ⟨Nat.le_of_eq e1, Nat.le_of_eq e2⟩
  intro x1 x2 h H locs cells slots ls hf hS hl
  unfold fX3_layer at hf
  refine lv_aload_n (pc := 0) hx hb dX3_layer_0 rfl (lv_at hl 0 rfl) ?_
  refine j_gR (pc := 1) cx hS hf fd_WornSkin_Shelf_of q264 dX3_layer_1 (fun y1 hf => ?_)
  refine lv_iload_n (pc := 4) hx hb dX3_layer_4 rfl (lv_at hl 1 rfl) ?_
  refine j_aI (pc := 5) cx hS hf rfl dX3_layer_5 (fun y2 hf => ?_)
  refine lv_iconst (pc := 6) (v := 3) hx hb dX3_layer_6 rfl ?_
  refine lv_iload_n (pc := 7) hx hb dX3_layer_7 rfl (lv_at hl 2 rfl) ?_
  refine lv_imul (pc := 8) hx hb dX3_layer_8 ?_
  refine lv_ishr (pc := 9) hx hb dX3_layer_9 ?_
  refine lv_bipush (pc := 10) (v := 7) hx hb dX3_layer_10 rfl ?_
  refine lv_iand (pc := 12) hx hb dX3_layer_12 ?_
  exact j_iret (pc := 13) cx hS hf e1 e2 dX3_layer_13
theorem metX3_layer (l : Launch) (a0 : Nat) (x1 : Int32) (x2 : Int32) (h h' : jH) (r : Int32) (hth : jcd h a0 = some 2) (hf : (fX3_layer a0 x1 x2).1 h = some (r, h')) : jMet l yX3_layer (ws_ yX3_layer cX3_layer 3 (Option.some Jvm.ClassFile.FieldType.int)) (0) (0) [.ref a0, .int x1, .int x2] h h' (.returned (some (.int r))) := by
  refine jStart rfl (jle hf) (Nat.le_of_ble_eq_true rfl) ?_
  intro p e s m below meth c D dA H0 mc ms ls cx hnm e1 e2 hS hl
  have hth := jTh.mk hS hth
  exact wX3_layer_0 cx e1 e2 a0 hth _ _ _ _ _ _ _ _ hf hS hl
def fX3_top (a0 : Nat) (x1 : Int32) : jM Int32 := jB (jgR [2] 5 (some a0)) fun y1 => jB (jaI 0 y1 x1) fun y2 => jB (fX3_layer a0 x1 (y2 - 1)) fun y3 => jR y3
theorem wX3_top_0 {r : Int32} (cx : jCx p s m args meth c cX3_top "WornSkin$Shelf" 2 (Option.some Jvm.ClassFile.FieldType.int) D dA H0 hs.2.2.2.2) (e1 : h'.2.2.1 = hs.2.2.1 + mc) (e2 : h'.2.2.2.1 = hs.2.2.2.1 + ms) (a0 : Nat) (hth : jTh hs a0 2) : ∀ (x1 : Int32), ∀ (h : jH) (H : Heap) (locs : List Loc) (cells slots : Nat) (ls : Array Slot), (fX3_top a0 x1).1 h = some (r, h') → jS D dA H0 hs h H locs cells slots → lv_has ls 2 [(0, .ref a0), (1, .int x1)] → W p l e { frames := 1, cells := mc, slots := ms, locals := 22 } s m args below meth c H locs cells slots (jQ D dA H0 below s (.returned (some (.int r))) h' mc ms) (F0 m 0 ls []) := by
  have hx := cx.1
  have hb := cx.2.1
  have hown := cx.2.2.2.1
  have hts := cx.2.2.2.2.1
  have hm : h'.2.2.1 ≤ hs.2.2.1 + mc ∧ h'.2.2.2.1 ≤ hs.2.2.2.1 + ms := ⟨Nat.le_of_eq e1, Nat.le_of_eq e2⟩
  intro x1 h H locs cells slots ls hf hS hl
  unfold fX3_top at hf
  refine lv_aload_n (pc := 0) hx hb dX3_top_0 rfl (lv_at hl 0 rfl) ?_
  refine lv_iload_n (pc := 1) hx hb dX3_top_1 rfl (lv_at hl 1 rfl) ?_
  refine lv_aload_n (pc := 2) hx hb dX3_top_2 rfl (lv_at hl 0 rfl) ?_
  refine j_gR (pc := 3) cx hS hf fd_WornSkin_Shelf_many q266 dX3_top_3 (fun y1 hf => ?_)
  refine lv_iload_n (pc := 6) hx hb dX3_top_6 rfl (lv_at hl 1 rfl) ?_
  refine j_aI (pc := 7) cx hS hf rfl dX3_top_7 (fun y2 hf => ?_)
  refine lv_iconst (pc := 8) (v := 1) hx hb dX3_top_8 rfl ?_
  refine lv_isub (pc := 9) hx hb dX3_top_9 ?_
  obtain ⟨y3, h1, e9, hf⟩ := jB_some hf
  refine j_callV (pc := 10) (st1 := [.int y3]) (As := [.int x1, .int (y2 - 1)]) (rest := []) cx hS rfl hl.1 hm (metX3_layer l _ _ _ _ _ _ (hth.at hS) e9) (jle hf) (hth.at hS) rfl (lw_V q1189 q1190 q1191 q114 q1192) pdX3_layer rfl rfl (Nat.le_of_ble_eq_true rfl) ⟨Nat.le_of_ble_eq_true rfl, Nat.le_of_ble_eq_true rfl⟩ dX3_top_10 rfl (fun H locs cells slots hS => ?_)
  exact j_iret (pc := 13) cx hS hf e1 e2 dX3_top_13
theorem metX3_top (l : Launch) (a0 : Nat) (x1 : Int32) (h h' : jH) (r : Int32) (hth : jcd h a0 = some 2) (hf : (fX3_top a0 x1).1 h = some (r, h')) : jMet l yX3_top (ws_ yX3_top cX3_top 2 (Option.some Jvm.ClassFile.FieldType.int)) (1) (22) [.ref a0, .int x1] h h' (.returned (some (.int r))) := by
  refine jStart rfl (jle hf) (Nat.le_of_ble_eq_true rfl) ?_
  intro p e s m below meth c D dA H0 mc ms ls cx hnm e1 e2 hS hl
  have hth := jTh.mk hS hth
  exact wX3_top_0 cx e1 e2 a0 hth _ _ _ _ _ _ _ hf hS hl
def fX3_text (a0 : Nat) (x1 : Int32) : jM (Option Nat) := jB (jgR [2] 0 (some a0)) fun y1 => jB (jgR [3] 3 y1) fun y2 => jB (jrc 4 y2) fun b4 => jB (fJ2_get b4 x1) fun y3 => jB (jck [13, 14, 15, 16] y3) fun _ => jR y3
theorem wX3_text_0 {r : Option Nat} (cx : jCx p s m args meth c cX3_text "WornSkin$Shelf" 2 (Option.some (Jvm.ClassFile.FieldType.object "WornSkin$Text")) D dA H0 hs.2.2.2.2) (e1 : h'.2.2.1 = hs.2.2.1 + mc) (e2 : h'.2.2.2.1 = hs.2.2.2.1 + ms) (a0 : Nat) (hth : jTh hs a0 2) : ∀ (x1 : Int32), ∀ (h : jH) (H : Heap) (locs : List Loc) (cells slots : Nat) (ls : Array Slot), (fX3_text a0 x1).1 h = some (r, h') → jS D dA H0 hs h H locs cells slots → lv_has ls 2 [(0, .ref a0), (1, .int x1)] → W p l e { frames := 3, cells := mc, slots := ms, locals := 64 } s m args below meth c H locs cells slots (jQ D dA H0 below s (.returned (some (va_rf r))) h' mc ms) (F0 m 0 ls []) := by
  have hx := cx.1
  have hb := cx.2.1
  have hown := cx.2.2.2.1
  have hts := cx.2.2.2.2.1
  have hm : h'.2.2.1 ≤ hs.2.2.1 + mc ∧ h'.2.2.2.1 ≤ hs.2.2.2.1 + ms := ⟨Nat.le_of_eq e1, Nat.le_of_eq e2⟩
  intro x1 h H locs cells slots ls hf hS hl
  unfold fX3_text at hf
  refine lv_aload_n (pc := 0) hx hb dX3_text_0 rfl (lv_at hl 0 rfl) ?_
  refine j_gR (pc := 1) cx hS hf fd_WornSkin_Shelf_library q255 dX3_text_1 (fun y1 hf => ?_)
  refine j_gR (pc := 4) cx hS hf fd_WornSkin_Library_texts q337 dX3_text_4 (fun y2 hf => ?_)
  refine lv_iload_n (pc := 7) hx hb dX3_text_7 rfl (lv_at hl 1 rfl) ?_
  obtain ⟨b4, eb, hrc, hf⟩ := jrc_s hf
  refine j_nn (pc := 8) eb [.int x1] [] rfl ?_
  obtain ⟨y3, h1, e9, hf⟩ := jB_some hf
  refine j_callV (pc := 8) (st1 := [va_rf y3]) (As := [.int x1]) (rest := []) cx hS rfl hl.1 hm (metJ2_get l _ _ _ _ _ hrc e9) (jle hf) hrc rfl (lw_V q383 q384 q385 q118 q386) pdJ2_get rfl rfl (Nat.le_of_ble_eq_true rfl) ⟨Nat.le_of_ble_eq_true rfl, Nat.le_of_ble_eq_true rfl⟩ dX3_text_8 rfl (fun H locs cells slots hS => ?_)
  refine j_cast (pc := 11) cx hS hf ok_WornSkin_Text q1197 dX3_text_11 (fun hf => ?_)
  exact j_aret (pc := 14) cx hS hf (Or.inl ⟨_, rfl⟩) e1 e2 dX3_text_14
theorem metX3_text (l : Launch) (a0 : Nat) (x1 : Int32) (h h' : jH) (r : Option Nat) (hth : jcd h a0 = some 2) (hf : (fX3_text a0 x1).1 h = some (r, h')) : jMet l yX3_text (ws_ yX3_text cX3_text 2 (Option.some (Jvm.ClassFile.FieldType.object "WornSkin$Text"))) (3) (64) [.ref a0, .int x1] h h' (.returned (some (va_rf r))) := by
  refine jStart rfl (jle hf) (Nat.le_of_ble_eq_true rfl) ?_
  intro p e s m below meth c D dA H0 mc ms ls cx hnm e1 e2 hS hl
  have hth := jTh.mk hS hth
  exact wX3_text_0 cx e1 e2 a0 hth _ _ _ _ _ _ _ hf hS hl
def fX3_read_94 (N : Nat) (a0 : Nat) : jM Int32 := jR (-1)
def fX3_read_79 (N : Nat) (a0 : Nat) (x4 : Int32) (x5 : Int32) : jM Int32 := jB (fX3_layer a0 x4 x5) fun y1 => jR y1
def fX3_read_35 (N : Nat) (a0 : Nat) : Nat → Int32 → Int32 → Int32 → Int32 → jM Int32
  | 0, _, _, _, _ => jE
  | n + 1, x1, x3, x4, x5 => if x5 < 0 then (fX3_read_94 N a0) else (jB (jgR [2] 0 (some a0)) fun y1 => jB (fX3_layer a0 x4 x5) fun y2 => jB (fX3_text a0 y2) fun y3 => jB (jgR [2] 5 (some a0)) fun y4 => jB (jaI 0 y4 x4) fun y5 => jB (jgR [2] 3 (some a0)) fun y6 => jB (jaI 0 y6 x1) fun y7 => jB (jrc 3 y1) fun b9 => jB (fX4_shows N b9 y3 (y5 - x5) x3 y7) fun y8 => if y8 = 0 then (fX3_read_35 N a0 n x1 x3 x4 (x5 + (-1))) else (fX3_read_79 N a0 x4 x5))
def fX3_read (N : Nat) (a0 : Nat) (x1 : Int32) (x2 : Int32) (x3 : Int32) : jM Int32 := jB (fX3_isOpen a0 ((6 * x1) + x2)) fun y1 => if y1 = 0 then (jB (jgR [2] 5 (some a0)) fun y2 => jB (jaI 0 y2 ((6 * x1) + x2)) fun y3 => fX3_read_35 N a0 N x1 x3 ((6 * x1) + x2) (y3 - 1)) else (jB (fX3_top a0 ((6 * x1) + x2)) fun y4 => jR y4)
theorem wX3_read_94 {N : Nat} {r : Int32} (cx : jCx p s m args meth c cX3_read "WornSkin$Shelf" 6 (Option.some Jvm.ClassFile.FieldType.int) D dA H0 hs.2.2.2.2) (e1 : h'.2.2.1 = hs.2.2.1 + mc) (e2 : h'.2.2.2.1 = hs.2.2.2.1 + ms) (a0 : Nat) (hth : jTh hs a0 2) : ∀ (h : jH) (H : Heap) (locs : List Loc) (cells slots : Nat) (ls : Array Slot), (fX3_read_94 N a0).1 h = some (r, h') → jS D dA H0 hs h H locs cells slots → lv_has ls 6 [(0, .ref a0)] → W p l e { frames := 122, cells := mc, slots := ms, locals := 2610 } s m args below meth c H locs cells slots (jQ D dA H0 below s (.returned (some (.int r))) h' mc ms) (F0 m 94 ls []) := by
  have hx := cx.1
  have hb := cx.2.1
  have hown := cx.2.2.2.1
  have hts := cx.2.2.2.2.1
  have hm : h'.2.2.1 ≤ hs.2.2.1 + mc ∧ h'.2.2.2.1 ≤ hs.2.2.2.1 + ms := ⟨Nat.le_of_eq e1, Nat.le_of_eq e2⟩
  intro h H locs cells slots ls hf hS hl
  unfold fX3_read_94 at hf
  refine lv_iconst (pc := 94) (v := (-1)) hx hb dX3_read_94 rfl ?_
  exact j_iret (pc := 95) cx hS hf e1 e2 dX3_read_95
theorem wX3_read_79 {N : Nat} {r : Int32} (cx : jCx p s m args meth c cX3_read "WornSkin$Shelf" 6 (Option.some Jvm.ClassFile.FieldType.int) D dA H0 hs.2.2.2.2) (e1 : h'.2.2.1 = hs.2.2.1 + mc) (e2 : h'.2.2.2.1 = hs.2.2.2.1 + ms) (a0 : Nat) (hth : jTh hs a0 2) : ∀ (x4 : Int32) (x5 : Int32), ∀ (h : jH) (H : Heap) (locs : List Loc) (cells slots : Nat) (ls : Array Slot), (fX3_read_79 N a0 x4 x5).1 h = some (r, h') → jS D dA H0 hs h H locs cells slots → lv_has ls 6 [(0, .ref a0), (4, .int x4), (5, .int x5)] → W p l e { frames := 122, cells := mc, slots := ms, locals := 2610 } s m args below meth c H locs cells slots (jQ D dA H0 below s (.returned (some (.int r))) h' mc ms) (F0 m 79 ls []) := by
  have hx := cx.1
  have hb := cx.2.1
  have hown := cx.2.2.2.1
  have hts := cx.2.2.2.2.1
  have hm : h'.2.2.1 ≤ hs.2.2.1 + mc ∧ h'.2.2.2.1 ≤ hs.2.2.2.1 + ms := ⟨Nat.le_of_eq e1, Nat.le_of_eq e2⟩
  intro x4 x5 h H locs cells slots ls hf hS hl
  unfold fX3_read_79 at hf
  refine lv_aload_n (pc := 79) hx hb dX3_read_79 rfl (lv_at hl 0 rfl) ?_
  refine lv_iload (pc := 80) hx hb dX3_read_80 (lv_at hl 1 rfl) ?_
  refine lv_iload (pc := 82) hx hb dX3_read_82 (lv_at hl 2 rfl) ?_
  obtain ⟨y1, h1, e9, hf⟩ := jB_some hf
  refine j_callV (pc := 84) (st1 := [.int y1]) (As := [.int x4, .int x5]) (rest := []) cx hS rfl hl.1 hm (metX3_layer l _ _ _ _ _ _ (hth.at hS) e9) (jle hf) (hth.at hS) rfl (lw_V q1189 q1190 q1191 q114 q1192) pdX3_layer rfl rfl (Nat.le_of_ble_eq_true rfl) ⟨Nat.le_of_ble_eq_true rfl, Nat.le_of_ble_eq_true rfl⟩ dX3_read_84 rfl (fun H locs cells slots hS => ?_)
  exact j_iret (pc := 87) cx hS hf e1 e2 dX3_read_87
theorem wX3_read_35 {N : Nat} {r : Int32} (cx : jCx p s m args meth c cX3_read "WornSkin$Shelf" 6 (Option.some Jvm.ClassFile.FieldType.int) D dA H0 hs.2.2.2.2) (e1 : h'.2.2.1 = hs.2.2.1 + mc) (e2 : h'.2.2.2.1 = hs.2.2.2.1 + ms) (a0 : Nat) (hth : jTh hs a0 2) : ∀ (n : Nat) (x1 : Int32) (x3 : Int32) (x4 : Int32) (x5 : Int32), ∀ (h : jH) (H : Heap) (locs : List Loc) (cells slots : Nat) (ls : Array Slot), (fX3_read_35 N a0 n x1 x3 x4 x5).1 h = some (r, h') → jS D dA H0 hs h H locs cells slots → lv_has ls 6 [(0, .ref a0), (1, .int x1), (3, .int x3), (4, .int x4), (5, .int x5)] → W p l e { frames := 122, cells := mc, slots := ms, locals := 2610 } s m args below meth c H locs cells slots (jQ D dA H0 below s (.returned (some (.int r))) h' mc ms) (F0 m 35 ls []) := by
  have hx := cx.1
  have hb := cx.2.1
  have hown := cx.2.2.2.1
  have hts := cx.2.2.2.2.1
  have hm : h'.2.2.1 ≤ hs.2.2.1 + mc ∧ h'.2.2.2.1 ≤ hs.2.2.2.1 + ms := ⟨Nat.le_of_eq e1, Nat.le_of_eq e2⟩
  intro n
  induction n with
  | zero =>
    intro x1 x3 x4 x5 h H locs cells slots ls hf hS hl
    exact jE_f hf
  | succ n ih =>
    intro x1 x3 x4 x5 h H locs cells slots ls hf hS hl
    unfold fX3_read_35 at hf
    refine lv_iload (pc := 35) hx hb dX3_read_35 (lv_at hl 4 rfl) ?_
    refine lv_if_lt (pc := 37) (tgt := 94) hx hb dX3_read_37 (by decide) (fun hc => ?_) (fun hc => ?_)
    · have hf := jI_t hf hc
      exact wX3_read_94 cx e1 e2 a0 hth _ _ _ _ _ _ hf hS (lv_sub hl [0] rfl)
    · have hf := jI_f hf hc
      refine lv_aload_n (pc := 40) hx hb dX3_read_40 rfl (lv_at hl 0 rfl) ?_
      refine j_gR (pc := 41) cx hS hf fd_WornSkin_Shelf_library q255 dX3_read_41 (fun y1 hf => ?_)
      refine lv_aload_n (pc := 44) hx hb dX3_read_44 rfl (lv_at hl 0 rfl) ?_
      refine lv_aload_n (pc := 45) hx hb dX3_read_45 rfl (lv_at hl 0 rfl) ?_
      refine lv_iload (pc := 46) hx hb dX3_read_46 (lv_at hl 3 rfl) ?_
      refine lv_iload (pc := 48) hx hb dX3_read_48 (lv_at hl 4 rfl) ?_
      obtain ⟨y2, h1, e9, hf⟩ := jB_some hf
      refine j_callV (pc := 50) (st1 := [.int y2, .ref a0, va_rf y1]) (As := [.int x4, .int x5]) (rest := [.ref a0, va_rf y1]) cx hS rfl hl.1 hm (metX3_layer l _ _ _ _ _ _ (hth.at hS) e9) (jle hf) (hth.at hS) rfl (lw_V q1189 q1190 q1191 q114 q1192) pdX3_layer rfl rfl (by simp only [List.map_cons, List.map_nil, List.sum_cons, List.sum_nil, jrfc]; exact Nat.le_of_ble_eq_true rfl) ⟨Nat.le_of_ble_eq_true rfl, Nat.le_of_ble_eq_true rfl⟩ dX3_read_50 rfl (fun H locs cells slots hS => ?_)
      obtain ⟨y3, h1, e9, hf⟩ := jB_some hf
      refine j_callV (pc := 53) (st1 := [va_rf y3, va_rf y1]) (As := [.int y2]) (rest := [va_rf y1]) cx hS rfl hl.1 hm (metX3_text l _ _ _ _ _ (hth.at hS) e9) (jle hf) (hth.at hS) rfl (lw_V q1193 q1194 q1195 q114 q1196) pdX3_text rfl rfl (by simp only [List.map_cons, List.map_nil, List.sum_cons, List.sum_nil, jrfc]; exact Nat.le_of_ble_eq_true rfl) ⟨Nat.le_of_ble_eq_true rfl, Nat.le_of_ble_eq_true rfl⟩ dX3_read_53 rfl (fun H locs cells slots hS => ?_)
      refine lv_aload_n (pc := 56) hx hb dX3_read_56 rfl (lv_at hl 0 rfl) ?_
      refine j_gR (pc := 57) cx hS hf fd_WornSkin_Shelf_many q266 dX3_read_57 (fun y4 hf => ?_)
      refine lv_iload (pc := 60) hx hb dX3_read_60 (lv_at hl 3 rfl) ?_
      refine j_aI (pc := 62) cx hS hf rfl dX3_read_62 (fun y5 hf => ?_)
      refine lv_iload (pc := 63) hx hb dX3_read_63 (lv_at hl 4 rfl) ?_
      refine lv_isub (pc := 65) hx hb dX3_read_65 ?_
      refine lv_iload_n (pc := 66) hx hb dX3_read_66 rfl (lv_at hl 2 rfl) ?_
      refine lv_aload_n (pc := 67) hx hb dX3_read_67 rfl (lv_at hl 0 rfl) ?_
      refine j_gR (pc := 68) cx hS hf fd_WornSkin_Shelf_thick q262 dX3_read_68 (fun y6 hf => ?_)
      refine lv_iload_n (pc := 71) hx hb dX3_read_71 rfl (lv_at hl 1 rfl) ?_
      refine j_aI (pc := 72) cx hS hf rfl dX3_read_72 (fun y7 hf => ?_)
      obtain ⟨b9, eb, hrc, hf⟩ := jrc_s hf
      refine j_nn (pc := 73) eb [.int y7, .int x3, .int (y5 - x5), va_rf y3] [] rfl ?_
      obtain ⟨y8, h1, e9, hf⟩ := jB_some hf
      refine j_callV (pc := 73) (st1 := [.int y8]) (As := [va_rf y3, .int (y5 - x5), .int x3, .int y7]) (rest := []) cx hS rfl hl.1 hm (metX4_shows l _ _ _ _ _ _ _ _ _ hrc e9) (jle hf) hrc rfl (lw_V q1198 q1199 q1200 q115 q1201) pdX4_shows rfl rfl (Nat.le_of_ble_eq_true rfl) ⟨Nat.le_of_ble_eq_true rfl, Nat.le_of_ble_eq_true rfl⟩ dX3_read_73 rfl (fun H locs cells slots hS => ?_)
      refine lv_if_eq (pc := 76) (tgt := 88) hx hb dX3_read_76 (by decide) (fun hc => ?_) (fun hc => ?_)
      · have hf := jI_t hf hc
        refine lv_iinc (pc := 88) (v := (x5 + (-1))) (lv' := [(5, .int (x5 + (-1))), (0, .ref a0), (1, .int x1), (3, .int x3), (4, .int x4)]) hx hb dX3_read_88 hl (k := 4) rfl (jm1 _) (Nat.le_of_ble_eq_true rfl) rfl (fun ls hl => ?_)
        refine lv_goto (pc := 91) (tgt := 35) hx hb dX3_read_91 (by decide) ?_
        exact ih _ _ _ _ _ _ _ _ _ _ hf hS (lv_sub hl [1, 2, 3, 4, 0] rfl)
      · have hf := jI_f hf hc
        exact wX3_read_79 cx e1 e2 a0 hth _ _ _ _ _ _ _ _ hf hS (lv_sub hl [0, 3, 4] rfl)
theorem wX3_read_0 {N : Nat} {r : Int32} (cx : jCx p s m args meth c cX3_read "WornSkin$Shelf" 6 (Option.some Jvm.ClassFile.FieldType.int) D dA H0 hs.2.2.2.2) (e1 : h'.2.2.1 = hs.2.2.1 + mc) (e2 : h'.2.2.2.1 = hs.2.2.2.1 + ms) (a0 : Nat) (hth : jTh hs a0 2) : ∀ (x1 : Int32) (x2 : Int32) (x3 : Int32), ∀ (h : jH) (H : Heap) (locs : List Loc) (cells slots : Nat) (ls : Array Slot), (fX3_read N a0 x1 x2 x3).1 h = some (r, h') → jS D dA H0 hs h H locs cells slots → lv_has ls 6 [(0, .ref a0), (1, .int x1), (2, .int x2), (3, .int x3)] → W p l e { frames := 122, cells := mc, slots := ms, locals := 2610 } s m args below meth c H locs cells slots (jQ D dA H0 below s (.returned (some (.int r))) h' mc ms) (F0 m 0 ls []) := by
  have hx := cx.1
  have hb := cx.2.1
  have hown := cx.2.2.2.1
  have hts := cx.2.2.2.2.1
  have hm : h'.2.2.1 ≤ hs.2.2.1 + mc ∧ h'.2.2.2.1 ≤ hs.2.2.2.1 + ms := ⟨Nat.le_of_eq e1, Nat.le_of_eq e2⟩
  intro x1 x2 x3 h H locs cells slots ls hf hS hl
  unfold fX3_read at hf
  refine lv_bipush (pc := 0) (v := 6) hx hb dX3_read_0 rfl ?_
  refine lv_iload_n (pc := 2) hx hb dX3_read_2 rfl (lv_at hl 1 rfl) ?_
  refine lv_imul (pc := 3) hx hb dX3_read_3 ?_
  refine lv_iload_n (pc := 4) hx hb dX3_read_4 rfl (lv_at hl 2 rfl) ?_
  refine lv_iadd (pc := 5) hx hb dX3_read_5 ?_
  refine lv_istore (pc := 6) (i := 4) (lv' := [(4, .int ((6 * x1) + x2)), (0, .ref a0), (1, .int x1), (2, .int x2), (3, .int x3)]) hx hb dX3_read_6 hl (Nat.le_of_ble_eq_true rfl) rfl (fun ls hl => ?_)
  refine lv_aload_n (pc := 8) hx hb dX3_read_8 rfl (lv_at hl 1 rfl) ?_
  refine lv_iload (pc := 9) hx hb dX3_read_9 (lv_at hl 0 rfl) ?_
  obtain ⟨y1, h1, e9, hf⟩ := jB_some hf
  refine j_callV (pc := 11) (st1 := [.int y1]) (As := [.int ((6 * x1) + x2)]) (rest := []) cx hS rfl hl.1 hm (metX3_isOpen l _ _ _ _ _ (hth.at hS) e9) (jle hf) (hth.at hS) rfl (lw_V q1180 q1181 q1182 q114 q1183) pdX3_isOpen rfl rfl (Nat.le_of_ble_eq_true rfl) ⟨Nat.le_of_ble_eq_true rfl, Nat.le_of_ble_eq_true rfl⟩ dX3_read_11 rfl (fun H locs cells slots hS => ?_)
  refine lv_if_eq (pc := 14) (tgt := 24) hx hb dX3_read_14 (by decide) (fun hc => ?_) (fun hc => ?_)
  · have hf := jI_t hf hc
    refine lv_aload_n (pc := 24) hx hb dX3_read_24 rfl (lv_at hl 1 rfl) ?_
    refine j_gR (pc := 25) cx hS hf fd_WornSkin_Shelf_many q266 dX3_read_25 (fun y2 hf => ?_)
    refine lv_iload (pc := 28) hx hb dX3_read_28 (lv_at hl 0 rfl) ?_
    refine j_aI (pc := 30) cx hS hf rfl dX3_read_30 (fun y3 hf => ?_)
    refine lv_iconst (pc := 31) (v := 1) hx hb dX3_read_31 rfl ?_
    refine lv_isub (pc := 32) hx hb dX3_read_32 ?_
    refine lv_istore (pc := 33) (i := 5) (lv' := [(5, .int (y3 - 1)), (4, .int ((6 * x1) + x2)), (0, .ref a0), (1, .int x1), (2, .int x2), (3, .int x3)]) hx hb dX3_read_33 hl (Nat.le_of_ble_eq_true rfl) rfl (fun ls hl => ?_)
    exact wX3_read_35 cx e1 e2 a0 hth N _ _ _ _ _ _ _ _ _ _ hf hS (lv_sub hl [2, 3, 5, 1, 0] rfl)
  · have hf := jI_f hf hc
    refine lv_aload_n (pc := 17) hx hb dX3_read_17 rfl (lv_at hl 1 rfl) ?_
    refine lv_iload (pc := 18) hx hb dX3_read_18 (lv_at hl 0 rfl) ?_
    obtain ⟨y4, h1, e9, hf⟩ := jB_some hf
    refine j_callV (pc := 20) (st1 := [.int y4]) (As := [.int ((6 * x1) + x2)]) (rest := []) cx hS rfl hl.1 hm (metX3_top l _ _ _ _ _ (hth.at hS) e9) (jle hf) (hth.at hS) rfl (lw_V q1185 q1186 q1187 q114 q1188) pdX3_top rfl rfl (Nat.le_of_ble_eq_true rfl) ⟨Nat.le_of_ble_eq_true rfl, Nat.le_of_ble_eq_true rfl⟩ dX3_read_20 rfl (fun H locs cells slots hS => ?_)
    exact j_iret (pc := 23) cx hS hf e1 e2 dX3_read_23
theorem metX3_read (l : Launch) (N : Nat) (a0 : Nat) (x1 : Int32) (x2 : Int32) (x3 : Int32) (h h' : jH) (r : Int32) (hth : jcd h a0 = some 2) (hf : (fX3_read N a0 x1 x2 x3).1 h = some (r, h')) : jMet l yX3_read (ws_ yX3_read cX3_read 6 (Option.some Jvm.ClassFile.FieldType.int)) (122) (2610) [.ref a0, .int x1, .int x2, .int x3] h h' (.returned (some (.int r))) := by
  refine jStart rfl (jle hf) (Nat.le_of_ble_eq_true rfl) ?_
  intro p e s m below meth c D dA H0 mc ms ls cx hnm e1 e2 hS hl
  have hth := jTh.mk hS hth
  exact wX3_read_0 cx e1 e2 a0 hth _ _ _ _ _ _ _ _ _ hf hS hl
def fX3_isWhole_72 (N : Nat) (a0 : Nat) : jM Int32 := jRn .boolean 0
def fX3_isWhole_66 (N : Nat) (k2 : Int32 → Int32 → Int32 → jM Int32) (a0 : Nat) (x1 : Int32) (x2 : Int32) (x3 : Int32) : jM Int32 := k2 x1 x2 (x3 + 1)
def fX3_isWhole_58 (N : Nat) (a0 : Nat) : jM Int32 := jRn .boolean 1
def fX3_isWhole_43 (N : Nat) (k16 : Int32 → Int32 → Int32 → Int32 → Int32 → jM Int32) (a0 : Nat) (x1 : Int32) (x2 : Int32) (x3 : Int32) (x5 : Int32) (v0 : Int32) : jM Int32 := jB (fX3_text a0 x1) fun y1 => jB (jgI [13, 14, 15, 16] 1 y1) fun y2 => if v0 = y2 then (fX3_isWhole_58 N a0) else (k16 x1 x2 x3 v0 (x5 + 1))
def fX3_isWhole_16 (N : Nat) (k2 : Int32 → Int32 → Int32 → jM Int32) (a0 : Nat) : Nat → Int32 → Int32 → Int32 → Int32 → Int32 → jM Int32
  | 0, _, _, _, _, _ => jE
  | n + 1, x1, x2, x3, x4, x5 => if 6 ≤ x5 then (fX3_isWhole_66 N k2 a0 x1 x2 x3) else (jB (fX3_read N a0 x3 x5 x2) fun y1 => if y1 = x1 then (fX3_isWhole_43 N (fX3_isWhole_16 N k2 a0 n) a0 x1 x2 x3 x5 (x4 + 1)) else (fX3_isWhole_43 N (fX3_isWhole_16 N k2 a0 n) a0 x1 x2 x3 x5 0))
def fX3_isWhole_2 (N : Nat) (a0 : Nat) : Nat → Int32 → Int32 → Int32 → jM Int32
  | 0, _, _, _ => jE
  | n + 1, x1, x2, x3 => jB (fX3_skins a0) fun y1 => if y1 ≤ x3 then (fX3_isWhole_72 N a0) else (fX3_isWhole_16 N (fX3_isWhole_2 N a0 n) a0 N x1 x2 x3 0 0)
def fX3_isWhole (N : Nat) (a0 : Nat) (x1 : Int32) (x2 : Int32) : jM Int32 := fX3_isWhole_2 N a0 N x1 x2 0
theorem wX3_isWhole_72 {N : Nat} {r : Int32} (cx : jCx p s m args meth c cX3_isWhole "WornSkin$Shelf" 6 (Option.some Jvm.ClassFile.FieldType.boolean) D dA H0 hs.2.2.2.2) (e1 : h'.2.2.1 = hs.2.2.1 + mc) (e2 : h'.2.2.2.1 = hs.2.2.2.1 + ms) (a0 : Nat) (hth : jTh hs a0 2) : ∀ (h : jH) (H : Heap) (locs : List Loc) (cells slots : Nat) (ls : Array Slot), (fX3_isWhole_72 N a0).1 h = some (r, h') → jS D dA H0 hs h H locs cells slots → lv_has ls 6 [(0, .ref a0)] → W p l e { frames := 123, cells := mc, slots := ms, locals := 2635 } s m args below meth c H locs cells slots (jQ D dA H0 below s (.returned (some (.int r))) h' mc ms) (F0 m 72 ls []) := by
  have hx := cx.1
  have hb := cx.2.1
  have hown := cx.2.2.2.1
  have hts := cx.2.2.2.2.1
  have hm : h'.2.2.1 ≤ hs.2.2.1 + mc ∧ h'.2.2.2.1 ≤ hs.2.2.2.1 + ms := ⟨Nat.le_of_eq e1, Nat.le_of_eq e2⟩
  intro h H locs cells slots ls hf hS hl
  unfold fX3_isWhole_72 at hf
  refine lv_iconst (pc := 72) (v := 0) hx hb dX3_isWhole_72 rfl ?_
  exact j_zret (pc := 73) cx (Or.inl rfl) hS hf e1 e2 dX3_isWhole_73
theorem wX3_isWhole_66 {N : Nat} {k2 : Int32 → Int32 → Int32 → jM Int32} {r : Int32} (cx : jCx p s m args meth c cX3_isWhole "WornSkin$Shelf" 6 (Option.some Jvm.ClassFile.FieldType.boolean) D dA H0 hs.2.2.2.2) (e1 : h'.2.2.1 = hs.2.2.1 + mc) (e2 : h'.2.2.2.1 = hs.2.2.2.1 + ms) (a0 : Nat) (hth : jTh hs a0 2) (hk2 : ∀ (x1 : Int32) (x2 : Int32) (x3 : Int32), ∀ (h : jH) (H : Heap) (locs : List Loc) (cells slots : Nat) (ls : Array Slot), (k2 x1 x2 x3).1 h = some (r, h') → jS D dA H0 hs h H locs cells slots → lv_has ls 6 [(0, .ref a0), (1, .int x1), (2, .int x2), (3, .int x3)] → W p l e { frames := 123, cells := mc, slots := ms, locals := 2635 } s m args below meth c H locs cells slots (jQ D dA H0 below s (.returned (some (.int r))) h' mc ms) (F0 m 2 ls [])) : ∀ (x1 : Int32) (x2 : Int32) (x3 : Int32), ∀ (h : jH) (H : Heap) (locs : List Loc) (cells slots : Nat) (ls : Array Slot), (fX3_isWhole_66 N k2 a0 x1 x2 x3).1 h = some (r, h') → jS D dA H0 hs h H locs cells slots → lv_has ls 6 [(0, .ref a0), (1, .int x1), (2, .int x2), (3, .int x3)] → W p l e { frames := 123, cells := mc, slots := ms, locals := 2635 } s m args below meth c H locs cells slots (jQ D dA H0 below s (.returned (some (.int r))) h' mc ms) (F0 m 66 ls []) := by
  have hx := cx.1
  have hb := cx.2.1
  have hown := cx.2.2.2.1
  have hts := cx.2.2.2.2.1
  have hm : h'.2.2.1 ≤ hs.2.2.1 + mc ∧ h'.2.2.2.1 ≤ hs.2.2.2.1 + ms := ⟨Nat.le_of_eq e1, Nat.le_of_eq e2⟩
  intro x1 x2 x3 h H locs cells slots ls hf hS hl
  unfold fX3_isWhole_66 at hf
  refine lv_iinc (pc := 66) (v := (x3 + 1)) (lv' := [(3, .int (x3 + 1)), (0, .ref a0), (1, .int x1), (2, .int x2)]) hx hb dX3_isWhole_66 hl (k := 3) rfl rfl (Nat.le_of_ble_eq_true rfl) rfl (fun ls hl => ?_)
  refine lv_goto (pc := 69) (tgt := 2) hx hb dX3_isWhole_69 (by decide) ?_
  exact hk2 _ _ _ _ _ _ _ _ _ hf hS (lv_sub hl [1, 2, 3, 0] rfl)
theorem wX3_isWhole_58 {N : Nat} {r : Int32} (cx : jCx p s m args meth c cX3_isWhole "WornSkin$Shelf" 6 (Option.some Jvm.ClassFile.FieldType.boolean) D dA H0 hs.2.2.2.2) (e1 : h'.2.2.1 = hs.2.2.1 + mc) (e2 : h'.2.2.2.1 = hs.2.2.2.1 + ms) (a0 : Nat) (hth : jTh hs a0 2) : ∀ (h : jH) (H : Heap) (locs : List Loc) (cells slots : Nat) (ls : Array Slot), (fX3_isWhole_58 N a0).1 h = some (r, h') → jS D dA H0 hs h H locs cells slots → lv_has ls 6 [(0, .ref a0)] → W p l e { frames := 123, cells := mc, slots := ms, locals := 2635 } s m args below meth c H locs cells slots (jQ D dA H0 below s (.returned (some (.int r))) h' mc ms) (F0 m 58 ls []) := by
  have hx := cx.1
  have hb := cx.2.1
  have hown := cx.2.2.2.1
  have hts := cx.2.2.2.2.1
  have hm : h'.2.2.1 ≤ hs.2.2.1 + mc ∧ h'.2.2.2.1 ≤ hs.2.2.2.1 + ms := ⟨Nat.le_of_eq e1, Nat.le_of_eq e2⟩
  intro h H locs cells slots ls hf hS hl
  unfold fX3_isWhole_58 at hf
  refine lv_iconst (pc := 58) (v := 1) hx hb dX3_isWhole_58 rfl ?_
  exact j_zret (pc := 59) cx (Or.inl rfl) hS hf e1 e2 dX3_isWhole_59
theorem wX3_isWhole_43 {N : Nat} {k16 : Int32 → Int32 → Int32 → Int32 → Int32 → jM Int32} {r : Int32} (cx : jCx p s m args meth c cX3_isWhole "WornSkin$Shelf" 6 (Option.some Jvm.ClassFile.FieldType.boolean) D dA H0 hs.2.2.2.2) (e1 : h'.2.2.1 = hs.2.2.1 + mc) (e2 : h'.2.2.2.1 = hs.2.2.2.1 + ms) (a0 : Nat) (hth : jTh hs a0 2) (hk16 : ∀ (x1 : Int32) (x2 : Int32) (x3 : Int32) (x4 : Int32) (x5 : Int32), ∀ (h : jH) (H : Heap) (locs : List Loc) (cells slots : Nat) (ls : Array Slot), (k16 x1 x2 x3 x4 x5).1 h = some (r, h') → jS D dA H0 hs h H locs cells slots → lv_has ls 6 [(0, .ref a0), (1, .int x1), (2, .int x2), (3, .int x3), (4, .int x4), (5, .int x5)] → W p l e { frames := 123, cells := mc, slots := ms, locals := 2635 } s m args below meth c H locs cells slots (jQ D dA H0 below s (.returned (some (.int r))) h' mc ms) (F0 m 16 ls [])) : ∀ (x1 : Int32) (x2 : Int32) (x3 : Int32) (x5 : Int32) (v0 : Int32), ∀ (h : jH) (H : Heap) (locs : List Loc) (cells slots : Nat) (ls : Array Slot), (fX3_isWhole_43 N k16 a0 x1 x2 x3 x5 v0).1 h = some (r, h') → jS D dA H0 hs h H locs cells slots → lv_has ls 6 [(0, .ref a0), (1, .int x1), (2, .int x2), (3, .int x3), (5, .int x5)] → W p l e { frames := 123, cells := mc, slots := ms, locals := 2635 } s m args below meth c H locs cells slots (jQ D dA H0 below s (.returned (some (.int r))) h' mc ms) (F0 m 43 ls [.int v0]) := by
  have hx := cx.1
  have hb := cx.2.1
  have hown := cx.2.2.2.1
  have hts := cx.2.2.2.2.1
  have hm : h'.2.2.1 ≤ hs.2.2.1 + mc ∧ h'.2.2.2.1 ≤ hs.2.2.2.1 + ms := ⟨Nat.le_of_eq e1, Nat.le_of_eq e2⟩
  intro x1 x2 x3 x5 v0 h H locs cells slots ls hf hS hl
  unfold fX3_isWhole_43 at hf
  refine lv_istore (pc := 43) (i := 4) (lv' := [(4, .int v0), (0, .ref a0), (1, .int x1), (2, .int x2), (3, .int x3), (5, .int x5)]) hx hb dX3_isWhole_43 hl (Nat.le_of_ble_eq_true rfl) rfl (fun ls hl => ?_)
  refine lv_iload (pc := 45) hx hb dX3_isWhole_45 (lv_at hl 0 rfl) ?_
  refine lv_aload_n (pc := 47) hx hb dX3_isWhole_47 rfl (lv_at hl 1 rfl) ?_
  refine lv_iload_n (pc := 48) hx hb dX3_isWhole_48 rfl (lv_at hl 2 rfl) ?_
  obtain ⟨y1, h1, e9, hf⟩ := jB_some hf
  refine j_callV (pc := 49) (st1 := [va_rf y1, .int v0]) (As := [.int x1]) (rest := [.int v0]) cx hS rfl hl.1 hm (metX3_text l _ _ _ _ _ (hth.at hS) e9) (jle hf) (hth.at hS) rfl (lw_V q1193 q1194 q1195 q114 q1196) pdX3_text rfl rfl (Nat.le_of_ble_eq_true rfl) ⟨Nat.le_of_ble_eq_true rfl, Nat.le_of_ble_eq_true rfl⟩ dX3_isWhole_49 rfl (fun H locs cells slots hS => ?_)
  refine j_gI (pc := 52) cx hS hf fd_WornSkin_Text_lines q893 dX3_isWhole_52 (fun y2 hf => ?_)
  refine lv_icmp_ne (pc := 55) (tgt := 60) hx hb dX3_isWhole_55 (by decide) (fun hc => ?_) (fun hc => ?_)
  · have hf := jI_f hf hc
    refine lv_iinc (pc := 60) (v := (x5 + 1)) (lv' := [(5, .int (x5 + 1)), (4, .int v0), (0, .ref a0), (1, .int x1), (2, .int x2), (3, .int x3)]) hx hb dX3_isWhole_60 hl (k := 5) rfl rfl (Nat.le_of_ble_eq_true rfl) rfl (fun ls hl => ?_)
    refine lv_goto (pc := 63) (tgt := 16) hx hb dX3_isWhole_63 (by decide) ?_
    exact hk16 _ _ _ _ _ _ _ _ _ _ _ hf hS (lv_sub hl [2, 3, 4, 5, 1, 0] rfl)
  · have hf := jI_t hf hc
    exact wX3_isWhole_58 cx e1 e2 a0 hth _ _ _ _ _ _ hf hS (lv_sub hl [1] rfl)
theorem wX3_isWhole_16 {N : Nat} {k2 : Int32 → Int32 → Int32 → jM Int32} {r : Int32} (cx : jCx p s m args meth c cX3_isWhole "WornSkin$Shelf" 6 (Option.some Jvm.ClassFile.FieldType.boolean) D dA H0 hs.2.2.2.2) (e1 : h'.2.2.1 = hs.2.2.1 + mc) (e2 : h'.2.2.2.1 = hs.2.2.2.1 + ms) (a0 : Nat) (hth : jTh hs a0 2) (hk2 : ∀ (x1 : Int32) (x2 : Int32) (x3 : Int32), ∀ (h : jH) (H : Heap) (locs : List Loc) (cells slots : Nat) (ls : Array Slot), (k2 x1 x2 x3).1 h = some (r, h') → jS D dA H0 hs h H locs cells slots → lv_has ls 6 [(0, .ref a0), (1, .int x1), (2, .int x2), (3, .int x3)] → W p l e { frames := 123, cells := mc, slots := ms, locals := 2635 } s m args below meth c H locs cells slots (jQ D dA H0 below s (.returned (some (.int r))) h' mc ms) (F0 m 2 ls [])) : ∀ (n : Nat) (x1 : Int32) (x2 : Int32) (x3 : Int32) (x4 : Int32) (x5 : Int32), ∀ (h : jH) (H : Heap) (locs : List Loc) (cells slots : Nat) (ls : Array Slot), (fX3_isWhole_16 N k2 a0 n x1 x2 x3 x4 x5).1 h = some (r, h') → jS D dA H0 hs h H locs cells slots → lv_has ls 6 [(0, .ref a0), (1, .int x1), (2, .int x2), (3, .int x3), (4, .int x4), (5, .int x5)] → W p l e { frames := 123, cells := mc, slots := ms, locals := 2635 } s m args below meth c H locs cells slots (jQ D dA H0 below s (.returned (some (.int r))) h' mc ms) (F0 m 16 ls []) := by
  have hx := cx.1
  have hb := cx.2.1
  have hown := cx.2.2.2.1
  have hts := cx.2.2.2.2.1
  have hm : h'.2.2.1 ≤ hs.2.2.1 + mc ∧ h'.2.2.2.1 ≤ hs.2.2.2.1 + ms := ⟨Nat.le_of_eq e1, Nat.le_of_eq e2⟩
  intro n
  induction n with
  | zero =>
    intro x1 x2 x3 x4 x5 h H locs cells slots ls hf hS hl
    exact jE_f hf
  | succ n ih =>
    intro x1 x2 x3 x4 x5 h H locs cells slots ls hf hS hl
    unfold fX3_isWhole_16 at hf
    refine lv_iload (pc := 16) hx hb dX3_isWhole_16 (lv_at hl 5 rfl) ?_
    refine lv_bipush (pc := 18) (v := 6) hx hb dX3_isWhole_18 rfl ?_
    refine lv_icmp_ge (pc := 20) (tgt := 66) hx hb dX3_isWhole_20 (by decide) (fun hc => ?_) (fun hc => ?_)
    · have hf := jI_t hf hc
      exact wX3_isWhole_66 cx e1 e2 a0 hth hk2 _ _ _ _ _ _ _ _ _ hf hS (lv_sub hl [0, 1, 2, 3] rfl)
    · have hf := jI_f hf hc
      refine lv_aload_n (pc := 23) hx hb dX3_isWhole_23 rfl (lv_at hl 0 rfl) ?_
      refine lv_iload_n (pc := 24) hx hb dX3_isWhole_24 rfl (lv_at hl 3 rfl) ?_
      refine lv_iload (pc := 25) hx hb dX3_isWhole_25 (lv_at hl 5 rfl) ?_
      refine lv_iload_n (pc := 27) hx hb dX3_isWhole_27 rfl (lv_at hl 2 rfl) ?_
      obtain ⟨y1, h1, e9, hf⟩ := jB_some hf
      refine j_callV (pc := 28) (st1 := [.int y1]) (As := [.int x3, .int x5, .int x2]) (rest := []) cx hS rfl hl.1 hm (metX3_read l _ _ _ _ _ _ _ _ (hth.at hS) e9) (jle hf) (hth.at hS) rfl (lw_V q1309 q1177 q1178 q114 q1179) pdX3_read rfl rfl (Nat.le_of_ble_eq_true rfl) ⟨Nat.le_of_ble_eq_true rfl, Nat.le_of_ble_eq_true rfl⟩ dX3_isWhole_28 rfl (fun H locs cells slots hS => ?_)
      refine lv_iload_n (pc := 31) hx hb dX3_isWhole_31 rfl (lv_at hl 1 rfl) ?_
      refine lv_icmp_ne (pc := 32) (tgt := 42) hx hb dX3_isWhole_32 (by decide) (fun hc => ?_) (fun hc => ?_)
      · have hf := jI_f hf hc
        refine lv_iconst (pc := 42) (v := 0) hx hb dX3_isWhole_42 rfl ?_
        exact wX3_isWhole_43 cx e1 e2 a0 hth ih _ _ _ _ _ _ _ _ _ _ _ hf hS (lv_sub hl [0, 1, 2, 3, 5] rfl)
      · have hf := jI_t hf hc
        refine lv_iload (pc := 35) hx hb dX3_isWhole_35 (lv_at hl 4 rfl) ?_
        refine lv_iconst (pc := 37) (v := 1) hx hb dX3_isWhole_37 rfl ?_
        refine lv_iadd (pc := 38) hx hb dX3_isWhole_38 ?_
        refine lv_goto (pc := 39) (tgt := 43) hx hb dX3_isWhole_39 (by decide) ?_
        exact wX3_isWhole_43 cx e1 e2 a0 hth ih _ _ _ _ _ _ _ _ _ _ _ hf hS (lv_sub hl [0, 1, 2, 3, 5] rfl)
theorem wX3_isWhole_2 {N : Nat} {r : Int32} (cx : jCx p s m args meth c cX3_isWhole "WornSkin$Shelf" 6 (Option.some Jvm.ClassFile.FieldType.boolean) D dA H0 hs.2.2.2.2) (e1 : h'.2.2.1 = hs.2.2.1 + mc) (e2 : h'.2.2.2.1 = hs.2.2.2.1 + ms) (a0 : Nat) (hth : jTh hs a0 2) : ∀ (n : Nat) (x1 : Int32) (x2 : Int32) (x3 : Int32), ∀ (h : jH) (H : Heap) (locs : List Loc) (cells slots : Nat) (ls : Array Slot), (fX3_isWhole_2 N a0 n x1 x2 x3).1 h = some (r, h') → jS D dA H0 hs h H locs cells slots → lv_has ls 6 [(0, .ref a0), (1, .int x1), (2, .int x2), (3, .int x3)] → W p l e { frames := 123, cells := mc, slots := ms, locals := 2635 } s m args below meth c H locs cells slots (jQ D dA H0 below s (.returned (some (.int r))) h' mc ms) (F0 m 2 ls []) := by
  have hx := cx.1
  have hb := cx.2.1
  have hown := cx.2.2.2.1
  have hts := cx.2.2.2.2.1
  have hm : h'.2.2.1 ≤ hs.2.2.1 + mc ∧ h'.2.2.2.1 ≤ hs.2.2.2.1 + ms := ⟨Nat.le_of_eq e1, Nat.le_of_eq e2⟩
  intro n
  induction n with
  | zero =>
    intro x1 x2 x3 h H locs cells slots ls hf hS hl
    exact jE_f hf
  | succ n ih =>
    intro x1 x2 x3 h H locs cells slots ls hf hS hl
    unfold fX3_isWhole_2 at hf
    refine lv_iload_n (pc := 2) hx hb dX3_isWhole_2 rfl (lv_at hl 3 rfl) ?_
    refine lv_aload_n (pc := 3) hx hb dX3_isWhole_3 rfl (lv_at hl 0 rfl) ?_
    obtain ⟨y1, h1, e9, hf⟩ := jB_some hf
    refine j_callV (pc := 4) (st1 := [.int y1, .int x3]) (As := []) (rest := [.int x3]) cx hS rfl hl.1 hm (metX3_skins l _ _ _ _ (hth.at hS) e9) (jle hf) (hth.at hS) rfl (lw_V q371 q372 q373 q114 q374) pdX3_skins rfl rfl (Nat.le_of_ble_eq_true rfl) ⟨Nat.le_of_ble_eq_true rfl, Nat.le_of_ble_eq_true rfl⟩ dX3_isWhole_4 rfl (fun H locs cells slots hS => ?_)
    refine lv_icmp_ge (pc := 7) (tgt := 72) hx hb dX3_isWhole_7 (by decide) (fun hc => ?_) (fun hc => ?_)
    · have hf := jI_t hf hc
      exact wX3_isWhole_72 cx e1 e2 a0 hth _ _ _ _ _ _ hf hS (lv_sub hl [0] rfl)
    · have hf := jI_f hf hc
      refine lv_iconst (pc := 10) (v := 0) hx hb dX3_isWhole_10 rfl ?_
      refine lv_istore (pc := 11) (i := 4) (lv' := [(4, .int 0), (0, .ref a0), (1, .int x1), (2, .int x2), (3, .int x3)]) hx hb dX3_isWhole_11 hl (Nat.le_of_ble_eq_true rfl) rfl (fun ls hl => ?_)
      refine lv_iconst (pc := 13) (v := 0) hx hb dX3_isWhole_13 rfl ?_
      refine lv_istore (pc := 14) (i := 5) (lv' := [(5, .int 0), (4, .int 0), (0, .ref a0), (1, .int x1), (2, .int x2), (3, .int x3)]) hx hb dX3_isWhole_14 hl (Nat.le_of_ble_eq_true rfl) rfl (fun ls hl => ?_)
      exact wX3_isWhole_16 cx e1 e2 a0 hth ih N _ _ _ _ _ _ _ _ _ _ _ hf hS (lv_sub hl [2, 3, 4, 5, 1, 0] rfl)
theorem wX3_isWhole_0 {N : Nat} {r : Int32} (cx : jCx p s m args meth c cX3_isWhole "WornSkin$Shelf" 6 (Option.some Jvm.ClassFile.FieldType.boolean) D dA H0 hs.2.2.2.2) (e1 : h'.2.2.1 = hs.2.2.1 + mc) (e2 : h'.2.2.2.1 = hs.2.2.2.1 + ms) (a0 : Nat) (hth : jTh hs a0 2) : ∀ (x1 : Int32) (x2 : Int32), ∀ (h : jH) (H : Heap) (locs : List Loc) (cells slots : Nat) (ls : Array Slot), (fX3_isWhole N a0 x1 x2).1 h = some (r, h') → jS D dA H0 hs h H locs cells slots → lv_has ls 6 [(0, .ref a0), (1, .int x1), (2, .int x2)] → W p l e { frames := 123, cells := mc, slots := ms, locals := 2635 } s m args below meth c H locs cells slots (jQ D dA H0 below s (.returned (some (.int r))) h' mc ms) (F0 m 0 ls []) := by
  have hx := cx.1
  have hb := cx.2.1
  have hown := cx.2.2.2.1
  have hts := cx.2.2.2.2.1
  have hm : h'.2.2.1 ≤ hs.2.2.1 + mc ∧ h'.2.2.2.1 ≤ hs.2.2.2.1 + ms := ⟨Nat.le_of_eq e1, Nat.le_of_eq e2⟩
  intro x1 x2 h H locs cells slots ls hf hS hl
  unfold fX3_isWhole at hf
  refine lv_iconst (pc := 0) (v := 0) hx hb dX3_isWhole_0 rfl ?_
  refine lv_istore_n (pc := 1) (i := 3) (lv' := [(3, .int 0), (0, .ref a0), (1, .int x1), (2, .int x2)]) hx hb dX3_isWhole_1 rfl hl (Nat.le_of_ble_eq_true rfl) rfl (fun ls hl => ?_)
  exact wX3_isWhole_2 cx e1 e2 a0 hth N _ _ _ _ _ _ _ _ _ hf hS (lv_sub hl [1, 2, 3, 0] rfl)
theorem metX3_isWhole (l : Launch) (N : Nat) (a0 : Nat) (x1 : Int32) (x2 : Int32) (h h' : jH) (r : Int32) (hth : jcd h a0 = some 2) (hf : (fX3_isWhole N a0 x1 x2).1 h = some (r, h')) : jMet l yX3_isWhole (ws_ yX3_isWhole cX3_isWhole 6 (Option.some Jvm.ClassFile.FieldType.boolean)) (123) (2635) [.ref a0, .int x1, .int x2] h h' (.returned (some (.int r))) := by
  refine jStart rfl (jle hf) (Nat.le_of_ble_eq_true rfl) ?_
  intro p e s m below meth c D dA H0 mc ms ls cx hnm e1 e2 hS hl
  have hth := jTh.mk hS hth
  exact wX3_isWhole_0 cx e1 e2 a0 hth _ _ _ _ _ _ _ _ hf hS hl
def fX3_isGone_14 (a0 : Nat) (v0 : Int32) : jM Int32 := jRn .boolean v0
def fX3_isGone (a0 : Nat) (x1 : Int32) : jM Int32 := jB (jgR [2] 3 (some a0)) fun y1 => jB (jaI 0 y1 x1) fun y2 => if y2 = 0 then (fX3_isGone_14 a0 1) else (fX3_isGone_14 a0 0)
theorem wX3_isGone_14 {r : Int32} (cx : jCx p s m args meth c cX3_isGone "WornSkin$Shelf" 2 (Option.some Jvm.ClassFile.FieldType.boolean) D dA H0 hs.2.2.2.2) (e1 : h'.2.2.1 = hs.2.2.1 + mc) (e2 : h'.2.2.2.1 = hs.2.2.2.1 + ms) (a0 : Nat) (hth : jTh hs a0 2) : ∀ (v0 : Int32), ∀ (h : jH) (H : Heap) (locs : List Loc) (cells slots : Nat) (ls : Array Slot), (fX3_isGone_14 a0 v0).1 h = some (r, h') → jS D dA H0 hs h H locs cells slots → lv_has ls 2 [(0, .ref a0)] → W p l e { frames := 0, cells := mc, slots := ms, locals := 0 } s m args below meth c H locs cells slots (jQ D dA H0 below s (.returned (some (.int r))) h' mc ms) (F0 m 14 ls [.int v0]) := by
  have hx := cx.1
  have hb := cx.2.1
  have hown := cx.2.2.2.1
  have hts := cx.2.2.2.2.1
  have hm : h'.2.2.1 ≤ hs.2.2.1 + mc ∧ h'.2.2.2.1 ≤ hs.2.2.2.1 + ms := ⟨Nat.le_of_eq e1, Nat.le_of_eq e2⟩
  intro v0 h H locs cells slots ls hf hS hl
  unfold fX3_isGone_14 at hf
  exact j_zret (pc := 14) cx (Or.inl rfl) hS hf e1 e2 dX3_isGone_14
theorem wX3_isGone_0 {r : Int32} (cx : jCx p s m args meth c cX3_isGone "WornSkin$Shelf" 2 (Option.some Jvm.ClassFile.FieldType.boolean) D dA H0 hs.2.2.2.2) (e1 : h'.2.2.1 = hs.2.2.1 + mc) (e2 : h'.2.2.2.1 = hs.2.2.2.1 + ms) (a0 : Nat) (hth : jTh hs a0 2) : ∀ (x1 : Int32), ∀ (h : jH) (H : Heap) (locs : List Loc) (cells slots : Nat) (ls : Array Slot), (fX3_isGone a0 x1).1 h = some (r, h') → jS D dA H0 hs h H locs cells slots → lv_has ls 2 [(0, .ref a0), (1, .int x1)] → W p l e { frames := 0, cells := mc, slots := ms, locals := 0 } s m args below meth c H locs cells slots (jQ D dA H0 below s (.returned (some (.int r))) h' mc ms) (F0 m 0 ls []) := by
  have hx := cx.1
  have hb := cx.2.1
  have hown := cx.2.2.2.1
  have hts := cx.2.2.2.2.1
  have hm : h'.2.2.1 ≤ hs.2.2.1 + mc ∧ h'.2.2.2.1 ≤ hs.2.2.2.1 + ms := ⟨Nat.le_of_eq e1, Nat.le_of_eq e2⟩
  intro x1 h H locs cells slots ls hf hS hl
  unfold fX3_isGone at hf
  refine lv_aload_n (pc := 0) hx hb dX3_isGone_0 rfl (lv_at hl 0 rfl) ?_
  refine j_gR (pc := 1) cx hS hf fd_WornSkin_Shelf_thick q262 dX3_isGone_1 (fun y1 hf => ?_)
  refine lv_iload_n (pc := 4) hx hb dX3_isGone_4 rfl (lv_at hl 1 rfl) ?_
  refine j_aI (pc := 5) cx hS hf rfl dX3_isGone_5 (fun y2 hf => ?_)
  refine lv_if_ne (pc := 6) (tgt := 13) hx hb dX3_isGone_6 (by decide) (fun hc => ?_) (fun hc => ?_)
  · have hf := jI_f hf hc
    refine lv_iconst (pc := 13) (v := 0) hx hb dX3_isGone_13 rfl ?_
    exact wX3_isGone_14 cx e1 e2 a0 hth _ _ _ _ _ _ _ hf hS (lv_sub hl [0] rfl)
  · have hf := jI_t hf hc
    refine lv_iconst (pc := 9) (v := 1) hx hb dX3_isGone_9 rfl ?_
    refine lv_goto (pc := 10) (tgt := 14) hx hb dX3_isGone_10 (by decide) ?_
    exact wX3_isGone_14 cx e1 e2 a0 hth _ _ _ _ _ _ _ hf hS (lv_sub hl [0] rfl)
theorem metX3_isGone (l : Launch) (a0 : Nat) (x1 : Int32) (h h' : jH) (r : Int32) (hth : jcd h a0 = some 2) (hf : (fX3_isGone a0 x1).1 h = some (r, h')) : jMet l yX3_isGone (ws_ yX3_isGone cX3_isGone 2 (Option.some Jvm.ClassFile.FieldType.boolean)) (0) (0) [.ref a0, .int x1] h h' (.returned (some (.int r))) := by
  refine jStart rfl (jle hf) (Nat.le_of_ble_eq_true rfl) ?_
  intro p e s m below meth c D dA H0 mc ms ls cx hnm e1 e2 hS hl
  have hth := jTh.mk hS hth
  exact wX3_isGone_0 cx e1 e2 a0 hth _ _ _ _ _ _ _ hf hS hl
def fX3_isFree_58 (a0 : Nat) (v0 : Int32) : jM Int32 := jRn .boolean v0
def fX3_isFree_57 (a0 : Nat) : jM Int32 := fX3_isFree_58 a0 0
def fX3_isFree (a0 : Nat) (x1 : Int32) (x2 : Int32) : jM Int32 := jB (fX3_skin a0 x1) fun y1 => jB (jgI [12] 0 y1) fun y2 => if y2 ≤ x2 then (fX3_isFree_57 a0) else (jB (fX3_skin a0 x1) fun y3 => jB (jgI [12] 2 y3) fun y4 => jB (fX1_has y4 x2) fun y5 => if y5 = 0 then (jB (fX3_isOpen a0 ((6 * x1) + x2)) fun y6 => if y6 = 0 then (jB (jgR [2] 5 (some a0)) fun y7 => jB (jaI 0 y7 ((6 * x1) + x2)) fun y8 => if 9 ≤ y8 then (fX3_isFree_57 a0) else (fX3_isFree_58 a0 1)) else (fX3_isFree_57 a0)) else (fX3_isFree_57 a0))
theorem wX3_isFree_58 {r : Int32} (cx : jCx p s m args meth c cX3_isFree "WornSkin$Shelf" 4 (Option.some Jvm.ClassFile.FieldType.boolean) D dA H0 hs.2.2.2.2) (e1 : h'.2.2.1 = hs.2.2.1 + mc) (e2 : h'.2.2.2.1 = hs.2.2.2.1 + ms) (a0 : Nat) (hth : jTh hs a0 2) : ∀ (v0 : Int32), ∀ (h : jH) (H : Heap) (locs : List Loc) (cells slots : Nat) (ls : Array Slot), (fX3_isFree_58 a0 v0).1 h = some (r, h') → jS D dA H0 hs h H locs cells slots → lv_has ls 4 [(0, .ref a0)] → W p l e { frames := 4, cells := mc, slots := ms, locals := 85 } s m args below meth c H locs cells slots (jQ D dA H0 below s (.returned (some (.int r))) h' mc ms) (F0 m 58 ls [.int v0]) := by
  have hx := cx.1
  have hb := cx.2.1
  have hown := cx.2.2.2.1
  have hts := cx.2.2.2.2.1
  have hm : h'.2.2.1 ≤ hs.2.2.1 + mc ∧ h'.2.2.2.1 ≤ hs.2.2.2.1 + ms := ⟨Nat.le_of_eq e1, Nat.le_of_eq e2⟩
  intro v0 h H locs cells slots ls hf hS hl
  unfold fX3_isFree_58 at hf
  exact j_zret (pc := 58) cx (Or.inl rfl) hS hf e1 e2 dX3_isFree_58
theorem wX3_isFree_57 {r : Int32} (cx : jCx p s m args meth c cX3_isFree "WornSkin$Shelf" 4 (Option.some Jvm.ClassFile.FieldType.boolean) D dA H0 hs.2.2.2.2) (e1 : h'.2.2.1 = hs.2.2.1 + mc) (e2 : h'.2.2.2.1 = hs.2.2.2.1 + ms) (a0 : Nat) (hth : jTh hs a0 2) : ∀ (h : jH) (H : Heap) (locs : List Loc) (cells slots : Nat) (ls : Array Slot), (fX3_isFree_57 a0).1 h = some (r, h') → jS D dA H0 hs h H locs cells slots → lv_has ls 4 [(0, .ref a0)] → W p l e { frames := 4, cells := mc, slots := ms, locals := 85 } s m args below meth c H locs cells slots (jQ D dA H0 below s (.returned (some (.int r))) h' mc ms) (F0 m 57 ls []) := by
  have hx := cx.1
  have hb := cx.2.1
  have hown := cx.2.2.2.1
  have hts := cx.2.2.2.2.1
  have hm : h'.2.2.1 ≤ hs.2.2.1 + mc ∧ h'.2.2.2.1 ≤ hs.2.2.2.1 + ms := ⟨Nat.le_of_eq e1, Nat.le_of_eq e2⟩
  intro h H locs cells slots ls hf hS hl
  unfold fX3_isFree_57 at hf
  refine lv_iconst (pc := 57) (v := 0) hx hb dX3_isFree_57 rfl ?_
  exact wX3_isFree_58 cx e1 e2 a0 hth _ _ _ _ _ _ _ hf hS hl
theorem wX3_isFree_0 {r : Int32} (cx : jCx p s m args meth c cX3_isFree "WornSkin$Shelf" 4 (Option.some Jvm.ClassFile.FieldType.boolean) D dA H0 hs.2.2.2.2) (e1 : h'.2.2.1 = hs.2.2.1 + mc) (e2 : h'.2.2.2.1 = hs.2.2.2.1 + ms) (a0 : Nat) (hth : jTh hs a0 2) : ∀ (x1 : Int32) (x2 : Int32), ∀ (h : jH) (H : Heap) (locs : List Loc) (cells slots : Nat) (ls : Array Slot), (fX3_isFree a0 x1 x2).1 h = some (r, h') → jS D dA H0 hs h H locs cells slots → lv_has ls 4 [(0, .ref a0), (1, .int x1), (2, .int x2)] → W p l e { frames := 4, cells := mc, slots := ms, locals := 85 } s m args below meth c H locs cells slots (jQ D dA H0 below s (.returned (some (.int r))) h' mc ms) (F0 m 0 ls []) := by
  have hx := cx.1
  have hb := cx.2.1
  have hown := cx.2.2.2.1
  have hts := cx.2.2.2.2.1
  have hm : h'.2.2.1 ≤ hs.2.2.1 + mc ∧ h'.2.2.2.1 ≤ hs.2.2.2.1 + ms := ⟨Nat.le_of_eq e1, Nat.le_of_eq e2⟩
  intro x1 x2 h H locs cells slots ls hf hS hl
  unfold fX3_isFree at hf
  refine lv_bipush (pc := 0) (v := 6) hx hb dX3_isFree_0 rfl ?_
  refine lv_iload_n (pc := 2) hx hb dX3_isFree_2 rfl (lv_at hl 1 rfl) ?_
  refine lv_imul (pc := 3) hx hb dX3_isFree_3 ?_
  refine lv_iload_n (pc := 4) hx hb dX3_isFree_4 rfl (lv_at hl 2 rfl) ?_
  refine lv_iadd (pc := 5) hx hb dX3_isFree_5 ?_
  refine lv_istore_n (pc := 6) (i := 3) (lv' := [(3, .int ((6 * x1) + x2)), (0, .ref a0), (1, .int x1), (2, .int x2)]) hx hb dX3_isFree_6 rfl hl (Nat.le_of_ble_eq_true rfl) rfl (fun ls hl => ?_)
  refine lv_iload_n (pc := 7) hx hb dX3_isFree_7 rfl (lv_at hl 3 rfl) ?_
  refine lv_aload_n (pc := 8) hx hb dX3_isFree_8 rfl (lv_at hl 1 rfl) ?_
  refine lv_iload_n (pc := 9) hx hb dX3_isFree_9 rfl (lv_at hl 2 rfl) ?_
  obtain ⟨y1, h1, e9, hf⟩ := jB_some hf
  refine j_callV (pc := 10) (st1 := [va_rf y1, .int x2]) (As := [.int x1]) (rest := [.int x2]) cx hS rfl hl.1 hm (metX3_skin l _ _ _ _ _ (hth.at hS) e9) (jle hf) (hth.at hS) rfl (lw_V q379 q380 q381 q114 q382) pdX3_skin rfl rfl (Nat.le_of_ble_eq_true rfl) ⟨Nat.le_of_ble_eq_true rfl, Nat.le_of_ble_eq_true rfl⟩ dX3_isFree_10 rfl (fun H locs cells slots hS => ?_)
  refine j_gI (pc := 13) cx hS hf fd_WornSkin_Skin_lines q840 dX3_isFree_13 (fun y2 hf => ?_)
  refine lv_icmp_ge (pc := 16) (tgt := 57) hx hb dX3_isFree_16 (by decide) (fun hc => ?_) (fun hc => ?_)
  · have hf := jI_t hf hc
    exact wX3_isFree_57 cx e1 e2 a0 hth _ _ _ _ _ _ hf hS (lv_sub hl [1] rfl)
  · have hf := jI_f hf hc
    refine lv_aload_n (pc := 19) hx hb dX3_isFree_19 rfl (lv_at hl 1 rfl) ?_
    refine lv_iload_n (pc := 20) hx hb dX3_isFree_20 rfl (lv_at hl 2 rfl) ?_
    obtain ⟨y3, h1, e9, hf⟩ := jB_some hf
    refine j_callV (pc := 21) (st1 := [va_rf y3]) (As := [.int x1]) (rest := []) cx hS rfl hl.1 hm (metX3_skin l _ _ _ _ _ (hth.at hS) e9) (jle hf) (hth.at hS) rfl (lw_V q379 q380 q381 q114 q382) pdX3_skin rfl rfl (Nat.le_of_ble_eq_true rfl) ⟨Nat.le_of_ble_eq_true rfl, Nat.le_of_ble_eq_true rfl⟩ dX3_isFree_21 rfl (fun H locs cells slots hS => ?_)
    refine j_gI (pc := 24) cx hS hf fd_WornSkin_Skin_holes q845 dX3_isFree_24 (fun y4 hf => ?_)
    refine lv_iload_n (pc := 27) hx hb dX3_isFree_27 rfl (lv_at hl 3 rfl) ?_
    obtain ⟨y5, h1, e9, hf⟩ := jB_some hf
    refine j_callSN (pc := 28) (st1 := [.int y5]) (As := [.int y4, .int x2]) (rest := []) cx hS rfl hl.1 hm (metX1_has l _ _ _ _ _ e9) (jle hf) q865 q864 q1184 q112 pdX1_has rfl rfl (Nat.le_of_ble_eq_true rfl) ⟨Nat.le_of_ble_eq_true rfl, Nat.le_of_ble_eq_true rfl⟩ dX3_isFree_28 rfl (fun H locs cells slots hS => ?_)
    refine lv_if_ne (pc := 31) (tgt := 57) hx hb dX3_isFree_31 (by decide) (fun hc => ?_) (fun hc => ?_)
    · have hf := jI_f hf hc
      exact wX3_isFree_57 cx e1 e2 a0 hth _ _ _ _ _ _ hf hS (lv_sub hl [1] rfl)
    · have hf := jI_t hf hc
      refine lv_aload_n (pc := 34) hx hb dX3_isFree_34 rfl (lv_at hl 1 rfl) ?_
      refine lv_iload_n (pc := 35) hx hb dX3_isFree_35 rfl (lv_at hl 0 rfl) ?_
      obtain ⟨y6, h1, e9, hf⟩ := jB_some hf
      refine j_callV (pc := 36) (st1 := [.int y6]) (As := [.int ((6 * x1) + x2)]) (rest := []) cx hS rfl hl.1 hm (metX3_isOpen l _ _ _ _ _ (hth.at hS) e9) (jle hf) (hth.at hS) rfl (lw_V q1180 q1181 q1182 q114 q1183) pdX3_isOpen rfl rfl (Nat.le_of_ble_eq_true rfl) ⟨Nat.le_of_ble_eq_true rfl, Nat.le_of_ble_eq_true rfl⟩ dX3_isFree_36 rfl (fun H locs cells slots hS => ?_)
      refine lv_if_ne (pc := 39) (tgt := 57) hx hb dX3_isFree_39 (by decide) (fun hc => ?_) (fun hc => ?_)
      · have hf := jI_f hf hc
        exact wX3_isFree_57 cx e1 e2 a0 hth _ _ _ _ _ _ hf hS (lv_sub hl [1] rfl)
      · have hf := jI_t hf hc
        refine lv_aload_n (pc := 42) hx hb dX3_isFree_42 rfl (lv_at hl 1 rfl) ?_
        refine j_gR (pc := 43) cx hS hf fd_WornSkin_Shelf_many q266 dX3_isFree_43 (fun y7 hf => ?_)
        refine lv_iload_n (pc := 46) hx hb dX3_isFree_46 rfl (lv_at hl 0 rfl) ?_
        refine j_aI (pc := 47) cx hS hf rfl dX3_isFree_47 (fun y8 hf => ?_)
        refine lv_bipush (pc := 48) (v := 9) hx hb dX3_isFree_48 rfl ?_
        refine lv_icmp_ge (pc := 50) (tgt := 57) hx hb dX3_isFree_50 (by decide) (fun hc => ?_) (fun hc => ?_)
        · have hf := jI_t hf hc
          exact wX3_isFree_57 cx e1 e2 a0 hth _ _ _ _ _ _ hf hS (lv_sub hl [1] rfl)
        · have hf := jI_f hf hc
          refine lv_iconst (pc := 53) (v := 1) hx hb dX3_isFree_53 rfl ?_
          refine lv_goto (pc := 54) (tgt := 58) hx hb dX3_isFree_54 (by decide) ?_
          exact wX3_isFree_58 cx e1 e2 a0 hth _ _ _ _ _ _ _ hf hS (lv_sub hl [1] rfl)
theorem metX3_isFree (l : Launch) (a0 : Nat) (x1 : Int32) (x2 : Int32) (h h' : jH) (r : Int32) (hth : jcd h a0 = some 2) (hf : (fX3_isFree a0 x1 x2).1 h = some (r, h')) : jMet l yX3_isFree (ws_ yX3_isFree cX3_isFree 4 (Option.some Jvm.ClassFile.FieldType.boolean)) (4) (85) [.ref a0, .int x1, .int x2] h h' (.returned (some (.int r))) := by
  refine jStart rfl (jle hf) (Nat.le_of_ble_eq_true rfl) ?_
  intro p e s m below meth c D dA H0 mc ms ls cx hnm e1 e2 hS hl
  have hth := jTh.mk hS hth
  exact wX3_isFree_0 cx e1 e2 a0 hth _ _ _ _ _ _ _ _ hf hS hl
def fX3_mayWrite_46 (N : Nat) (a0 : Nat) : jM Int32 := jRn .boolean 1
def fX3_mayWrite_38 (N : Nat) (a0 : Nat) : jM Int32 := jRn .boolean 0
def fX3_mayWrite_13 (N : Nat) (a0 : Nat) : Nat → Int32 → Int32 → Int32 → Int32 → jM Int32
  | 0, _, _, _, _ => jE
  | n + 1, x1, x2, x3, x4 => jB (fX3_text a0 x1) fun y1 => jB (jgI [13, 14, 15, 16] 1 y1) fun y2 => if (x3 + y2) ≤ x4 then (fX3_mayWrite_46 N a0) else (jB (fX3_isFree a0 x2 x4) fun y3 => if y3 = 0 then (fX3_mayWrite_38 N a0) else (fX3_mayWrite_13 N a0 n x1 x2 x3 (x4 + 1)))
def fX3_mayWrite (N : Nat) (a0 : Nat) (x1 : Int32) (x2 : Int32) (x3 : Int32) : jM Int32 := jB (fX3_isGone a0 x2) fun y1 => if y1 = 0 then (fX3_mayWrite_13 N a0 N x1 x2 x3 x3) else (jRn .boolean 0)
theorem wX3_mayWrite_46 {N : Nat} {r : Int32} (cx : jCx p s m args meth c cX3_mayWrite "WornSkin$Shelf" 5 (Option.some Jvm.ClassFile.FieldType.boolean) D dA H0 hs.2.2.2.2) (e1 : h'.2.2.1 = hs.2.2.1 + mc) (e2 : h'.2.2.2.1 = hs.2.2.2.1 + ms) (a0 : Nat) (hth : jTh hs a0 2) : ∀ (h : jH) (H : Heap) (locs : List Loc) (cells slots : Nat) (ls : Array Slot), (fX3_mayWrite_46 N a0).1 h = some (r, h') → jS D dA H0 hs h H locs cells slots → lv_has ls 5 [(0, .ref a0)] → W p l e { frames := 5, cells := mc, slots := ms, locals := 108 } s m args below meth c H locs cells slots (jQ D dA H0 below s (.returned (some (.int r))) h' mc ms) (F0 m 46 ls []) := by
  have hx := cx.1
  have hb := cx.2.1
  have hown := cx.2.2.2.1
  have hts := cx.2.2.2.2.1
  have hm : h'.2.2.1 ≤ hs.2.2.1 + mc ∧ h'.2.2.2.1 ≤ hs.2.2.2.1 + ms := ⟨Nat.le_of_eq e1, Nat.le_of_eq e2⟩
  intro h H locs cells slots ls hf hS hl
  unfold fX3_mayWrite_46 at hf
  refine lv_iconst (pc := 46) (v := 1) hx hb dX3_mayWrite_46 rfl ?_
  exact j_zret (pc := 47) cx (Or.inl rfl) hS hf e1 e2 dX3_mayWrite_47
theorem wX3_mayWrite_38 {N : Nat} {r : Int32} (cx : jCx p s m args meth c cX3_mayWrite "WornSkin$Shelf" 5 (Option.some Jvm.ClassFile.FieldType.boolean) D dA H0 hs.2.2.2.2) (e1 : h'.2.2.1 = hs.2.2.1 + mc) (e2 : h'.2.2.2.1 = hs.2.2.2.1 + ms) (a0 : Nat) (hth : jTh hs a0 2) : ∀ (h : jH) (H : Heap) (locs : List Loc) (cells slots : Nat) (ls : Array Slot), (fX3_mayWrite_38 N a0).1 h = some (r, h') → jS D dA H0 hs h H locs cells slots → lv_has ls 5 [(0, .ref a0)] → W p l e { frames := 5, cells := mc, slots := ms, locals := 108 } s m args below meth c H locs cells slots (jQ D dA H0 below s (.returned (some (.int r))) h' mc ms) (F0 m 38 ls []) := by
  have hx := cx.1
  have hb := cx.2.1
  have hown := cx.2.2.2.1
  have hts := cx.2.2.2.2.1
  have hm : h'.2.2.1 ≤ hs.2.2.1 + mc ∧ h'.2.2.2.1 ≤ hs.2.2.2.1 + ms := ⟨Nat.le_of_eq e1, Nat.le_of_eq e2⟩
  intro h H locs cells slots ls hf hS hl
  unfold fX3_mayWrite_38 at hf
  refine lv_iconst (pc := 38) (v := 0) hx hb dX3_mayWrite_38 rfl ?_
  exact j_zret (pc := 39) cx (Or.inl rfl) hS hf e1 e2 dX3_mayWrite_39
theorem wX3_mayWrite_13 {N : Nat} {r : Int32} (cx : jCx p s m args meth c cX3_mayWrite "WornSkin$Shelf" 5 (Option.some Jvm.ClassFile.FieldType.boolean) D dA H0 hs.2.2.2.2) (e1 : h'.2.2.1 = hs.2.2.1 + mc) (e2 : h'.2.2.2.1 = hs.2.2.2.1 + ms) (a0 : Nat) (hth : jTh hs a0 2) : ∀ (n : Nat) (x1 : Int32) (x2 : Int32) (x3 : Int32) (x4 : Int32), ∀ (h : jH) (H : Heap) (locs : List Loc) (cells slots : Nat) (ls : Array Slot), (fX3_mayWrite_13 N a0 n x1 x2 x3 x4).1 h = some (r, h') → jS D dA H0 hs h H locs cells slots → lv_has ls 5 [(0, .ref a0), (1, .int x1), (2, .int x2), (3, .int x3), (4, .int x4)] → W p l e { frames := 5, cells := mc, slots := ms, locals := 108 } s m args below meth c H locs cells slots (jQ D dA H0 below s (.returned (some (.int r))) h' mc ms) (F0 m 13 ls []) := by
  have hx := cx.1
  have hb := cx.2.1
  have hown := cx.2.2.2.1
  have hts := cx.2.2.2.2.1
  have hm : h'.2.2.1 ≤ hs.2.2.1 + mc ∧ h'.2.2.2.1 ≤ hs.2.2.2.1 + ms := ⟨Nat.le_of_eq e1, Nat.le_of_eq e2⟩
  intro n
  induction n with
  | zero =>
    intro x1 x2 x3 x4 h H locs cells slots ls hf hS hl
    exact jE_f hf
  | succ n ih =>
    intro x1 x2 x3 x4 h H locs cells slots ls hf hS hl
    unfold fX3_mayWrite_13 at hf
    refine lv_iload (pc := 13) hx hb dX3_mayWrite_13 (lv_at hl 4 rfl) ?_
    refine lv_iload_n (pc := 15) hx hb dX3_mayWrite_15 rfl (lv_at hl 3 rfl) ?_
    refine lv_aload_n (pc := 16) hx hb dX3_mayWrite_16 rfl (lv_at hl 0 rfl) ?_
    refine lv_iload_n (pc := 17) hx hb dX3_mayWrite_17 rfl (lv_at hl 1 rfl) ?_
    obtain ⟨y1, h1, e9, hf⟩ := jB_some hf
    refine j_callV (pc := 18) (st1 := [va_rf y1, .int x3, .int x4]) (As := [.int x1]) (rest := [.int x3, .int x4]) cx hS rfl hl.1 hm (metX3_text l _ _ _ _ _ (hth.at hS) e9) (jle hf) (hth.at hS) rfl (lw_V q1193 q1194 q1195 q114 q1196) pdX3_text rfl rfl (Nat.le_of_ble_eq_true rfl) ⟨Nat.le_of_ble_eq_true rfl, Nat.le_of_ble_eq_true rfl⟩ dX3_mayWrite_18 rfl (fun H locs cells slots hS => ?_)
    refine j_gI (pc := 21) cx hS hf fd_WornSkin_Text_lines q893 dX3_mayWrite_21 (fun y2 hf => ?_)
    refine lv_iadd (pc := 24) hx hb dX3_mayWrite_24 ?_
    refine lv_icmp_ge (pc := 25) (tgt := 46) hx hb dX3_mayWrite_25 (by decide) (fun hc => ?_) (fun hc => ?_)
    · have hf := jI_t hf hc
      exact wX3_mayWrite_46 cx e1 e2 a0 hth _ _ _ _ _ _ hf hS (lv_sub hl [0] rfl)
    · have hf := jI_f hf hc
      refine lv_aload_n (pc := 28) hx hb dX3_mayWrite_28 rfl (lv_at hl 0 rfl) ?_
      refine lv_iload_n (pc := 29) hx hb dX3_mayWrite_29 rfl (lv_at hl 2 rfl) ?_
      refine lv_iload (pc := 30) hx hb dX3_mayWrite_30 (lv_at hl 4 rfl) ?_
      obtain ⟨y3, h1, e9, hf⟩ := jB_some hf
      refine j_callV (pc := 32) (st1 := [.int y3]) (As := [.int x2, .int x4]) (rest := []) cx hS rfl hl.1 hm (metX3_isFree l _ _ _ _ _ _ (hth.at hS) e9) (jle hf) (hth.at hS) rfl (lw_V q1344 q1345 q1346 q114 q1347) pdX3_isFree rfl rfl (Nat.le_of_ble_eq_true rfl) ⟨Nat.le_of_ble_eq_true rfl, Nat.le_of_ble_eq_true rfl⟩ dX3_mayWrite_32 rfl (fun H locs cells slots hS => ?_)
      refine lv_if_ne (pc := 35) (tgt := 40) hx hb dX3_mayWrite_35 (by decide) (fun hc => ?_) (fun hc => ?_)
      · have hf := jI_f hf hc
        refine lv_iinc (pc := 40) (v := (x4 + 1)) (lv' := [(4, .int (x4 + 1)), (0, .ref a0), (1, .int x1), (2, .int x2), (3, .int x3)]) hx hb dX3_mayWrite_40 hl (k := 4) rfl rfl (Nat.le_of_ble_eq_true rfl) rfl (fun ls hl => ?_)
        refine lv_goto (pc := 43) (tgt := 13) hx hb dX3_mayWrite_43 (by decide) ?_
        exact ih _ _ _ _ _ _ _ _ _ _ hf hS (lv_sub hl [1, 2, 3, 4, 0] rfl)
      · have hf := jI_t hf hc
        exact wX3_mayWrite_38 cx e1 e2 a0 hth _ _ _ _ _ _ hf hS (lv_sub hl [0] rfl)
theorem wX3_mayWrite_0 {N : Nat} {r : Int32} (cx : jCx p s m args meth c cX3_mayWrite "WornSkin$Shelf" 5 (Option.some Jvm.ClassFile.FieldType.boolean) D dA H0 hs.2.2.2.2) (e1 : h'.2.2.1 = hs.2.2.1 + mc) (e2 : h'.2.2.2.1 = hs.2.2.2.1 + ms) (a0 : Nat) (hth : jTh hs a0 2) : ∀ (x1 : Int32) (x2 : Int32) (x3 : Int32), ∀ (h : jH) (H : Heap) (locs : List Loc) (cells slots : Nat) (ls : Array Slot), (fX3_mayWrite N a0 x1 x2 x3).1 h = some (r, h') → jS D dA H0 hs h H locs cells slots → lv_has ls 5 [(0, .ref a0), (1, .int x1), (2, .int x2), (3, .int x3)] → W p l e { frames := 5, cells := mc, slots := ms, locals := 108 } s m args below meth c H locs cells slots (jQ D dA H0 below s (.returned (some (.int r))) h' mc ms) (F0 m 0 ls []) := by
  have hx := cx.1
  have hb := cx.2.1
  have hown := cx.2.2.2.1
  have hts := cx.2.2.2.2.1
  have hm : h'.2.2.1 ≤ hs.2.2.1 + mc ∧ h'.2.2.2.1 ≤ hs.2.2.2.1 + ms := ⟨Nat.le_of_eq e1, Nat.le_of_eq e2⟩
  intro x1 x2 x3 h H locs cells slots ls hf hS hl
  unfold fX3_mayWrite at hf
  refine lv_aload_n (pc := 0) hx hb dX3_mayWrite_0 rfl (lv_at hl 0 rfl) ?_
  refine lv_iload_n (pc := 1) hx hb dX3_mayWrite_1 rfl (lv_at hl 2 rfl) ?_
  obtain ⟨y1, h1, e9, hf⟩ := jB_some hf
  refine j_callV (pc := 2) (st1 := [.int y1]) (As := [.int x2]) (rest := []) cx hS rfl hl.1 hm (metX3_isGone l _ _ _ _ _ (hth.at hS) e9) (jle hf) (hth.at hS) rfl (lw_V q1340 q1341 q1342 q114 q1343) pdX3_isGone rfl rfl (Nat.le_of_ble_eq_true rfl) ⟨Nat.le_of_ble_eq_true rfl, Nat.le_of_ble_eq_true rfl⟩ dX3_mayWrite_2 rfl (fun H locs cells slots hS => ?_)
  refine lv_if_eq (pc := 5) (tgt := 10) hx hb dX3_mayWrite_5 (by decide) (fun hc => ?_) (fun hc => ?_)
  · have hf := jI_t hf hc
    refine lv_iload_n (pc := 10) hx hb dX3_mayWrite_10 rfl (lv_at hl 3 rfl) ?_
    refine lv_istore (pc := 11) (i := 4) (lv' := [(4, .int x3), (0, .ref a0), (1, .int x1), (2, .int x2), (3, .int x3)]) hx hb dX3_mayWrite_11 hl (Nat.le_of_ble_eq_true rfl) rfl (fun ls hl => ?_)
    exact wX3_mayWrite_13 cx e1 e2 a0 hth N _ _ _ _ _ _ _ _ _ _ hf hS (lv_sub hl [1, 2, 3, 4, 0] rfl)
  · have hf := jI_f hf hc
    refine lv_iconst (pc := 8) (v := 0) hx hb dX3_mayWrite_8 rfl ?_
    exact j_zret (pc := 9) cx (Or.inl rfl) hS hf e1 e2 dX3_mayWrite_9
theorem metX3_mayWrite (l : Launch) (N : Nat) (a0 : Nat) (x1 : Int32) (x2 : Int32) (x3 : Int32) (h h' : jH) (r : Int32) (hth : jcd h a0 = some 2) (hf : (fX3_mayWrite N a0 x1 x2 x3).1 h = some (r, h')) : jMet l yX3_mayWrite (ws_ yX3_mayWrite cX3_mayWrite 5 (Option.some Jvm.ClassFile.FieldType.boolean)) (5) (108) [.ref a0, .int x1, .int x2, .int x3] h h' (.returned (some (.int r))) := by
  refine jStart rfl (jle hf) (Nat.le_of_ble_eq_true rfl) ?_
  intro p e s m below meth c D dA H0 mc ms ls cx hnm e1 e2 hS hl
  have hth := jTh.mk hS hth
  exact wX3_mayWrite_0 cx e1 e2 a0 hth _ _ _ _ _ _ _ _ _ hf hS hl
def fX3_copies (a0 : Nat) (x1 : Option Nat) : jM (Option Nat) := jB (jgR [2] 0 x1) fun y1 => jB (jpR [2] 0 (some a0) y1) fun _ => jB (jgI [2] 1 x1) fun y2 => jB (jpI [2] 1 (some a0) y2) fun _ => jB (jgI [2] 2 x1) fun y3 => jB (jpI [2] 2 (some a0) y3) fun _ => jB (jgR [2] 3 x1) fun y4 => jB (jgR [2] 3 (some a0)) fun y5 => jB (jcpI 0 y4 0 y5 0 3) fun _ => jB (jgR [2] 4 x1) fun y6 => jB (jgR [2] 4 (some a0)) fun y7 => jB (jcpI 0 y6 0 y7 0 18) fun _ => jB (jgR [2] 5 x1) fun y8 => jB (jgR [2] 5 (some a0)) fun y9 => jB (jcpI 0 y8 0 y9 0 18) fun _ => jR (some a0)
theorem wX3_copies_0 {r : Option Nat} (cx : jCx p s m args meth c cX3_copies "WornSkin$Shelf" 2 (Option.some (Jvm.ClassFile.FieldType.object "WornSkin$Shelf")) D dA H0 hs.2.2.2.2) (e1 : h'.2.2.1 = hs.2.2.1 + mc) (e2 : h'.2.2.2.1 = hs.2.2.2.1 + ms) (a0 : Nat) (hth : jTh hs a0 2) : ∀ (x1 : Option Nat), ∀ (h : jH) (H : Heap) (locs : List Loc) (cells slots : Nat) (ls : Array Slot), (fX3_copies a0 x1).1 h = some (r, h') → jS D dA H0 hs h H locs cells slots → lv_has ls 2 [(0, .ref a0), (1, va_rf x1)] → W p l e { frames := 1, cells := mc, slots := ms, locals := 30 } s m args below meth c H locs cells slots (jQ D dA H0 below s (.returned (some (va_rf r))) h' mc ms) (F0 m 0 ls []) := by
  have hx := cx.1
  have hb := cx.2.1
  have hown := cx.2.2.2.1
  have hts := cx.2.2.2.2.1
  have hm : h'.2.2.1 ≤ hs.2.2.1 + mc ∧ h'.2.2.2.1 ≤ hs.2.2.2.1 + ms := ⟨Nat.le_of_eq e1, Nat.le_of_eq e2⟩
  intro x1 h H locs cells slots ls hf hS hl
  unfold fX3_copies at hf
  refine lv_aload_n (pc := 0) hx hb dX3_copies_0 rfl (lv_at hl 0 rfl) ?_
  refine j_aload_n (pc := 1) (r := x1) hx hb dX3_copies_1 rfl (lv_at hl 1 rfl) ?_
  refine j_gR (pc := 2) cx hS hf fd_WornSkin_Shelf_library q255 dX3_copies_2 (fun y1 hf => ?_)
  refine j_pR (pc := 5) cx hS hf fp_WornSkin_Shelf_library (Or.inl rfl) q255 dX3_copies_5 (fun h H locs hf hS => ?_)
  refine lv_aload_n (pc := 8) hx hb dX3_copies_8 rfl (lv_at hl 0 rfl) ?_
  refine j_aload_n (pc := 9) (r := x1) hx hb dX3_copies_9 rfl (lv_at hl 1 rfl) ?_
  refine j_gI (pc := 10) cx hS hf fd_WornSkin_Shelf_week q258 dX3_copies_10 (fun y2 hf => ?_)
  refine j_pI (pc := 13) cx hS hf fp_WornSkin_Shelf_week (Or.inl rfl) q258 dX3_copies_13 (fun h H locs hf hS => ?_)
  refine lv_aload_n (pc := 16) hx hb dX3_copies_16 rfl (lv_at hl 0 rfl) ?_
  refine j_aload_n (pc := 17) (r := x1) hx hb dX3_copies_17 rfl (lv_at hl 1 rfl) ?_
  refine j_gI (pc := 18) cx hS hf fd_WornSkin_Shelf_open q260 dX3_copies_18 (fun y3 hf => ?_)
  refine j_pI (pc := 21) cx hS hf fp_WornSkin_Shelf_open (Or.inl rfl) q260 dX3_copies_21 (fun h H locs hf hS => ?_)
  refine j_aload_n (pc := 24) (r := x1) hx hb dX3_copies_24 rfl (lv_at hl 1 rfl) ?_
  refine j_gR (pc := 25) cx hS hf fd_WornSkin_Shelf_thick q262 dX3_copies_25 (fun y4 hf => ?_)
  refine lv_iconst (pc := 28) (v := 0) hx hb dX3_copies_28 rfl ?_
  refine lv_aload_n (pc := 29) hx hb dX3_copies_29 rfl (lv_at hl 0 rfl) ?_
  refine j_gR (pc := 30) cx hS hf fd_WornSkin_Shelf_thick q262 dX3_copies_30 (fun y5 hf => ?_)
  refine lv_iconst (pc := 33) (v := 0) hx hb dX3_copies_33 rfl ?_
  refine lv_iconst (pc := 34) (v := 3) hx hb dX3_copies_34 rfl ?_
  refine j_cpI (pc := 35) cx hS hl.1 hf rfl q1371 q797 q796 q137 (Nat.le_of_ble_eq_true rfl) (Nat.le_of_ble_eq_true rfl) dX3_copies_35 (fun h H locs hf hS => ?_)
  refine j_aload_n (pc := 38) (r := x1) hx hb dX3_copies_38 rfl (lv_at hl 1 rfl) ?_
  refine j_gR (pc := 39) cx hS hf fd_WornSkin_Shelf_of q264 dX3_copies_39 (fun y6 hf => ?_)
  refine lv_iconst (pc := 42) (v := 0) hx hb dX3_copies_42 rfl ?_
  refine lv_aload_n (pc := 43) hx hb dX3_copies_43 rfl (lv_at hl 0 rfl) ?_
  refine j_gR (pc := 44) cx hS hf fd_WornSkin_Shelf_of q264 dX3_copies_44 (fun y7 hf => ?_)
  refine lv_iconst (pc := 47) (v := 0) hx hb dX3_copies_47 rfl ?_
  refine lv_bipush (pc := 48) (v := 18) hx hb dX3_copies_48 rfl ?_
  refine j_cpI (pc := 50) cx hS hl.1 hf rfl q1371 q797 q796 q137 (Nat.le_of_ble_eq_true rfl) (Nat.le_of_ble_eq_true rfl) dX3_copies_50 (fun h H locs hf hS => ?_)
  refine j_aload_n (pc := 53) (r := x1) hx hb dX3_copies_53 rfl (lv_at hl 1 rfl) ?_
  refine j_gR (pc := 54) cx hS hf fd_WornSkin_Shelf_many q266 dX3_copies_54 (fun y8 hf => ?_)
  refine lv_iconst (pc := 57) (v := 0) hx hb dX3_copies_57 rfl ?_
  refine lv_aload_n (pc := 58) hx hb dX3_copies_58 rfl (lv_at hl 0 rfl) ?_
  refine j_gR (pc := 59) cx hS hf fd_WornSkin_Shelf_many q266 dX3_copies_59 (fun y9 hf => ?_)
  refine lv_iconst (pc := 62) (v := 0) hx hb dX3_copies_62 rfl ?_
  refine lv_bipush (pc := 63) (v := 18) hx hb dX3_copies_63 rfl ?_
  refine j_cpI (pc := 65) cx hS hl.1 hf rfl q1371 q797 q796 q137 (Nat.le_of_ble_eq_true rfl) (Nat.le_of_ble_eq_true rfl) dX3_copies_65 (fun h H locs hf hS => ?_)
  refine lv_aload_n (pc := 68) hx hb dX3_copies_68 rfl (lv_at hl 0 rfl) ?_
  exact j_aret (pc := 69) cx hS hf (Or.inl ⟨_, rfl⟩) e1 e2 dX3_copies_69
theorem metX3_copies (l : Launch) (a0 : Nat) (x1 : Option Nat) (h h' : jH) (r : Option Nat) (hth : jcd h a0 = some 2) (hf : (fX3_copies a0 x1).1 h = some (r, h')) : jMet l yX3_copies (ws_ yX3_copies cX3_copies 2 (Option.some (Jvm.ClassFile.FieldType.object "WornSkin$Shelf"))) (1) (30) [.ref a0, va_rf x1] h h' (.returned (some (va_rf r))) := by
  refine jStart rfl (jle hf) (by cases x1 <;> exact Nat.le_of_ble_eq_true rfl) ?_
  intro p e s m below meth c D dA H0 mc ms ls cx hnm e1 e2 hS hl
  have hl : lv_has ls 2 [(0, .ref a0), (1, va_rf x1)] := by cases x1 <;> exact hl
  have hth := jTh.mk hS hth
  exact wX3_copies_0 cx e1 e2 a0 hth _ _ _ _ _ _ _ hf hS hl
def fX3_copied (a0 : Nat) : jM (Option Nat) := jB (jnw 2 6 [.null, .int 0, .int 0, .null, .null, .null]) fun q1 => jB (fX3_init q1) fun _ => jB (jrc 2 (some q1)) fun _ => jB (fX3_copies q1 (some a0)) fun y3 => jR y3
theorem wX3_copied_0 {r : Option Nat} (cx : jCx p s m args meth c cX3_copied "WornSkin$Shelf" 1 (Option.some (Jvm.ClassFile.FieldType.object "WornSkin$Shelf")) D dA H0 hs.2.2.2.2) (e1 : h'.2.2.1 = hs.2.2.1 + mc) (e2 : h'.2.2.2.1 = hs.2.2.2.1 + ms) (a0 : Nat) (hth : jTh hs a0 2) : ∀ (h : jH) (H : Heap) (locs : List Loc) (cells slots : Nat) (ls : Array Slot), (fX3_copied a0).1 h = some (r, h') → jS D dA H0 hs h H locs cells slots → lv_has ls 1 [(0, .ref a0)] → W p l e { frames := 2, cells := mc, slots := ms, locals := 51 } s m args below meth c H locs cells slots (jQ D dA H0 below s (.returned (some (va_rf r))) h' mc ms) (F0 m 0 ls []) := by
  have hx := cx.1
  have hb := cx.2.1
  have hown := cx.2.2.2.1
  have hts := cx.2.2.2.2.1
  have hm : h'.2.2.1 ≤ hs.2.2.1 + mc ∧ h'.2.2.2.1 ≤ hs.2.2.2.1 + ms := ⟨Nat.le_of_eq e1, Nat.le_of_eq e2⟩
  intro h H locs cells slots ls hf hS hl
  unfold fX3_copied at hf
  refine j_new (pc := 0) cx hS hf cn_X3 q1365 dX3_copied_0 hm (fun q1 h H cells slots hf hS => ?_)
  refine lv_dup (pc := 3) hx hb dX3_copied_3 rfl ?_
  obtain ⟨_, h1, e9, hf⟩ := jB_some hf
  refine j_callI (pc := 4) (st1 := [.ref q1]) (As := []) (rest := [.ref q1]) cx hS rfl hl.1 hm (metX3_init l _ _ _ _ e9) (jle hf) rfl q253 q252 q1366 q114 pdX3_init rfl rfl (Nat.le_of_ble_eq_true rfl) ⟨Nat.le_of_ble_eq_true rfl, Nat.le_of_ble_eq_true rfl⟩ dX3_copied_4 rfl (fun H locs cells slots hS => ?_)
  refine lv_aload_n (pc := 7) hx hb dX3_copied_7 rfl (lv_at hl 0 rfl) ?_
  obtain ⟨hrc, hf⟩ := jrc_s2 hf
  obtain ⟨y3, h1, e9, hf⟩ := jB_some hf
  refine j_callV (pc := 8) (st1 := [va_rf y3]) (As := [.ref a0]) (rest := []) cx hS rfl hl.1 hm (metX3_copies l _ _ _ _ _ hrc e9) (jle hf) hrc rfl (lw_V q1367 q1368 q1369 q114 q1370) pdX3_copies rfl rfl (Nat.le_of_ble_eq_true rfl) ⟨Nat.le_of_ble_eq_true rfl, Nat.le_of_ble_eq_true rfl⟩ dX3_copied_8 rfl (fun H locs cells slots hS => ?_)
  exact j_aret (pc := 11) cx hS hf (Or.inl ⟨_, rfl⟩) e1 e2 dX3_copied_11
theorem metX3_copied (l : Launch) (a0 : Nat) (h h' : jH) (r : Option Nat) (hth : jcd h a0 = some 2) (hf : (fX3_copied a0).1 h = some (r, h')) : jMet l yX3_copied (ws_ yX3_copied cX3_copied 1 (Option.some (Jvm.ClassFile.FieldType.object "WornSkin$Shelf"))) (2) (51) [.ref a0] h h' (.returned (some (va_rf r))) := by
  refine jStart rfl (jle hf) (Nat.le_of_ble_eq_true rfl) ?_
  intro p e s m below meth c D dA H0 mc ms ls cx hnm e1 e2 hS hl
  have hth := jTh.mk hS hth
  exact wX3_copied_0 cx e1 e2 a0 hth  _ _ _ _ _ _ hf hS hl
def fX3_writes_79 (N : Nat) (a0 : Nat) : jM Unit := jR ()
def fX3_writes_8 (N : Nat) (a0 : Nat) : Nat → Int32 → Int32 → Int32 → Int32 → jM Unit
  | 0, _, _, _, _ => jE
  | n + 1, x1, x2, x3, x4 => jB (fX3_text a0 x1) fun y1 => jB (jgI [13, 14, 15, 16] 1 y1) fun y2 => if (((6 * x2) + x3) + y2) ≤ x4 then (fX3_writes_79 N a0) else (jB (jgR [2] 4 (some a0)) fun y3 => jB (jaI 0 y3 x4) fun y4 => jB (jgR [2] 5 (some a0)) fun y5 => jB (jaI 0 y5 x4) fun y6 => jB (jsI 0 y3 x4 (y4 ||| (x1 <<< ((3 * y6) &&& 31)))) fun _ => jB (jgR [2] 5 (some a0)) fun y7 => jB (jaI 0 y7 x4) fun y8 => jB (jsI 0 y7 x4 (y8 + 1)) fun _ => jB (jgI [2] 2 (some a0)) fun y9 => jB (jpI [2] 2 (some a0) (y9 ||| (1 <<< (x4 &&& 31)))) fun _ => fX3_writes_8 N a0 n x1 x2 x3 (x4 + 1))
def fX3_writes (N : Nat) (a0 : Nat) (x1 : Int32) (x2 : Int32) (x3 : Int32) : jM Unit := fX3_writes_8 N a0 N x1 x2 x3 ((6 * x2) + x3)
theorem wX3_writes_79 {N : Nat} {r : Unit} (cx : jCx p s m args meth c cX3_writes "WornSkin$Shelf" 5 (Option.none : Option Jvm.ClassFile.FieldType) D dA H0 hs.2.2.2.2) (e1 : h'.2.2.1 = hs.2.2.1 + mc) (e2 : h'.2.2.2.1 = hs.2.2.2.1 + ms) (a0 : Nat) (hth : jTh hs a0 2) : ∀ (h : jH) (H : Heap) (locs : List Loc) (cells slots : Nat) (ls : Array Slot), (fX3_writes_79 N a0).1 h = some (r, h') → jS D dA H0 hs h H locs cells slots → lv_has ls 5 [(0, .ref a0)] → W p l e { frames := 4, cells := mc, slots := ms, locals := 85 } s m args below meth c H locs cells slots (jQ D dA H0 below s (.returned none) h' mc ms) (F0 m 79 ls []) := by
  have hx := cx.1
  have hb := cx.2.1
  have hown := cx.2.2.2.1
  have hts := cx.2.2.2.2.1
  have hm : h'.2.2.1 ≤ hs.2.2.1 + mc ∧ h'.2.2.2.1 ≤ hs.2.2.2.1 + ms := ⟨Nat.le_of_eq e1, Nat.le_of_eq e2⟩
  intro h H locs cells slots ls hf hS hl
  unfold fX3_writes_79 at hf
  exact j_vret (pc := 79) cx hS hf e1 e2 dX3_writes_79
theorem wX3_writes_8 {N : Nat} {r : Unit} (cx : jCx p s m args meth c cX3_writes "WornSkin$Shelf" 5 (Option.none : Option Jvm.ClassFile.FieldType) D dA H0 hs.2.2.2.2) (e1 : h'.2.2.1 = hs.2.2.1 + mc) (e2 : h'.2.2.2.1 = hs.2.2.2.1 + ms) (a0 : Nat) (hth : jTh hs a0 2) : ∀ (n : Nat) (x1 : Int32) (x2 : Int32) (x3 : Int32) (x4 : Int32), ∀ (h : jH) (H : Heap) (locs : List Loc) (cells slots : Nat) (ls : Array Slot), (fX3_writes_8 N a0 n x1 x2 x3 x4).1 h = some (r, h') → jS D dA H0 hs h H locs cells slots → lv_has ls 5 [(0, .ref a0), (1, .int x1), (2, .int x2), (3, .int x3), (4, .int x4)] → W p l e { frames := 4, cells := mc, slots := ms, locals := 85 } s m args below meth c H locs cells slots (jQ D dA H0 below s (.returned none) h' mc ms) (F0 m 8 ls []) := by
  have hx := cx.1
  have hb := cx.2.1
  have hown := cx.2.2.2.1
  have hts := cx.2.2.2.2.1
  have hm : h'.2.2.1 ≤ hs.2.2.1 + mc ∧ h'.2.2.2.1 ≤ hs.2.2.2.1 + ms := ⟨Nat.le_of_eq e1, Nat.le_of_eq e2⟩
  intro n
  induction n with
  | zero =>
    intro x1 x2 x3 x4 h H locs cells slots ls hf hS hl
    exact jE_f hf
  | succ n ih =>
    intro x1 x2 x3 x4 h H locs cells slots ls hf hS hl
    unfold fX3_writes_8 at hf
    refine lv_iload (pc := 8) hx hb dX3_writes_8 (lv_at hl 4 rfl) ?_
    refine lv_bipush (pc := 10) (v := 6) hx hb dX3_writes_10 rfl ?_
    refine lv_iload_n (pc := 12) hx hb dX3_writes_12 rfl (lv_at hl 2 rfl) ?_
    refine lv_imul (pc := 13) hx hb dX3_writes_13 ?_
    refine lv_iload_n (pc := 14) hx hb dX3_writes_14 rfl (lv_at hl 3 rfl) ?_
    refine lv_iadd (pc := 15) hx hb dX3_writes_15 ?_
    refine lv_aload_n (pc := 16) hx hb dX3_writes_16 rfl (lv_at hl 0 rfl) ?_
    refine lv_iload_n (pc := 17) hx hb dX3_writes_17 rfl (lv_at hl 1 rfl) ?_
    obtain ⟨y1, h1, e9, hf⟩ := jB_some hf
    refine j_callV (pc := 18) (st1 := [va_rf y1, .int ((6 * x2) + x3), .int x4]) (As := [.int x1]) (rest := [.int ((6 * x2) + x3), .int x4]) cx hS rfl hl.1 hm (metX3_text l _ _ _ _ _ (hth.at hS) e9) (jle hf) (hth.at hS) rfl (lw_V q1193 q1194 q1195 q114 q1196) pdX3_text rfl rfl (Nat.le_of_ble_eq_true rfl) ⟨Nat.le_of_ble_eq_true rfl, Nat.le_of_ble_eq_true rfl⟩ dX3_writes_18 rfl (fun H locs cells slots hS => ?_)
    refine j_gI (pc := 21) cx hS hf fd_WornSkin_Text_lines q893 dX3_writes_21 (fun y2 hf => ?_)
    refine lv_iadd (pc := 24) hx hb dX3_writes_24 ?_
    refine lv_icmp_ge (pc := 25) (tgt := 79) hx hb dX3_writes_25 (by decide) (fun hc => ?_) (fun hc => ?_)
    · have hf := jI_t hf hc
      exact wX3_writes_79 cx e1 e2 a0 hth _ _ _ _ _ _ hf hS (lv_sub hl [0] rfl)
    · have hf := jI_f hf hc
      refine lv_aload_n (pc := 28) hx hb dX3_writes_28 rfl (lv_at hl 0 rfl) ?_
      refine j_gR (pc := 29) cx hS hf fd_WornSkin_Shelf_of q264 dX3_writes_29 (fun y3 hf => ?_)
      refine lv_iload (pc := 32) hx hb dX3_writes_32 (lv_at hl 4 rfl) ?_
      refine lv_dup2_11 (pc := 34) hx hb dX3_writes_34 rfl (jrfc _) ?_
      refine j_aI (pc := 35) cx hS hf rfl dX3_writes_35 (fun y4 hf => ?_)
      refine lv_iload_n (pc := 36) hx hb dX3_writes_36 rfl (lv_at hl 1 rfl) ?_
      refine lv_iconst (pc := 37) (v := 3) hx hb dX3_writes_37 rfl ?_
      refine lv_aload_n (pc := 38) hx hb dX3_writes_38 rfl (lv_at hl 0 rfl) ?_
      refine j_gR (pc := 39) cx hS hf fd_WornSkin_Shelf_many q266 dX3_writes_39 (fun y5 hf => ?_)
      refine lv_iload (pc := 42) hx hb dX3_writes_42 (lv_at hl 4 rfl) ?_
      refine j_aI (pc := 44) cx hS hf rfl dX3_writes_44 (fun y6 hf => ?_)
      refine lv_imul (pc := 45) hx hb dX3_writes_45 ?_
      refine lv_ishl (pc := 46) hx hb dX3_writes_46 ?_
      refine lv_ior (pc := 47) hx hb dX3_writes_47 ?_
      refine j_sI (pc := 48) cx hS hf rfl dX3_writes_48 (fun h H locs hf hS => ?_)
      refine lv_aload_n (pc := 49) hx hb dX3_writes_49 rfl (lv_at hl 0 rfl) ?_
      refine j_gR (pc := 50) cx hS hf fd_WornSkin_Shelf_many q266 dX3_writes_50 (fun y7 hf => ?_)
      refine lv_iload (pc := 53) hx hb dX3_writes_53 (lv_at hl 4 rfl) ?_
      refine lv_dup2_11 (pc := 55) hx hb dX3_writes_55 rfl (jrfc _) ?_
      refine j_aI (pc := 56) cx hS hf rfl dX3_writes_56 (fun y8 hf => ?_)
      refine lv_iconst (pc := 57) (v := 1) hx hb dX3_writes_57 rfl ?_
      refine lv_iadd (pc := 58) hx hb dX3_writes_58 ?_
      refine j_sI (pc := 59) cx hS hf rfl dX3_writes_59 (fun h H locs hf hS => ?_)
      refine lv_aload_n (pc := 60) hx hb dX3_writes_60 rfl (lv_at hl 0 rfl) ?_
      refine lv_dup (pc := 61) hx hb dX3_writes_61 rfl ?_
      refine j_gI (pc := 62) cx hS hf fd_WornSkin_Shelf_open q260 dX3_writes_62 (fun y9 hf => ?_)
      refine lv_iconst (pc := 65) (v := 1) hx hb dX3_writes_65 rfl ?_
      refine lv_iload (pc := 66) hx hb dX3_writes_66 (lv_at hl 4 rfl) ?_
      refine lv_ishl (pc := 68) hx hb dX3_writes_68 ?_
      refine lv_ior (pc := 69) hx hb dX3_writes_69 ?_
      refine j_pI (pc := 70) cx hS hf fp_WornSkin_Shelf_open (Or.inl rfl) q260 dX3_writes_70 (fun h H locs hf hS => ?_)
      refine lv_iinc (pc := 73) (v := (x4 + 1)) (lv' := [(4, .int (x4 + 1)), (0, .ref a0), (1, .int x1), (2, .int x2), (3, .int x3)]) hx hb dX3_writes_73 hl (k := 4) rfl rfl (Nat.le_of_ble_eq_true rfl) rfl (fun ls hl => ?_)
      refine lv_goto (pc := 76) (tgt := 8) hx hb dX3_writes_76 (by decide) ?_
      exact ih _ _ _ _ _ _ _ _ _ _ hf hS (lv_sub hl [1, 2, 3, 4, 0] rfl)
theorem wX3_writes_0 {N : Nat} {r : Unit} (cx : jCx p s m args meth c cX3_writes "WornSkin$Shelf" 5 (Option.none : Option Jvm.ClassFile.FieldType) D dA H0 hs.2.2.2.2) (e1 : h'.2.2.1 = hs.2.2.1 + mc) (e2 : h'.2.2.2.1 = hs.2.2.2.1 + ms) (a0 : Nat) (hth : jTh hs a0 2) : ∀ (x1 : Int32) (x2 : Int32) (x3 : Int32), ∀ (h : jH) (H : Heap) (locs : List Loc) (cells slots : Nat) (ls : Array Slot), (fX3_writes N a0 x1 x2 x3).1 h = some (r, h') → jS D dA H0 hs h H locs cells slots → lv_has ls 5 [(0, .ref a0), (1, .int x1), (2, .int x2), (3, .int x3)] → W p l e { frames := 4, cells := mc, slots := ms, locals := 85 } s m args below meth c H locs cells slots (jQ D dA H0 below s (.returned none) h' mc ms) (F0 m 0 ls []) := by
  have hx := cx.1
  have hb := cx.2.1
  have hown := cx.2.2.2.1
  have hts := cx.2.2.2.2.1
  have hm : h'.2.2.1 ≤ hs.2.2.1 + mc ∧ h'.2.2.2.1 ≤ hs.2.2.2.1 + ms := ⟨Nat.le_of_eq e1, Nat.le_of_eq e2⟩
  intro x1 x2 x3 h H locs cells slots ls hf hS hl
  unfold fX3_writes at hf
  refine lv_bipush (pc := 0) (v := 6) hx hb dX3_writes_0 rfl ?_
  refine lv_iload_n (pc := 2) hx hb dX3_writes_2 rfl (lv_at hl 2 rfl) ?_
  refine lv_imul (pc := 3) hx hb dX3_writes_3 ?_
  refine lv_iload_n (pc := 4) hx hb dX3_writes_4 rfl (lv_at hl 3 rfl) ?_
  refine lv_iadd (pc := 5) hx hb dX3_writes_5 ?_
  refine lv_istore (pc := 6) (i := 4) (lv' := [(4, .int ((6 * x2) + x3)), (0, .ref a0), (1, .int x1), (2, .int x2), (3, .int x3)]) hx hb dX3_writes_6 hl (Nat.le_of_ble_eq_true rfl) rfl (fun ls hl => ?_)
  exact wX3_writes_8 cx e1 e2 a0 hth N _ _ _ _ _ _ _ _ _ _ hf hS (lv_sub hl [1, 2, 3, 4, 0] rfl)
theorem metX3_writes (l : Launch) (N : Nat) (a0 : Nat) (x1 : Int32) (x2 : Int32) (x3 : Int32) (h h' : jH) (r : Unit) (hth : jcd h a0 = some 2) (hf : (fX3_writes N a0 x1 x2 x3).1 h = some (r, h')) : jMet l yX3_writes (ws_ yX3_writes cX3_writes 5 (Option.none : Option Jvm.ClassFile.FieldType)) (4) (85) [.ref a0, .int x1, .int x2, .int x3] h h' (.returned none) := by
  refine jStart rfl (jle hf) (Nat.le_of_ble_eq_true rfl) ?_
  intro p e s m below meth c D dA H0 mc ms ls cx hnm e1 e2 hS hl
  have hth := jTh.mk hS hth
  exact wX3_writes_0 cx e1 e2 a0 hth _ _ _ _ _ _ _ _ _ hf hS hl
end
