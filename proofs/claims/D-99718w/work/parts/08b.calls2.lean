/-! CORE 7: arraycopy, an array's Class object, calls of overriding and inherited methods -/
set_option maxRecDepth 100000
theorem jpairs (at_ : Nat) : ∀ (xs : List Value) (i : Nat) (cl0 : Cell), (cl0.storePairs at_ (xs.zipIdx i)).slots.size = cl0.slots.size ∧ (cl0.storePairs at_ (xs.zipIdx i)).cls = cl0.cls ∧ (cl0.storePairs at_ (xs.zipIdx i)).vm = cl0.vm ∧
    ∀ j, j < cl0.slots.size → (cl0.storePairs at_ (xs.zipIdx i)).slots[j]? = if at_ + i ≤ j ∧ j < at_ + i + xs.length then some (xs.getD (j - (at_ + i)) .null) else cl0.slots[j]?
  | [], i, cl0 => by
    refine ⟨rfl, rfl, rfl, fun j hj => ?_⟩
    rw [if_neg (by simp only [List.length_nil]; omega)]
    rfl
  | x :: xs, i, cl0 => by
    have ih := jpairs at_ xs (i + 1) (cl0.setSlot (at_ + i) x)
    rw [List.zipIdx_cons]
    have e : cl0.storePairs at_ ((x, i) :: xs.zipIdx (i + 1)) = (cl0.setSlot (at_ + i) x).storePairs at_ (xs.zipIdx (i + 1)) := rfl
    rw [e]
    refine ⟨ih.1.trans (jsetSlot_size _ _ _), ih.2.1, ih.2.2.1, fun j hj => ?_⟩
    rw [ih.2.2.2 j (by rw [jsetSlot_size]; exact hj), jsetSlot_get _ _ _ _ hj]
    by_cases hk : j = at_ + i
    · subst hk
      rw [if_neg (by omega), if_pos rfl, if_pos (by simp only [List.length_cons]; omega)]
      simp
    · by_cases h : at_ + (i + 1) ≤ j ∧ j < at_ + (i + 1) + xs.length
      · rw [if_pos h, if_pos (by simp only [List.length_cons]; omega)]
        have e : j - (at_ + i) = (j - (at_ + (i + 1))) + 1 := by omega
        rw [e, List.getD_cons_succ]
      · rw [if_neg h, if_neg hk, if_neg (by simp only [List.length_cons]; omega)]
theorem jcopied {cs cd : Cell} {sp dp n : Int32} (j : Nat) (hj : j < cd.slots.size) : (copied cs cd sp dp n).slots[j]? = if dp.toNatClampNeg ≤ j ∧ j < dp.toNatClampNeg + n.toNatClampNeg then some (cs.slots.getD (sp.toNatClampNeg + (j - dp.toNatClampNeg)) .null) else cd.slots[j]? := by
  have e : copied cs cd sp dp n = cd.storePairs dp.toNatClampNeg ((cs.stretch sp.toNatClampNeg n.toNatClampNeg).zipIdx 0) := rfl
  rw [e, (jpairs _ _ _ _).2.2.2 j hj]
  have hl : (cs.stretch sp.toNatClampNeg n.toNatClampNeg).length = n.toNatClampNeg := by unfold Cell.stretch; simp
  rw [hl, Nat.add_zero]
  by_cases h : dp.toNatClampNeg ≤ j ∧ j < dp.toNatClampNeg + n.toNatClampNeg
  · rw [if_pos h, if_pos h]
    unfold Cell.stretch
    rw [List.getD_eq_getElem?_getD, List.getElem?_map, List.getElem?_range (by omega)]
    rfl
  · rw [if_neg h, if_neg h]
theorem jpairsM (xs : List Value) : ∀ (cell : Cell) (d k : Nat), (cell.storePairs d (xs.zipIdx k)).monitor = cell.monitor := by
  induction xs with
  | nil => intro cell d k; rfl
  | cons x xs ih =>
    intro cell d k
    rw [List.zipIdx_cons]
    exact ih _ d (k + 1)
theorem jcopied_k {cs cd : Cell} {sp dp n : Int32} : (copied cs cd sp dp n).slots.size = cd.slots.size ∧ (copied cs cd sp dp n).cls = cd.cls ∧ (copied cs cd sp dp n).vm = cd.vm ∧ (copied cs cd sp dp n).monitor = cd.monitor := by
  have e : copied cs cd sp dp n = cd.storePairs dp.toNatClampNeg ((cs.stretch sp.toNatClampNeg n.toNatClampNeg).zipIdx 0) := rfl
  rw [e]
  exact ⟨(jpairs _ _ _ _).1, (jpairs _ _ _ _).2.1, (jpairs _ _ _ _).2.2.1, jpairsM _ _ _ _⟩
theorem jnn (z : Int32) (hz : ¬ z < 0) : z.toInt = (z.toNatClampNeg : Int) := by
  have hz0 : (0 : Int) ≤ z.toInt := by
    have := Int32.not_lt.mp hz
    simpa using Int32.le_iff_toInt_le.mp this
  show z.toInt = ((z.toInt.toNat : Nat) : Int)
  omega
/-- which method a receiver of a kind runs -/
def jVw (x y : MethodName) (ci : Nat) (cc' : ByteArray) (nL' : Nat) (rt' : Option FieldType) : Prop := Cond.selects (jnm ci) x y ∈ lw_all ∧ Cond.instanceMethod y ∈ lw_all ∧ Cond.initialized y.cls ∈ lw_all ∧ Cond.code y cc' nL' rt' ∈ lw_all
/-- a call through x on b comes to oc, by whichever method it is -/
def jVm (l : Launch) (x : MethodName) (fr lo mx b : Nat) (As : List Value) (h h' : jH) (oc : Outcome) : Prop :=
  ∃ (ci : Nat) (y : MethodName) (cc' : ByteArray) (nL' : Nat) (rt' : Option FieldType), jMet l y (ws_ y cc' nL' rt') fr lo (.ref b :: As) h h' oc ∧ jcd h b = some ci ∧ jVw x y ci cc' nL' rt' ∧ nL' ≤ mx
def jnn0 (r : Option Nat) : jM Nat := jO fun _ => r
theorem jnn0_s {α : Type} {r : Option Nat} {F : Nat → jM α} {h : jH} {z : α × jH} (hf : (jB (jnn0 r) F).1 h = some z) : ∃ b, r = some b ∧ (F b).1 h = some z := by
  obtain ⟨x, h1, h2⟩ := jBO_some hf
  exact ⟨x, h1, h2⟩
theorem jfr1 {a k F : Nat} (h : a ≤ k) : a ≤ F + k := Nat.le_trans h (Nat.le_add_left k F)
theorem jfr3 {F a k : Nat} (h : a + 1 ≤ k) : F + a + 1 ≤ F + k := by omega
theorem jlo3 {L a b k : Nat} (h : a + b ≤ k) : a + (L + b) ≤ L + k := by omega
def jKo (k : Nat) : jM (Option Nat) := jO fun h => some (jopt (h.2.2.2.2 k))
def jmax (x y : Int32) : Int32 := if x < y then y else x
def jmin (x y : Int32) : Int32 := if y < x then y else x
section JC2
variable {p : Program} {l : Launch} {e : Env} {R : Room} {s : State} {m : MethodId} {args : Array Value} {below : List Frame} {meth : Method} {c : Code} {H : Heap} {locs : List Loc} {cells slots : Nat} {Q : State → Prop}
variable {cc : ByteArray} {pc : Nat} {ls : Array Slot} {st0 st1 rest : List Value} {D : va_G} {dA : Nat → ClassId → Prop} {H0 : Heap} {K : Nat → Nat} {hs h h1 : jH} {own : String} {nL : Nat} {rt : Option FieldType} {α : Type} {z : α × jH}
variable {fr lo idx : Nat} {ov : Option Value} {As : List Value}
theorem jS.copy {b : Nat} {x : jC} {H1 : Heap} {L : List Loc} (hS : jS D dA H0 hs h H locs cells slots) (hle : jLe h (jset h b x)) (hb : h.2.2.2.2 0 ≤ b) (he : jAt D dA H0.size b x H1) (z : H1.size = H.size) (oq : ∀ q : Nat, q ≠ b → H1[q]? = H[q]?) (hL : ∀ q ∈ L, q.base = b) : jS D dA H0 hs (jset h b x) H1 (locs ++ L) cells slots :=
  ⟨hS.1.set hb he z oq, hS.2.1.tr hle, fun q hq => by
    rcases List.mem_append.mp hq with h | h
    · exact hS.2.2.1 q h
    · rw [hL q h, ← hS.1.2.1]; exact hb, hS.2.2.2⟩
theorem j_cpI (cx : jCx p s m args meth c cc own nL rt D dA H0 K) (hS : jS D dA H0 hs h H locs cells slots) (hsz : ls.size = nL) {kd : Nat} {src dst : Option Nat} {sp dp n : Int32} {F : Unit → jM α} (hf : (jB (jcpI kd src sp dst dp n) F).1 h = some z) (hk : jKd kd .int) (hli : Cond.methodLink own idx arraycopyName ∈ lw_all) (hna : Cond.native arraycopyName ∈ lw_all) (hsc : Cond.static arraycopyName ∈ lw_all) (hini : Cond.initialized "java/lang/System" ∈ lw_all)
    (hfr : 1 ≤ R.frames) (hlo : (rest.map fun v => v.category).sum + 18 ≤ R.locals) (hd : decode cc pc = .ok (.invokestatic idx, 3))
    (kk : ∀ (h1 : jH) (H1 : Heap) (locs1 : List Loc), (F ()).1 h1 = some z → jS D dA H0 hs h1 H1 locs1 cells slots → W p l e R s m args below meth c H1 locs1 cells slots Q (F0 m (pc + 3) ls rest)) : W p l e R s m args below meth c H locs cells slots Q (F0 m pc ls (.int n :: .int dp :: va_rf dst :: .int sp :: va_rf src :: rest)) := by
  unfold jcpI at hf
  obtain ⟨h1, e1, hf⟩ := jBW_some hf
  obtain ⟨a, b, n1, n2, f, g, rfl, rfl, ha, hb, hbb, ⟨i1, i2, i3⟩, i4, i5, rfl⟩ := jcpIg_spec e1
  obtain ⟨c1, g2, g3, g4, g5, g6⟩ := jat_arr hS ha
  obtain ⟨c2, k2, k3, k4, k5, k6⟩ := jat_arr hS hb
  have hts := cx.2.2.2.2.1
  have hcF := cx.2.2.2.2.2.1
  obtain ⟨-, kk0, hk0, cm0, hkk0⟩ := jarr hcF hk g3 g4.2.1
  obtain ⟨-, kk1, hk1, cm1, hkk1⟩ := jarr hcF hk k3 k4.2.1
  intro T hT X
  have hnw : nativeFrameWords "java/lang/System" "arraycopy" 5 = 7 := by decide
  obtain ⟨vm', X', step⟩ := X.arraycopy cx.1 cx.2.2.2.1 (hts _ hli) (hts _ hna) (hts _ hsc) (hts _ hini) (src := a) (dst := b) (cs := c1) (cd := c2) (srcPos := sp) (destPos := dp) (n := n) (by rw [hT]; exact g2) (by rw [hT]; exact k2)
    (fun q hq => by have := g4.2.1; rw [hq] at this; cases this) (fun q hq => by have := k4.2.1; rw [hq] at this; cases this) g4.1 k4.1 hk0 hk1 hkk0 hkk1 (by decide) i1 i2 i3
    (by have := g5.1; rw [jnn sp i1, jnn n i3]; omega) (by have := k5.1; rw [jnn dp i2, jnn n i3]; omega)
    (fun vm₁ _ i hi => by
      have e : c1.slots.getD (sp.toNatClampNeg + i) .null = .int (f (sp.toNatClampNeg + i)) := by
        rw [Array.getD_eq_getD_getElem?, g6 _ (by omega)]
        rfl
      rw [e]
      exact ⟨rfl, trivial⟩)
    (g := F0 m pc ls (.int n :: .int dp :: .ref b :: .int sp :: .ref a :: rest)) rfl (by rw [cx.2.2.1]; exact hsz) (rest := rest) rfl (by rw [cx.2.1]; exact hd) hfr (by show 2 * 0 + _ + _ ≤ _; omega)
  have hT' : (T.setVm vm').heap[b]? = some c2 := by show T.heap[b]? = _; rw [hT]; exact k2
  have hlt2 : b < (T.setVm vm').heap.size := (Array.getElem?_eq_some_iff.mp hT').1
  obtain ⟨t, a1, b1⟩ := kk _ _ _ hf (hS.copy (H1 := ((T.setVm vm').setCell b (copied c1 c2 sp dp n)).heap) (L := (c1.stretch sp.toNatClampNeg n.toNatClampNeg).zipIdx.map fun q => ⟨b, dp.toNatClampNeg + q.2⟩) (jsetA_le hb) hbb
      ⟨_, copied c1 c2 sp dp n, hk, heapAt_setCell_self _ hlt2, (by rw [jcopied_k.2.1]; exact k3), ⟨by rw [jcopied_k.2.2.1]; exact k4.1, by rw [jcopied_k.2.2.1]; exact k4.2.1, by rw [jcopied_k.2.2.1, jcopied_k.2.2.2]; exact k4.2.2⟩, jSz.to jcopied_k.1 k5, fun j hj => by
        rw [jcopied j (Nat.lt_of_lt_of_le hj k5.1)]
        by_cases hc : dp.toNatClampNeg ≤ j ∧ j < dp.toNatClampNeg + n.toNatClampNeg
        · rw [if_pos hc, Array.getD_eq_getD_getElem?, g6 _ (by omega)]
          simp [jEl, va_cpy, hc]
        · rw [if_neg hc, k6 j hj]
          simp [jEl, va_cpy, hc]⟩
      (by rw [size_setCell]; show T.heap.size = _; rw [hT]) (fun q hq => by rw [heapAt_setCell_ne _ (Ne.symm hq)]; show T.heap[q]? = _; rw [hT]) (fun q hq => by
        obtain ⟨w, -, hw⟩ := List.mem_map.mp hq
        rw [← hw])) _ rfl X'
  exact ⟨t, step t a1, b1⟩
theorem j_cpR (cx : jCx p s m args meth c cc own nL rt D dA H0 K) (hS : jS D dA H0 hs h H locs cells slots) (hsz : ls.size = nL) {kd : Nat} {ok : List Nat} {src dst : Option Nat} {sp dp n : Int32} {F : Unit → jM α} (hf : (jB (jcpR kd ok src sp dst dp n) F).1 h = some z) {C : String} (hk : jKd kd (.object C)) (ho : jOk ok C) (hli : Cond.methodLink own idx arraycopyName ∈ lw_all) (hna : Cond.native arraycopyName ∈ lw_all) (hsc : Cond.static arraycopyName ∈ lw_all) (hini : Cond.initialized "java/lang/System" ∈ lw_all)
    (hfr : 1 ≤ R.frames) (hlo : (rest.map fun v => v.category).sum + 18 ≤ R.locals) (hd : decode cc pc = .ok (.invokestatic idx, 3))
    (kk : ∀ (h1 : jH) (H1 : Heap) (locs1 : List Loc), (F ()).1 h1 = some z → jS D dA H0 hs h1 H1 locs1 cells slots → W p l e R s m args below meth c H1 locs1 cells slots Q (F0 m (pc + 3) ls rest)) (h7 : jnd kd = true := by decide) : W p l e R s m args below meth c H locs cells slots Q (F0 m pc ls (.int n :: .int dp :: va_rf dst :: .int sp :: va_rf src :: rest)) := by
  unfold jcpR at hf
  obtain ⟨h1, e1, hf⟩ := jBW_some hf
  obtain ⟨a, b, n1, n2, f, g, rfl, rfl, ha, hb, hbb, ⟨i1, i2, i3⟩, i4, i5, i6, rfl⟩ := jcpRg_spec e1
  obtain ⟨c1, g2, g3, g4, g5, g6⟩ := jat_arr hS ha
  obtain ⟨c2, k2, k3, k4, k5, k6⟩ := jat_arr hS hb
  have hts := cx.2.2.2.2.1
  have hcF := cx.2.2.2.2.2.1
  obtain ⟨-, kk0, hk0, cm0, hkk0⟩ := jarr hcF hk g3 g4.2.1
  obtain ⟨-, kk1, hk1, cm1, hkk1⟩ := jarr hcF hk k3 k4.2.1
  intro T hT X
  have hnw : nativeFrameWords "java/lang/System" "arraycopy" 5 = 7 := by decide
  obtain ⟨vm', X', step⟩ := X.arraycopy cx.1 cx.2.2.2.1 (hts _ hli) (hts _ hna) (hts _ hsc) (hts _ hini) (src := a) (dst := b) (cs := c1) (cd := c2) (srcPos := sp) (destPos := dp) (n := n) (by rw [hT]; exact g2) (by rw [hT]; exact k2)
    (fun q hq => by have := g4.2.1; rw [hq] at this; cases this) (fun q hq => by have := k4.2.1; rw [hq] at this; cases this) g4.1 k4.1 hk0 hk1 hkk0 hkk1 rfl i1 i2 i3
    (by have := g5.1; rw [jnn sp i1, jnn n i3]; omega) (by have := k5.1; rw [jnn dp i2, jnn n i3]; omega)
    (fun vm₁ hal i hi => by
      have e : c1.slots.getD (sp.toNatClampNeg + i) .null = va_rf (f (sp.toNatClampNeg + i)) := by
        rw [Array.getD_eq_getD_getElem?, g6 _ (by omega)]
        rfl
      rw [e]
      have hok := List.all_eq_true.mp i6 i (List.mem_range.mpr hi)
      cases hy : f (sp.toNatClampNeg + i) with
      | none => exact ⟨rfl, trivial⟩
      | some y =>
        rw [hy] at hok
        unfold jokR at hok
        dsimp only at hok
        split at hok
        · rename_i k hkk
          obtain ⟨c7, ⟨kA, comp, r1, r2, r3, -⟩, hu7⟩ := (hcF.2.2.1 kd _ hk).2 h7
          have hcomp : comp = cm1 := by
            rw [(hu7 _).mp k3] at hk1
            cases r1.symm.trans hk1
            rw [hkk1] at r2
            injection r2 with q1 q2
            exact q1.symm
          obtain ⟨cellV, v1, v2, v3, v4⟩ := jok_asg hcF hS hkk (of_decide_eq_true hok) ho r3
          obtain ⟨kC, hkC, -⟩ := Vm.findClass_spec v3
          obtain ⟨kE, hkE, -⟩ := Vm.findClass_spec r3
          obtain ⟨kC', hkC', -⟩ := hal.2.2 _ _ hkC
          obtain ⟨kE', hkE', -⟩ := hal.2.2 _ _ hkE
          subst hcomp
          refine ⟨rfl, cellV, (show T.heap[y]? = some cellV by rw [hT]; exact v1), (fun q h => by rw [h] at v2; cases v2), ⟨kC', hkC'⟩, ?_, ?_⟩
          · exact ⟨kE', hkE'⟩
          · show vm₁.assignable _ _ = true
            rw [hal.assignable]
            exact v4
        · cases hok)
    (g := F0 m pc ls (.int n :: .int dp :: .ref b :: .int sp :: .ref a :: rest)) rfl (by rw [cx.2.2.1]; exact hsz) (rest := rest) rfl (by rw [cx.2.1]; exact hd) hfr (by show 2 * 0 + _ + _ ≤ _; omega)
  have hT' : (T.setVm vm').heap[b]? = some c2 := by show T.heap[b]? = _; rw [hT]; exact k2
  have hlt2 : b < (T.setVm vm').heap.size := (Array.getElem?_eq_some_iff.mp hT').1
  obtain ⟨t, a1, b1⟩ := kk _ _ _ hf (hS.copy (H1 := ((T.setVm vm').setCell b (copied c1 c2 sp dp n)).heap) (L := (c1.stretch sp.toNatClampNeg n.toNatClampNeg).zipIdx.map fun q => ⟨b, dp.toNatClampNeg + q.2⟩) (jsetA_le hb) hbb
      ⟨_, copied c1 c2 sp dp n, hk, heapAt_setCell_self _ hlt2, (by rw [jcopied_k.2.1]; exact k3), ⟨by rw [jcopied_k.2.2.1]; exact k4.1, by rw [jcopied_k.2.2.1]; exact k4.2.1, by rw [jcopied_k.2.2.1, jcopied_k.2.2.2]; exact k4.2.2⟩, jSz.to jcopied_k.1 k5, fun j hj => by
        rw [jcopied j (Nat.lt_of_lt_of_le hj k5.1)]
        by_cases hc : dp.toNatClampNeg ≤ j ∧ j < dp.toNatClampNeg + n.toNatClampNeg
        · rw [if_pos hc, Array.getD_eq_getD_getElem?, g6 _ (by omega)]
          simp [jEl, va_cpy, hc]
        · rw [if_neg hc, k6 j hj]
          simp [jEl, va_cpy, hc]⟩
      (by rw [size_setCell]; show T.heap.size = _; rw [hT]) (fun q hq => by rw [heapAt_setCell_ne _ (Ne.symm hq)]; show T.heap[q]? = _; rw [hT]) (fun q hq => by
        obtain ⟨w, -, hw⟩ := List.mem_map.mp hq
        rw [← hw])) _ rfl X'
  exact ⟨t, step t a1, b1⟩
/-- the Class object of an Object[] -/
def jgetC (r : Option Nat) : jM (Option Nat) := jO fun h => match r with
  | none => none
  | some a => if jcd h a = some 1004 then some (some (h.2.2.2.2 55)) else none
theorem j_getC (cx : jCx p s m args meth c cc own nL rt D dA H0 K) (hS : jS D dA H0 hs h H locs cells slots) (hK : K = hs.2.2.2.2) (hsz : ls.size = nL) {r : Option Nat} {F : Option Nat → jM α} (hf : (jB (jgetC r) F).1 h = some z) (hli : Cond.methodLink own idx ⟨"java/lang/Object", "getClass", "()Ljava/lang/Class;"⟩ ∈ lw_all) (hde : Cond.declares ⟨"java/lang/Object", "getClass", "()Ljava/lang/Class;"⟩ ∈ lw_tbl)
    (hse : Cond.selects "[Ljava/lang/Object;" ⟨"java/lang/Object", "getClass", "()Ljava/lang/Class;"⟩ ⟨"java/lang/Object", "getClass", "()Ljava/lang/Class;"⟩ ∈ lw_all) (hin : Cond.instanceMethod ⟨"java/lang/Object", "getClass", "()Ljava/lang/Class;"⟩ ∈ lw_all) (hna : Cond.native ⟨"java/lang/Object", "getClass", "()Ljava/lang/Class;"⟩ ∈ lw_all)
    (hfr : 1 ≤ R.frames) (hlo : (rest.map fun v => v.category).sum + 14 ≤ R.locals) (hd : decode cc pc = .ok (.invokevirtual idx, 3))
    (kk : ∀ x : Option Nat, (F x).1 h = some z → W p l e R s m args below meth c H locs cells slots Q (F0 m (pc + 3) ls (va_rf x :: rest))) : W p l e R s m args below meth c H locs cells slots Q (F0 m pc ls (va_rf r :: rest)) := by
  obtain ⟨x, h1, h2⟩ := jBO_some hf
  split at h1
  · cases h1
  · rename_i a
    split at h1
    · rename_i hc
      cases h1
      have hts := cx.2.2.2.2.1
      have hcF := cx.2.2.2.2.2.1
      have hr := jcd_at hcF hS hc
      rw [show jnm 1004 = "[Ljava/lang/Object;" by decide] at hr
      have hmi := hcF.2.2.2.2.2.2.1
      have e : K 55 = h.2.2.2.2 55 := by rw [hK, hS.2.1.2.2.2.1]
      rw [e] at hmi
      exact va_getC cx.1 cx.2.1 (by rw [cx.2.2.1]; exact hsz.symm) cx.2.2.2.1 (hts _ hli) (jex_use rfl (hcF.2.2.2.1 _ hde rfl)) (hts _ hse) (hts _ hin) (hts _ hna) hmi hr hfr hlo hd (kk _ h2)
    · cases h1
theorem j_callU (cx : jCx p s m args meth c cc own nL rt D dA H0 K) (hS : jS D dA H0 hs h H locs cells slots) (hK : K = hs.2.2.2.2) (hsz : ls.size = nL) (hm : z.2.2.2.1 ≤ hs.2.2.1 + R.cells ∧ z.2.2.2.2.1 ≤ hs.2.2.2.1 + R.slots)
    {x : MethodName} {mx b : Nat} (hV : jVm l x fr lo mx b As h h1 (.returned ov)) (hz : jLe h1 z.2) (hli : Cond.methodLink own idx x ∈ lw_all) (hsm : Cond.sameMethod x.cls x.cls x.name x.desc ∈ lw_all) (hdc : Cond.declares x ∈ lw_tbl ∨ ∃ b0 m0 r0, Cond.instanceMethod x ∈ lw_all ∧ Cond.code x b0 m0 r0 ∈ lw_all) {n : Nat} (hp : jPd x n) (hn : As.length = n) (hst : st0 = As.reverse ++ .ref b :: rest) (hroom : (rest.map fun v => v.category).sum ≤ 8) (hR : fr + 1 ≤ R.frames ∧ 8 + (mx + 11) + lo ≤ R.locals) (hd : decode cc pc = .ok (.invokevirtual idx, 3)) (hst1 : ov.toList ++ rest = st1)
    (kk : ∀ (H1 : Heap) (locs1 : List Loc) (cells1 slots1 : Nat), jS D dA H0 hs h1 H1 locs1 cells1 slots1 → W p l e R s m args below meth c H1 locs1 cells1 slots1 Q (F0 m (pc + 3) ls st1)) : W p l e R s m args below meth c H locs cells slots Q (F0 m pc ls st0) := by
  subst hst1
  obtain ⟨ci, y, cc', nL', rt', hM, hrc, ⟨v1, v2, v3, v4⟩, hmx⟩ := hV
  obtain ⟨mc, ms, e1, e2, e3, e4⟩ := jroom hS hM.1 hz hm
  have hts := cx.2.2.2.2.1
  have hrv := jcd_at cx.2.2.2.2.2.1 hS hrc
  have hdecl : va_Decl s x := by
    rcases hdc with h | ⟨b0, m0, r0, h1, h2⟩
    · exact va_Decl.abs (cx.2.2.2.2.2.1.2.2.2.1 _ h rfl)
    · exact va_Decl.of (hts _ h1) (hts _ h2)
  have hcu : va_CU R s args own (jnm ci) x.cls idx x y cc' nL' rt' (ws_ y cc' nL' rt') { frames := fr, cells := mc, slots := ms, locals := lo } mc ms n := by
    refine ⟨⟨rfl, rfl, hR.1, by show 8 + (nL' + 11) + lo ≤ R.locals; omega, pay_in hts (lw_meth v4), List.mem_cons_self⟩, hts _ v4, hts _ v3, ⟨hp.1, hp.2.1⟩, fun sig h => ?_, hts _ hli, hts _ hsm, hdecl, hts _ v1, hts _ v2⟩
    have h2 := hp.2.2
    rw [h] at h2
    exact (Option.some.inj h2).symm
  exact j_after hS hM.1 e1 e2 (va_runU (C := jnm ci) (As := As) (rest := rest) ⟨cx.1, cx.2.1, cx.2.2.1, cx.2.2.2.1, cx.2.2.2.2.1⟩ (hM.met D dA H0 e1 e2) hcu ⟨jblind, hrv, jPre cx hS hK⟩ rfl hn hsz hst (lv_room (rest := st0) (pc := pc) (ls := ls) hroom) hd ⟨e3, e4⟩) kk
theorem j_getsO (cx : jCx p s m args meth c cc own nL rt D dA H0 K) (hS : jS D dA H0 hs h H locs cells slots) (hK : K = hs.2.2.2.2) {k : Nat} {F : Option Nat → jM α} (hf : (jB (jKo k) F).1 h = some z) {C n d : String} {fv : (Nat → Nat) → Value} (hx : (C, n, d, fv) ∈ jSt) (hv : fv = fun K => va_rf (jopt (K k))) {idx : Nat} (hl : Cond.fieldLink own idx C n d ∈ lw_all) (hd : decode cc pc = .ok (.getstatic idx, 3))
    (kk : ∀ x : Option Nat, (F x).1 h = some z → W p l e R s m args below meth c H locs cells slots Q (F0 m (pc + 3) ls (va_rf x :: rest))) : W p l e R s m args below meth c H locs cells slots Q (F0 m pc ls rest) := by
  obtain ⟨x, h1, h2⟩ := jBO_some hf
  cases h1
  have e : K k = h.2.2.2.2 k := by rw [hK, hS.2.1.2.2.2.1]
  exact j_gets (v := va_rf (jopt (h.2.2.2.2 k))) cx hS hx (by rw [hv, ← e]) hl hd (kk _ h2)
theorem j_max (cx : jCx p s m args meth c cc own nL rt D dA H0 K) (hS : jS D dA H0 hs h H locs cells slots) (hsz : ls.size = nL) (hz : jLe h z.2) (hm : z.2.2.2.1 ≤ hs.2.2.1 + R.cells ∧ z.2.2.2.2.1 ≤ hs.2.2.2.1 + R.slots) (hli : Cond.methodLink own idx Lib.Math.max.name ∈ lw_all) (hsc : Cond.static Lib.Math.max.name ∈ lw_all) (hini : Cond.initialized "java/lang/Math" ∈ lw_all) (hco : Cond.code Lib.Math.max.name Lib.Math.max.code 2 (some .int) ∈ lw_all)
    (hfr : 1 ≤ R.frames) (hlo : (rest.map fun v => v.category).sum + 13 ≤ R.locals) {x y : Int32} (hd : decode cc pc = .ok (.invokestatic idx, 3))
    (kk : W p l e R s m args below meth c H locs cells slots Q (F0 m (pc + 3) ls (.int (jmax x y) :: rest))) : W p l e R s m args below meth c H locs cells slots Q (F0 m pc ls (.int y :: .int x :: rest)) := by
  have hts := cx.2.2.2.2.1
  have a1 := hz.2.1
  have a2 := hz.2.2.1
  have b1 := hS.2.2.2.1
  have b2 := hS.2.2.2.2
  exact va_mmax cx.1 cx.2.1 (by rw [cx.2.2.1]; exact hsz.symm) cx.2.2.2.1 (hts _ hli) (hts _ hsc) (hts _ hini) (hts _ hco) hfr hlo (by omega) (by omega) hd kk
theorem j_min (cx : jCx p s m args meth c cc own nL rt D dA H0 K) (hS : jS D dA H0 hs h H locs cells slots) (hsz : ls.size = nL) (hz : jLe h z.2) (hm : z.2.2.2.1 ≤ hs.2.2.1 + R.cells ∧ z.2.2.2.2.1 ≤ hs.2.2.2.1 + R.slots) (hli : Cond.methodLink own idx Lib.Math.min.name ∈ lw_all) (hsc : Cond.static Lib.Math.min.name ∈ lw_all) (hini : Cond.initialized "java/lang/Math" ∈ lw_all) (hco : Cond.code Lib.Math.min.name Lib.Math.min.code 2 (some .int) ∈ lw_all)
    (hfr : 1 ≤ R.frames) (hlo : (rest.map fun v => v.category).sum + 13 ≤ R.locals) {x y : Int32} (hd : decode cc pc = .ok (.invokestatic idx, 3))
    (kk : W p l e R s m args below meth c H locs cells slots Q (F0 m (pc + 3) ls (.int (jmin x y) :: rest))) : W p l e R s m args below meth c H locs cells slots Q (F0 m pc ls (.int y :: .int x :: rest)) := by
  have hts := cx.2.2.2.2.1
  have a1 := hz.2.1
  have a2 := hz.2.2.1
  have b1 := hS.2.2.2.1
  have b2 := hS.2.2.2.2
  exact va_mmin cx.1 cx.2.1 (by rw [cx.2.2.1]; exact hsz.symm) cx.2.2.2.1 (hts _ hli) (hts _ hsc) (hts _ hini) (hts _ hco) hfr hlo (by omega) (by omega) hd kk
end JC2
