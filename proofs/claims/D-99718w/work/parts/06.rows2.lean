/-! CORE 4: arrays, what is made, kinds, constants, references -/
set_option maxRecDepth 100000
def jKd (kd : Nat) (ty : FieldType) : Prop := jTy[kd]? = some ty
theorem jsetSlot_size (cell : Cell) (i : Nat) (v : Value) : (cell.setSlot i v).slots.size = cell.slots.size := by simp [Cell.setSlot]
theorem jsetSlot_get (cell : Cell) (i : Nat) (v : Value) (j : Nat) (hj : j < cell.slots.size) : (cell.setSlot i v).slots[j]? = if j = i then some v else cell.slots[j]? := by
  by_cases h : j = i
  · subst h
    simp [Cell.setSlot, hj]
  · simp [Cell.setSlot, h, Array.getElem?_setIfInBounds, Ne.symm h]
section JR2
variable {p : Program} {l : Launch} {e : Env} {R : Room} {s : State} {m : MethodId} {args : Array Value} {below : List Frame} {meth : Method} {c : Code} {H : Heap} {locs : List Loc} {cells slots : Nat} {Q : State → Prop}
variable {cc : ByteArray} {pc : Nat} {ls : Array Slot} {rest : List Value} {D : va_G} {dA : Nat → ClassId → Prop} {H0 : Heap} {K : Nat → Nat} {hs h : jH} {own : String} {nL : Nat} {rt : Option FieldType} {α : Type} {z : α × jH}
theorem jarr {ty : FieldType} {kd : Nat} {cell : Cell} (hF : jF D dA H0 K s) (hk : jKd kd ty) (hc : dA kd cell.cls) (hv : cell.vm.isStatics = false) : s.isArrayOf cell ty := by
  obtain ⟨-, k, hk1, comp, hk2⟩ := (hF.2.2.1 kd ty hk).1 _ hc 0 (fun _ => .null)
  refine ⟨fun q hq => (by rw [hq] at hv; cases hv), k, hk1, comp, hk2⟩
/-- what an array of the abstract heap is on the machine -/
theorem jat_arr {a kd n : Nat} {x : jX} (hS : jS D dA H0 hs h H locs cells slots) (ha : h.1 a = some (.inr (kd, n, x))) : ∃ cell : Cell, H[a]? = some cell ∧ dA kd cell.cls ∧ jV H0.size a cell ∧ jSz n cell ∧ ∀ j, j < n → cell.slots[j]? = some (jEl x j) := by
  obtain ⟨ty, cell, g1, g2, g3, g4, g5, g6⟩ := hS.1.2.2.2.2 a _ ha
  exact ⟨cell, g2, g3, g4, g5, g6⟩
theorem j_aI (cx : jCx p s m args meth c cc own nL rt D dA H0 K) (hS : jS D dA H0 hs h H locs cells slots) {kd : Nat} {r : Option Nat} {i : Int32} {F : Int32 → jM α} (hf : (jB (jaI kd r i) F).1 h = some z) (hk : jKd kd .int) (hd : decode cc pc = .ok (.iaload, 1))
    (kk : ∀ x : Int32, (F x).1 h = some z → W p l e R s m args below meth c H locs cells slots Q (F0 m (pc + 1) ls (.int x :: rest))) : W p l e R s m args below meth c H locs cells slots Q (F0 m pc ls (.int i :: va_rf r :: rest)) := by
  obtain ⟨x, h1, h2⟩ := jBO_some hf
  split at h1
  · rename_i a k n f hx
    obtain ⟨rfl, ha, hin⟩ := jaE_spec hx
    split at h1
    · rename_i hkd
      subst hkd
      cases h1
      obtain ⟨cell, g2, g3, g4, g5, g6⟩ := jat_arr hS ha
      have hlt : i.toNatClampNeg < n := Nat.not_le.mp fun q => hin (Or.inr q)
      exact W.iald (v := .int (f i.toNatClampNeg)) cx.1 cx.2.1 g2 (jarr cx.2.2.2.2.2.1 hk g3 g4.2.1) g4.1 (jin g5 hin) (g6 _ hlt) rfl rfl hd (kk _ h2)
    · cases h1
  · cases h1
theorem j_aZ (cx : jCx p s m args meth c cc own nL rt D dA H0 K) (hS : jS D dA H0 hs h H locs cells slots) {kd : Nat} {r : Option Nat} {i : Int32} {F : Int32 → jM α} (hf : (jB (jaI kd r i) F).1 h = some z) (hk : jKd kd .boolean ∨ jKd kd .byte) (hd : decode cc pc = .ok (.baload, 1))
    (kk : ∀ x : Int32, (F x).1 h = some z → W p l e R s m args below meth c H locs cells slots Q (F0 m (pc + 1) ls (.int x :: rest))) : W p l e R s m args below meth c H locs cells slots Q (F0 m pc ls (.int i :: va_rf r :: rest)) := by
  obtain ⟨x, h1, h2⟩ := jBO_some hf
  split at h1
  · rename_i a k n f hx
    obtain ⟨rfl, ha, hin⟩ := jaE_spec hx
    split at h1
    · rename_i hkd
      subst hkd
      cases h1
      obtain ⟨cell, g2, g3, g4, g5, g6⟩ := jat_arr hS ha
      have hlt : i.toNatClampNeg < n := Nat.not_le.mp fun q => hin (Or.inr q)
      rcases hk with hk | hk
      · exact W.zald (v := .int (f i.toNatClampNeg)) cx.1 cx.2.1 g2 (jarr cx.2.2.2.2.2.1 hk g3 g4.2.1) g4.1 (jin g5 hin) (g6 _ hlt) rfl rfl hd (kk _ h2)
      · exact W.bald (v := .int (f i.toNatClampNeg)) cx.1 cx.2.1 g2 (jarr cx.2.2.2.2.2.1 hk g3 g4.2.1) g4.1 (jin g5 hin) (g6 _ hlt) rfl rfl hd (kk _ h2)
    · cases h1
  · cases h1
theorem j_aL (cx : jCx p s m args meth c cc own nL rt D dA H0 K) (hS : jS D dA H0 hs h H locs cells slots) {kd : Nat} {r : Option Nat} {i : Int32} {F : Int64 → jM α} (hf : (jB (jaL kd r i) F).1 h = some z) (hk : jKd kd .long) (hd : decode cc pc = .ok (.laload, 1))
    (kk : ∀ x : Int64, (F x).1 h = some z → W p l e R s m args below meth c H locs cells slots Q (F0 m (pc + 1) ls (.long x :: rest))) : W p l e R s m args below meth c H locs cells slots Q (F0 m pc ls (.int i :: va_rf r :: rest)) := by
  obtain ⟨x, h1, h2⟩ := jBO_some hf
  split at h1
  · rename_i a k n f hx
    obtain ⟨rfl, ha, hin⟩ := jaE_spec hx
    split at h1
    · rename_i hkd
      subst hkd
      cases h1
      obtain ⟨cell, g2, g3, g4, g5, g6⟩ := jat_arr hS ha
      have hlt : i.toNatClampNeg < n := Nat.not_le.mp fun q => hin (Or.inr q)
      exact W.lald (v := .long (f i.toNatClampNeg)) cx.1 cx.2.1 g2 (jarr cx.2.2.2.2.2.1 hk g3 g4.2.1) g4.1 (jin g5 hin) (g6 _ hlt) rfl rfl hd (kk _ h2)
    · cases h1
  · cases h1
theorem j_aR (cx : jCx p s m args meth c cc own nL rt D dA H0 K) (hS : jS D dA H0 hs h H locs cells slots) {kd : Nat} {r : Option Nat} {i : Int32} {F : Option Nat → jM α} (hf : (jB (jaR kd r i) F).1 h = some z) {C : String} (hk : jKd kd (.object C)) (hd : decode cc pc = .ok (.aaload, 1))
    (kk : ∀ x : Option Nat, (F x).1 h = some z → W p l e R s m args below meth c H locs cells slots Q (F0 m (pc + 1) ls (va_rf x :: rest))) : W p l e R s m args below meth c H locs cells slots Q (F0 m pc ls (.int i :: va_rf r :: rest)) := by
  obtain ⟨x, h1, h2⟩ := jBO_some hf
  split at h1
  · rename_i a k n f hx
    obtain ⟨rfl, ha, hin⟩ := jaE_spec hx
    split at h1
    · rename_i hkd
      subst hkd
      cases h1
      obtain ⟨cell, g2, g3, g4, g5, g6⟩ := jat_arr hS ha
      have hlt : i.toNatClampNeg < n := Nat.not_le.mp fun q => hin (Or.inr q)
      exact W.aald (v := va_rf (f i.toNatClampNeg)) cx.1 cx.2.1 g2 (jarr cx.2.2.2.2.2.1 hk g3 g4.2.1) rfl g4.1 (jin g5 hin) (g6 _ hlt) rfl rfl hd (kk _ h2)
    · cases h1
  · cases h1
theorem j_ln (cx : jCx p s m args meth c cc own nL rt D dA H0 K) (hS : jS D dA H0 hs h H locs cells slots) {r : Option Nat} {F : Int32 → jM α} (hf : (jB (jln r) F).1 h = some z) (hd : decode cc pc = .ok (.arraylength, 1))
    (kk : ∀ x : Int32, (F x).1 h = some z → W p l e R s m args below meth c H locs cells slots Q (F0 m (pc + 1) ls (.int x :: rest))) : W p l e R s m args below meth c H locs cells slots Q (F0 m pc ls (va_rf r :: rest)) := by
  obtain ⟨x, h1, h2⟩ := jBO_some hf
  split at h1
  · cases h1
  · rename_i a
    split at h1
    · rename_i q hq
      cases h1
      obtain ⟨ty, cell, g1, g2, g3, g4, g5, g6⟩ := hS.1.2.2.2.2 a _ hq
      exact W.alen (n := nI q.2.1) cx.1 cx.2.1 g2 (jarr cx.2.2.2.2.2.1 (kd := q.1) g1 g3 g4.2.1) g5.2 rfl rfl hd (kk _ h2)
    · cases h1
/-- an array's cell is written -/
theorem jat_set {a kd n i : Nat} {x x' : jX} {v : Value} {cell : Cell} {H1 : Heap} (g1 : ∃ ty, jTy[kd]? = some ty) (g3 : dA kd cell.cls) (g4 : jV H0.size a cell) (g5 : jSz n cell) (g6 : ∀ j, j < n → cell.slots[j]? = some (jEl x j)) (hb : H0.size ≤ a) (he : H1[a]? = some (cell.setSlot i v)) (hx : ∀ j, j < n → (if j = i then v else jEl x j) = jEl x' j) : jAt D dA H0.size a (.inr (kd, n, x')) H1 := by
  obtain ⟨ty, g1⟩ := g1
  refine ⟨ty, _, g1, he, g3, g4, jSz.to (jsetSlot_size _ _ _) g5, fun j hj => ?_⟩
  rw [jsetSlot_get _ _ _ _ (Nat.lt_of_lt_of_le hj g5.1), ← hx j hj, g6 j hj]
  split <;> rfl
theorem j_sI (cx : jCx p s m args meth c cc own nL rt D dA H0 K) (hS : jS D dA H0 hs h H locs cells slots) {kd : Nat} {r : Option Nat} {i x : Int32} {F : Unit → jM α} (hf : (jB (jsI kd r i x) F).1 h = some z) (hk : jKd kd .int) (hd : decode cc pc = .ok (.iastore, 1))
    (kk : ∀ (h1 : jH) (H1 : Heap) (locs1 : List Loc), (F ()).1 h1 = some z → jS D dA H0 hs h1 H1 locs1 cells slots → W p l e R s m args below meth c H1 locs1 cells slots Q (F0 m (pc + 1) ls rest)) : W p l e R s m args below meth c H locs cells slots Q (F0 m pc ls (.int x :: .int i :: va_rf r :: rest)) := by
  unfold jsI at hf
  obtain ⟨h1, e1, hf⟩ := jBW_some hf
  obtain ⟨a, n, f, rfl, ha, hin, hb, rfl⟩ := jsIg_spec e1
  obtain ⟨cell, g2, g3, g4, g5, g6⟩ := jat_arr hS ha
  refine W.iast cx.1 cx.2.1 g2 (jarr cx.2.2.2.2.2.1 hk g3 g4.2.1) g4.1 (jin g5 hin) rfl rfl hd fun H1 e z oq => ?_
  refine kk _ H1 _ hf (hS.set (jsetA_le ha) hb (jat_set ⟨_, hk⟩ g3 g4 g5 g6 (by rw [← hS.1.2.1]; exact hb) e (fun j _ => ?_)) z oq)
  by_cases hj : j = i.toNatClampNeg <;> simp [jEl, upd, hj]
theorem j_sZ (cx : jCx p s m args meth c cc own nL rt D dA H0 K) (hS : jS D dA H0 hs h H locs cells slots) {kd : Nat} {r : Option Nat} {i x : Int32} {F : Unit → jM α} (hf : (jB (jsZ kd r i x) F).1 h = some z) (hk : jKd kd .boolean) (hd : decode cc pc = .ok (.bastore, 1))
    (kk : ∀ (h1 : jH) (H1 : Heap) (locs1 : List Loc), (F ()).1 h1 = some z → jS D dA H0 hs h1 H1 locs1 cells slots → W p l e R s m args below meth c H1 locs1 cells slots Q (F0 m (pc + 1) ls rest)) : W p l e R s m args below meth c H locs cells slots Q (F0 m pc ls (.int x :: .int i :: va_rf r :: rest)) := by
  unfold jsZ at hf
  by_cases hx : x = 0 ∨ x = 1
  · rw [if_pos hx] at hf
    unfold jsI at hf
    obtain ⟨h1, e1, hf⟩ := jBW_some hf
    obtain ⟨a, n, f, rfl, ha, hin, hb, rfl⟩ := jsIg_spec e1
    obtain ⟨cell, g2, g3, g4, g5, g6⟩ := jat_arr hS ha
    refine W.zast cx.1 cx.2.1 g2 (jarr cx.2.2.2.2.2.1 hk g3 g4.2.1) g4.1 (jin g5 hin) rfl rfl hd fun H1 e z oq => ?_
    rw [(jnz1 hx).1] at e
    refine kk _ H1 _ hf (hS.set (jsetA_le ha) hb (jat_set ⟨_, hk⟩ g3 g4 g5 g6 (by rw [← hS.1.2.1]; exact hb) e (fun j _ => ?_)) z oq)
    by_cases hj : j = i.toNatClampNeg <;> simp [jEl, upd, hj]
  · rw [if_neg hx] at hf
    cases hf
theorem j_sL (cx : jCx p s m args meth c cc own nL rt D dA H0 K) (hS : jS D dA H0 hs h H locs cells slots) {kd : Nat} {r : Option Nat} {i : Int32} {x : Int64} {F : Unit → jM α} (hf : (jB (jsL kd r i x) F).1 h = some z) (hk : jKd kd .long) (hd : decode cc pc = .ok (.lastore, 1))
    (kk : ∀ (h1 : jH) (H1 : Heap) (locs1 : List Loc), (F ()).1 h1 = some z → jS D dA H0 hs h1 H1 locs1 cells slots → W p l e R s m args below meth c H1 locs1 cells slots Q (F0 m (pc + 1) ls rest)) : W p l e R s m args below meth c H locs cells slots Q (F0 m pc ls (.long x :: .int i :: va_rf r :: rest)) := by
  unfold jsL at hf
  obtain ⟨h1, e1, hf⟩ := jBW_some hf
  obtain ⟨a, n, f, rfl, ha, hin, hb, rfl⟩ := jsLg_spec e1
  obtain ⟨cell, g2, g3, g4, g5, g6⟩ := jat_arr hS ha
  refine W.last cx.1 cx.2.1 g2 (jarr cx.2.2.2.2.2.1 hk g3 g4.2.1) g4.1 (jin g5 hin) rfl rfl hd fun H1 e z oq => ?_
  refine kk _ H1 _ hf (hS.set (jsetA_le ha) hb (jat_set ⟨_, hk⟩ g3 g4 g5 g6 (by rw [← hS.1.2.1]; exact hb) e (fun j _ => ?_)) z oq)
  by_cases hj : j = i.toNatClampNeg <;> simp [jEl, vp_updL, hj]
/-- kinds: what may be where the tables want the name nm: its own kind, or castable -/
def jnm (k : Nat) : String := if k < 1000 then match jCl[k]? with
    | some q => q.1
    | none => ""
  else match jTy[k - 1000]? with
    | some t => "[" ++ t.toString
    | none => ""
def jOk (ok : List Nat) (nm : String) : Prop := ∀ k ∈ ok, jnm k = nm ∨ Cond.castable (jnm k) nm ∈ lw_tbl
theorem jcd_at {b k : Nat} (cx : jF D dA H0 K s) (hS : jS D dA H0 hs h H locs cells slots) (hk : jcd h b = some k) : ∃ cell : Cell, H[b]? = some cell ∧ cell.vm.isStatics = false ∧ s.vm.findClass (jnm k) = some cell.cls := by
  unfold jcd at hk
  split at hk
  · rename_i o ho
    unfold jce at hk
    split at hk
    · rename_i o
      cases hk
      obtain ⟨q, cell, g1, g2, g3, g4, g5, g6⟩ := hS.1.2.2.2.2 b _ ho
      have hlt : o.1 < 34 := by
        have := (List.getElem?_eq_some_iff.mp g1).1
        simpa [jCl] using this
      refine ⟨cell, g2, g4.2.1, ?_⟩
      unfold jnm
      rw [if_pos (by omega), g1, g3]
      exact (cx.1 _ _ g1).1
    · rename_i x
      split at hk
      · rename_i h7
        cases hk
        obtain ⟨ty, cell, g1, g2, g3, g4, g5, g6⟩ := hS.1.2.2.2.2 b _ ho
        refine ⟨cell, g2, g4.2.1, ?_⟩
        unfold jnm
        obtain ⟨c7, hra, hu7⟩ := (cx.2.2.1 _ _ g1).2 h7
        rw [if_neg (by omega), Nat.add_sub_cancel_left, g1, (hu7 _).mp g3]
        unfold va_RA at hra
        split at hra
        · obtain ⟨-, -, -, -, -, h4⟩ := hra
          exact h4
        · exact hra
      · cases hk
  · cases hk
theorem jok_asg {b k : Nat} {ok : List Nat} {nm : String} (cx : jF D dA H0 K s) (hS : jS D dA H0 hs h H locs cells slots) (hk : jcd h b = some k) (hm : k ∈ ok) (ho : jOk ok nm) {comp : ClassId} (hc : s.vm.findClass nm = some comp) : ∃ cell : Cell, H[b]? = some cell ∧ cell.vm.isStatics = false ∧ s.vm.findClass (jnm k) = some cell.cls ∧ s.vm.assignable cell.cls comp = true := by
  obtain ⟨cell, h1, h2, h3⟩ := jcd_at cx hS hk
  refine ⟨cell, h1, h2, h3, ?_⟩
  rcases ho k hm with e | e
  · rw [e] at h3
    rw [Option.some.inj (hc.symm.trans h3)]
    exact va_asg _ _
  · obtain ⟨c0, t0, f1, f2, f3⟩ := Cond.castable_spec (jex_use (A := #[]) rfl (cx.2.2.2.1 _ e rfl))
    cases h3.symm.trans f1
    cases hc.symm.trans f2
    exact f3
theorem j_sR (cx : jCx p s m args meth c cc own nL rt D dA H0 K) (hS : jS D dA H0 hs h H locs cells slots) {kd : Nat} {ok : List Nat} {r : Option Nat} {i : Int32} {x : Option Nat} {F : Unit → jM α} (hf : (jB (jsR kd ok r i x) F).1 h = some z) {C : String} (hk : jKd kd (.object C)) (ho : jOk ok C) (hd : decode cc pc = .ok (.aastore, 1))
    (kk : ∀ (h1 : jH) (H1 : Heap) (locs1 : List Loc), (F ()).1 h1 = some z → jS D dA H0 hs h1 H1 locs1 cells slots → W p l e R s m args below meth c H1 locs1 cells slots Q (F0 m (pc + 1) ls rest)) (h7 : jnd kd = true := by decide) : W p l e R s m args below meth c H locs cells slots Q (F0 m pc ls (va_rf x :: .int i :: va_rf r :: rest)) := by
  unfold jsR at hf
  obtain ⟨h1, e1, hf⟩ := jBW_some hf
  obtain ⟨a, n, f, rfl, ha, hin, hb, hok, rfl⟩ := jsRg_spec e1
  obtain ⟨cell, g2, g3, g4, g5, g6⟩ := jat_arr hS ha
  have hlt : i.toNatClampNeg < n := Nat.not_le.mp fun q => hin (Or.inr q)
  have h0 : ¬ i < 0 := fun q => hin (Or.inl q)
  have hcF := cx.2.2.2.2.2.1
  obtain ⟨c7, ⟨kA, comp, k1, k2, k3, -⟩, hu7⟩ := (hcF.2.2.1 kd _ hk).2 h7
  rw [← (hu7 _).mp g3] at k1
  obtain ⟨kE, hkE, -⟩ := Vm.findClass_spec k3
  have hob : ∀ q, cell.vm ≠ .statics q := fun q hq => by have := g4.2.1; rw [hq] at this; cases this
  cases x with
  | none =>
    refine va_WaastN (C := C) cx.1 cx.2.1 g2 (jarr hcF hk g3 g4.2.1) g4.1 (jin g5 hin) rfl rfl hd fun H1 e z oq => ?_
    refine kk _ H1 _ hf (hS.set (jsetA_le ha) hb (jat_set ⟨_, hk⟩ g3 g4 g5 g6 (by rw [← hS.1.2.1]; exact hb) e (fun j _ => ?_)) z oq)
    by_cases hj : j = i.toNatClampNeg <;> simp [jEl, va_up, va_rf, hj]
  | some v =>
    unfold jokR at hok
    dsimp only at hok
    split at hok
    · rename_i k hkk
      obtain ⟨cv, v1, v2, v3, v4⟩ := jok_asg hcF hS hkk (of_decide_eq_true hok) ho k3
      obtain ⟨kC, hkC, -⟩ := Vm.findClass_spec v3
      refine W.aast cx.1 cx.2.1 g2 hob g4.1 k1 k2 rfl hkE ⟨h0, Nat.lt_of_lt_of_le hlt g5.1⟩ v1 (fun q h => by rw [h] at v2; cases v2) hkC v4 rfl rfl hd fun H1 e z oq => ?_
      refine kk _ H1 _ hf (hS.set (jsetA_le ha) hb (jat_set ⟨_, hk⟩ g3 g4 g5 g6 (by rw [← hS.1.2.1]; exact hb) e (fun j _ => ?_)) z oq)
      by_cases hj : j = i.toNatClampNeg <;> simp [jEl, va_up, va_rf, hj]
    · cases hok
end JR2
