/-! CORE 8: a throwable is made -/
set_option maxRecDepth 100000
/-- what Throwable's constructor does to an object that is new -/
def jthG (ci : Nat) (r : Option Nat) (h : jH) : Option jH := match r with
  | none => none
  | some a => match h.1 a with
    | some (.inl o) => if (o.1 = ci ∧ h.2.2.2.2 0 ≤ a) ∧ 4 < o.2.length ∧ vp_V o.2 4 = .null then some (jset h a (.inl (o.1, (((o.2.set 0 (.ref a)).set 1 (va_rf (jopt (h.2.2.2.2 569)))).set 2 (va_rf (jopt (h.2.2.2.2 570)))).set 1 (va_rf (jopt (h.2.2.2.2 569)))))) else none
    | _ => none
theorem jthG_spec {ci : Nat} {r : Option Nat} {h h' : jH} (e : jthG ci r h = some h') : ∃ (a : Nat) (fs : List Value), r = some a ∧ h.1 a = some (.inl (ci, fs)) ∧ h.2.2.2.2 0 ≤ a ∧ 4 < fs.length ∧ vp_V fs 4 = .null ∧ h' = jset h a (.inl (ci, (((fs.set 0 (.ref a)).set 1 (va_rf (jopt (h.2.2.2.2 569)))).set 2 (va_rf (jopt (h.2.2.2.2 570)))).set 1 (va_rf (jopt (h.2.2.2.2 569))))) := by
  unfold jthG at e
  split at e
  · cases e
  · rename_i a
    split at e
    · rename_i o ho
      split at e
      · rename_i hc
        obtain ⟨⟨h1, h2⟩, h3, h4⟩ := hc
        cases e
        subst h1
        exact ⟨a, o.2, rfl, ho, h2, h3, h4, rfl⟩
      · cases e
    · cases e
def jth (ci : Nat) (r : Option Nat) : jM Unit := jW (jthG ci r) fun h h' e => by
  obtain ⟨a, fs, -, ha, -, -, -, rfl⟩ := jthG_spec e
  exact jsetO_le ha
def jRV (x : Option Nat) : RefV := ⟨va_rf x, by cases x <;> rfl⟩
theorem jslots {cell : Cell} {N : Nat} {iS : Nat → Nat} {fs : List Value} (h : ∀ k, k < N → cell.slots[iS k]? = some (vp_V fs k)) (hap : ∀ a b, a < N → b < N → a ≠ b → iS a ≠ iS b) {k : Nat} (hk : k < N) (hk0 : k < fs.length) (v : Value) : ∀ j, j < N → (cell.setSlot (iS k) v).slots[iS j]? = some (vp_V (fs.set k v) j) := fun j hj => by
  rw [t_set (V := vp_V fs) h hap hk v j hj, vp_updV_set hk0 v j]
def jThA (w : Cond) : Prop := w ∈ lw_all ∨ w = .laysStatic Jvm.Bundle.tN "UNASSIGNED_STACK" Jvm.Bundle.steD ∨ w = .laysStatic Jvm.Bundle.tN "SUPPRESSED_SENTINEL" Jvm.Bundle.listD
def jThC (ci : Nat) : Prop := ∃ (C : String) (T : u_T) (N : Nat) (ty : Nat → FieldType), jCf ci C T N ty ∧ 4 < N ∧ (T 0 = (Jvm.Bundle.tN, "cause", "Ljava/lang/Throwable;", false) ∧ T 1 = (Jvm.Bundle.tN, "stackTrace", Jvm.Bundle.steD, false) ∧ T 2 = (Jvm.Bundle.tN, "suppressedExceptions", Jvm.Bundle.listD, false) ∧ T 4 = (Jvm.Bundle.tN, "backtrace", "Ljava/lang/Object;", false)) ∧ Cond.selects C Jvm.Bundle.tFill0 Jvm.Bundle.tFill0 ∈ lw_all ∧ Cond.selects C Jvm.Bundle.tFill Jvm.Bundle.tFill ∈ lw_all
section JT
variable {p : Program} {l : Launch} {e : Env} {R : Room} {s : State} {m : MethodId} {args : Array Value} {below : List Frame} {meth : Method} {c : Code} {H : Heap} {locs : List Loc} {cells slots : Nat} {Q : State → Prop}
variable {cc : ByteArray} {pc : Nat} {ls : Array Slot} {st0 st1 rest : List Value} {D : va_G} {dA : Nat → ClassId → Prop} {H0 : Heap} {K : Nat → Nat} {hs h h1 : jH} {own : String} {nL : Nat} {rt : Option FieldType} {α : Type} {z : α × jH}
set_option maxHeartbeats 1000000 in
theorem j_ctorT (hfl : l.stackTraces = false) (cx : jCx p s m args meth c cc own nL rt D dA H0 K) (hS : jS D dA H0 hs h H locs cells slots) (hK : K = hs.2.2.2.2) (hsz : ls.size = nL) {ci idx : Nat} {r : Option Nat} {F : Unit → jM α} (hf : (jB (jth ci r) F).1 h = some z)
    {X : String} {names : List String} (hX : Jvm.Bundle.fit X = true) (hnames : ∀ n ∈ names, Jvm.Bundle.fit n = true) (hch : ∀ w ∈ Jvm.Bundle.chain0Atoms X names, w.before args s = true) (hta : ∀ w ∈ Jvm.Bundle.throwableAtoms, jThA w) (hci : jThC ci)
    (hb1 : Cond.fieldLink Jvm.Bundle.tN 198 Jvm.Bundle.tN "backtrace" "Ljava/lang/Object;" ∈ lw_all) (hb2 : Cond.lays Jvm.Bundle.tN Jvm.Bundle.tN "backtrace" "Ljava/lang/Object;" ∈ lw_all)
    (hli : Cond.methodLink own idx (Jvm.Bundle.init0 X) ∈ lw_all) (hin : Cond.instanceMethod (Jvm.Bundle.init0 X) ∈ lw_all) (hco : Cond.code (Jvm.Bundle.init0 X) Jvm.Bundle.five 1 none ∈ lw_all) (hd : decode cc pc = .ok (.invokespecial idx, 3))
    (hfr : names.length + 3 < R.frames) (hlo : 8 + (13 * (names.length + 1) + 41) ≤ R.locals) (hroom : (rest.map fun v => v.category).sum ≤ 8)
    (kk : ∀ (h1 : jH) (H1 : Heap) (locs1 : List Loc), (F ()).1 h1 = some z → jS D dA H0 hs h1 H1 locs1 cells slots → W p l e R s m args below meth c H1 locs1 cells slots Q (F0 m (pc + 3) ls rest)) : W p l e R s m args below meth c H locs cells slots Q (F0 m pc ls (va_rf r :: rest)) := by
  unfold jth at hf
  obtain ⟨h1, hv, hf⟩ := jBW_some hf
  obtain ⟨a, fs, rfl, ha, hb, hk4, hn4, rfl⟩ := jthG_spec hv
  obtain ⟨C, Tt, N, ty, ⟨hc, h33, hinw, htyok, hnm⟩, hN, ⟨t0, t1, t2, t4⟩, hse0, hseF⟩ := hci
  obtain ⟨q', cell, g1, g2, g3, g4, g5, g6⟩ := hS.1.2.2.2.2 a _ ha
  cases hc.symm.trans g1
  dsimp only at g3 g5 g6
  have hts := cx.2.2.2.2.1
  have hown := cx.2.2.2.1
  have hF := cx.2.2.2.2.2.1
  have hbase : H0.size ≤ a := by rw [← hS.1.2.1]; exact hb
  obtain ⟨hSl, hfc, kC, hkC, hkind⟩ := hF.2.1 ci _ hc h33
  dsimp only at hSl hfc
  have hap : ∀ x y, x < N → y < N → x ≠ y → (D.2 ci) x ≠ (D.2 ci) y := by
    intro x y hx hy hne
    obtain ⟨_, _, _, fa, hia, ea⟩ := hSl x hx
    obtain ⟨_, _, _, fb, hib, eb⟩ := hSl y hy
    rw [← ea, ← eb]
    refine u_apart (u_lays hts hinw hx) (u_lays hts hinw hy) hia hib ?_
    rw [(State.fieldFound?_type hia (htyok x hx)).1, (State.fieldFound?_type hib (htyok y hy)).1]
    exact hnm x hx y hy hne
  intro T hT X₀
  have htr : e.platform.stackTraces = false := by rw [X₀.admits.platform]; exact hfl
  have howns : e.platform.frameOwnsMonitors = true := by rw [X₀.admits.platform]
  have hfin : e.platform.finalization = false := by rw [X₀.admits.platform]
  have hpl : e.platform.magicAccessors = ({} : Platform).magicAccessors := by rw [X₀.admits.platform]
  have hst : ∀ x ∈ jLsT, (Cond.laysStatic x.1 x.2.1 x.2.2).before args s = true := by
    intro x hx
    obtain ⟨c1, k1, i1, f1, a1, cl1, y0, y1, y2, y3, y4, y5, y6, y7, y8⟩ := hF.2.2.2.2.2.2.2 x hx
    have hlt : a1 < H0.size := (Array.getElem?_eq_some_iff.mp y4).1
    exact Cond.laysStatic_of y0 y1 y2 y3 (by rw [cx.2.2.2.2.2.2.2.2 a1 hlt]; exact y4) y5 y6 y7 y8
  have hth : ∀ w ∈ Jvm.Bundle.throwableAtoms, w.before args s = true := by
    intro w hw
    rcases hta w hw with h | rfl | rfl
    · exact hts w h
    · exact hst _ (List.mem_cons_self)
    · exact hst _ (List.mem_cons_of_mem _ List.mem_cons_self)
  obtain ⟨Th, Z, L, LZ, Y⟩ := ThrowableC.of_atoms (args := args) howns hfin hpl hth
  obtain ⟨P1, Ps, hlen, L1, hL, hP1m, hlink1, hlink⟩ := Jvm.Bundle.chain0 (args := args) hpl Y.init0 names X hX hnames hch
  have hsel0 : selectMethod e.platform s.vm cell.cls Th.fill0 = .method Th.fill0 := by
    obtain ⟨c2, r2, m2, q1, q2, q3, q4, -⟩ := Cond.selects_spec (hts _ hse0)
    cases Option.some.inj (q1.symm.trans hfc)
    cases Option.some.inj (q2.symm.trans (State.methodFound?_of_named Y.fill0 (by decide)))
    cases Option.some.inj (q3.symm.trans Y.fill0)
    rw [Launch.admits_selectMethod X₀.admits, g3]; exact q4
  have hselF : selectMethod e.platform s.vm cell.cls Th.fill = .method Th.fill := by
    obtain ⟨c2, r2, m2, q1, q2, q3, q4, -⟩ := Cond.selects_spec (hts _ hseF)
    cases Option.some.inj (q1.symm.trans hfc)
    cases Option.some.inj (q2.symm.trans (State.methodFound?_of_named Y.fill (by decide)))
    cases Option.some.inj (q3.symm.trans Y.fill)
    rw [Launch.admits_selectMethod X₀.admits, g3]; exact q4
  -- the statics
  have eK : K = h.2.2.2.2 := by rw [hK, hS.2.1.2.2.2.1]
  obtain ⟨cf1, kf1, fi1, f1, aS1, cellS, u1, -, -, u4, u5, u6, u7, -⟩ := hF.2.2.2.2.1 (Jvm.Bundle.tN, "UNASSIGNED_STACK", Jvm.Bundle.steD, fun K => va_rf (jopt (K 569))) (by simp [jSt, Jvm.Bundle.tN, Jvm.Bundle.steD])
  cases Option.some.inj (u1.symm.trans Y.unassigned)
  obtain ⟨cf2, kf2, fi2, f2, aS2, cellS2, v1, -, -, v4, v5, -, v7, -⟩ := hF.2.2.2.2.1 (Jvm.Bundle.tN, "SUPPRESSED_SENTINEL", Jvm.Bundle.listD, fun K => va_rf (jopt (K 570))) (by simp [jSt, Jvm.Bundle.tN, Jvm.Bundle.listD])
  cases Option.some.inj (v1.symm.trans Y.sentinel)
  cases Option.some.inj (u4.symm.trans L.statics)
  cases Option.some.inj (v4.symm.trans L.statics)
  cases Option.some.inj (v5.symm.trans u5)
  dsimp only at u7 v7
  rw [eK] at u7 v7
  have hltS : Th.aS < H0.size := (Array.getElem?_eq_some_iff.mp u5).1
  have hcellS : T.heap[Th.aS]? = some cellS := by rw [hT, hS.1.2.2.2.1 _ hltS]; exact u5
  have hneS : Th.aS ≠ a := Nat.ne_of_lt (Nat.lt_of_lt_of_le hltS hbase)
  have hknownS : cellS.vm ≠ .unknown := fun hu => by rw [hu] at u6; cases u6
  -- the fields
  have sC : Th.fCause.slot = D.2 ci 0 := by
    obtain ⟨_, _, _, f, hi, ef⟩ := hSl 0 (by omega)
    rw [t0] at hi
    cases Option.some.inj (hi.symm.trans Y.cause)
    exact ef
  have sS : Th.fStack.slot = D.2 ci 1 := by
    obtain ⟨_, _, _, f, hi, ef⟩ := hSl 1 (by omega)
    rw [t1] at hi
    cases Option.some.inj (hi.symm.trans Y.stack)
    exact ef
  have sP : Th.fSupp.slot = D.2 ci 2 := by
    obtain ⟨_, _, _, f, hi, ef⟩ := hSl 2 (by omega)
    rw [t2] at hi
    cases Option.some.inj (hi.symm.trans Y.supp)
    exact ef
  obtain ⟨ci198, i198, fB, hk198, hg198, ha198, hsB, -, hnB, htB, hffB⟩ := Cond.ownField (t := .object "java/lang/Object") Y.found L.cls (by decide +kernel) (hts _ hb1) (hts _ hb2) e.platform hpl
  have sB : fB.slot = D.2 ci 4 := by
    obtain ⟨_, _, _, f, hi, ef⟩ := hSl 4 (by omega)
    rw [t4] at hi
    cases Option.some.inj (hi.symm.trans hffB)
    exact ef
  have hlay : ∀ {k : Nat} {O n d : String}, k < N → Tt k = (O, n, d, false) → (Cond.lays C O n d).holds args s none s [] = true := by
    intro k O n d hk hT0
    have h0 := hts _ (hinw _ (u_in_lay hk))
    unfold u_lay at h0
    rw [hT0] at h0
    exact h0
  have htk : ∀ {f : Field} {v : Value} {k : Nat}, k < N → f.slot = D.2 ci k → kC.instanceTypes[f.slot]? = some f.type → fits f.type v = true → Takes s cell f v := by
    intro f v k hk hsl hty hv
    have h0 := Takes.of_laid (s := s) hkC hkind hty hv
    refine ⟨by rw [hsl]; exact k2_hasslot (g6 k hk), ?_⟩
    rw [g3, (g4.2.2 hbase).1]
    exact h0.2
  have y1 := jslots g6 hap (k := 0) (by omega) (by omega) (.ref a)
  have y2 := jslots y1 hap (k := 1) (by omega) (by simp; omega) (jRV (jopt (h.2.2.2.2 569))).v
  have y3 := jslots y2 hap (k := 2) (by omega) (by simp; omega) (jRV (jopt (h.2.2.2.2 570))).v
  have y4 := jslots y3 hap (k := 1) (by omega) (by simp; omega) (jRV (jopt (h.2.2.2.2 569))).v
  have hskip : SkipFacts Th e.platform s (fun u => u) (jRV (jopt (h.2.2.2.2 569))) ((preparedCellV Th.toThrowableT cell a (jRV (jopt (h.2.2.2.2 569))) (jRV (jopt (h.2.2.2.2 570)))).withEntry T.cur) := by
    refine ⟨{ ci198 := ci198, i198 := i198, fBack := fB }, ⟨hk198, hg198, ha198, hsB⟩, ?_, fun _ _ => rfl⟩
    show (((cell.setSlot Th.fCause.slot (.ref a)).setSlot Th.fStack.slot _).setSlot Th.fSupp.slot _).slots[fB.slot]? = some .null
    rw [sC, sS, sP, sB, y3 4 hN]
    have : vp_V (((fs.set 0 (.ref a)).set 1 (jRV (jopt (h.2.2.2.2 569))).v).set 2 (jRV (jopt (h.2.2.2.2 570))).v) 4 = vp_V fs 4 := by
      unfold vp_V
      simp [List.getD_eq_getElem?_getD, List.getElem?_set]
    rw [this, hn4]
  obtain ⟨tm, methC, cdC, kC', vm₁, hnC, -, -, -, -, -, -, -, hW₁, st1⟩ := Steps.initCold (tb := p.tables) (e := e) (below := below) (s := s) (U := T) X₀.here cx.1 X₀.warmed hpl hown (t := Jvm.Bundle.init0 X) rfl rfl (Jvm.Bundle.fit_spec hX).2
    (hts _ hli) (hts _ hin) (bytes := Jvm.Bundle.five) (maxL := 1) (hts _ hco) (f := F0 m pc ls (va_rf (some a) :: rest)) rfl (a := a) (rest := rest) rfl (by rw [cx.2.1]; exact hd)
  cases Option.some.inj (hnC.symm.trans hP1m)
  have X₁ := X₀.noted hW₁
  have hmon := (g4.2.2 hbase)
  obtain ⟨vm₂, X₂, st2⟩ := X₁.ctorPlainOffV cx.1 (g := F0 m pc ls rest) rfl (by rw [cx.2.2.1]; exact hsz) Th L Z LZ (P1 :: Ps)
    (fun P hP => by rcases List.mem_cons.mp hP with rfl | hP; exact L1; exact hL P hP) ⟨hlink1, hlink⟩ (u0 := jRV (jopt (h.2.2.2.2 569))) (sen := jRV (jopt (h.2.2.2.2 570))) (self := a) (cell := cell) (cellS := cellS)
    (by show T.heap[a]? = some cell; rw [hT]; exact g2) (VmData.ne_statics_of g4.2.1) g4.1 hmon.2.1 hmon.2.2 hsel0 hselF hcellS hneS hknownS u7 v7
    (htk (k := 0) (by omega) sC (Cond.laysAt hfc hkC Y.cause (hlay (by omega) t0)).1 (by rw [Y.causeType]; rfl)) (htk (k := 1) (by omega) sS (Cond.laysAt hfc hkC Y.stack (hlay (by omega) t1)).1 (by rw [Y.stackType]; exact fits_refV_array _ _)) (htk (k := 2) (by omega) sP (Cond.laysAt hfc hkC Y.supp (hlay (by omega) t2)).1 (by rw [Y.suppType]; exact fits_refV_object _ _)) Y.objLocals hskip htr [] (by rw [cx.2.1]; exact hd)
    (by simp only [List.length_cons, hlen]; omega) (by
      have hr := lv_room (m := m) (rest := rest) (pc := pc) (ls := ls) hroom
      simp only [List.length_cons, hlen]
      have hr2 : 2 * (F0 m pc ls rest).monitorRoom + ((F0 m pc ls rest).stack.map fun v => v.category).sum ≤ 8 := hr
      omega)
  have hlt : a < ((T.setVm vm₁).setVm vm₂).heap.size := by
    show a < T.heap.size
    rw [hT]
    exact (Array.getElem?_eq_some_iff.mp g2).1
  have hS' : jS D dA H0 hs (jset h a (.inl (ci, (((fs.set 0 (.ref a)).set 1 (va_rf (jopt (h.2.2.2.2 569)))).set 2 (va_rf (jopt (h.2.2.2.2 570)))).set 1 (va_rf (jopt (h.2.2.2.2 569)))))) (((T.setVm vm₁).setVm vm₂).setCell a ((preparedCellV Th.toThrowableT cell a (jRV (jopt (h.2.2.2.2 569))) (jRV (jopt (h.2.2.2.2 570)))).setSlot Th.fStack.slot (jRV (jopt (h.2.2.2.2 569))).v)).heap (locs ++ [⟨a, Th.fCause.slot⟩, ⟨a, Th.fStack.slot⟩, ⟨a, Th.fSupp.slot⟩, ⟨a, Th.fStack.slot⟩]) cells slots := by
    refine ⟨hS.1.set hb ?_ ?_ ?_, hS.2.1.tr (jsetO_le ha), ?_, hS.2.2.2⟩
    · refine ⟨_, _, hc, heapAt_setCell_self _ hlt, g3, g4, by simp only [List.length_set]; exact g5, fun j hj => ?_⟩
      show ((((cell.setSlot Th.fCause.slot (.ref a)).setSlot Th.fStack.slot _).setSlot Th.fSupp.slot _).setSlot Th.fStack.slot _).slots[D.2 ci j]? = _
      rw [sC, sS, sP]
      exact y4 j hj
    · show (T.heap.setIfInBounds a _).size = H.size
      rw [Array.size_setIfInBounds, hT]
    · intro q hq
      show (T.heap.setIfInBounds a _)[q]? = H[q]?
      rw [Array.getElem?_setIfInBounds_ne (by omega), hT]
    · intro q hq
      rcases List.mem_append.mp hq with h1 | h1
      · exact hS.2.2.1 q h1
      · have hqa : q.base = a := by
          simp only [List.mem_cons, List.not_mem_nil, or_false] at h1
          rcases h1 with rfl | rfl | rfl | rfl <;> rfl
        rw [hqa]
        exact hbase
  obtain ⟨t, a1, a2⟩ := kk _ _ _ hf hS' _ rfl X₂
  refine ⟨t, st1 _ (fun acts => ?_), a2⟩
  rw [doInvoke_state]
  exact st2 _ a1
end JT
