/-! CORE 7: what is thrown and caught -/
set_option maxRecDepth 100000
/-- how a method ends that may throw -/
def jOc {α : Type} (f : α → Option Value) (z : α ⊕ Nat) : Outcome := match z with
  | .inl v => .returned (f v)
  | .inr a => .threw a
def jBT {α β : Type} (m : jM (α ⊕ Nat)) (k : α → jM (β ⊕ Nat)) : jM (β ⊕ Nat) := jB m fun z => match z with
  | .inl v => k v
  | .inr a => jR (.inr a)
def jBH {α β : Type} (m : jM (α ⊕ Nat)) (g : Nat → jM β) (k : α → jM β) : jM β := jB m fun z => match z with
  | .inl v => k v
  | .inr a => g a
theorem jBT_some {α β : Type} {m : jM (α ⊕ Nat)} {k : α → jM (β ⊕ Nat)} {h : jH} {z : (β ⊕ Nat) × jH} (hf : (jBT m k).1 h = some z) : (∃ v h1, m.1 h = some (.inl v, h1) ∧ (k v).1 h1 = some z) ∨ ∃ a, m.1 h = some (.inr a, z.2) ∧ z.1 = .inr a := by
  obtain ⟨x, h1, e, hf⟩ := jB_some hf
  cases x with
  | inl v => exact Or.inl ⟨v, h1, e, hf⟩
  | inr a => cases hf; exact Or.inr ⟨a, e, rfl⟩
theorem jBH_some {α β : Type} {m : jM (α ⊕ Nat)} {k : α → jM β} {g : Nat → jM β} {h : jH} {z : β × jH} (hf : (jBH m g k).1 h = some z) : (∃ v h1, m.1 h = some (.inl v, h1) ∧ (k v).1 h1 = some z) ∨ ∃ a h1, m.1 h = some (.inr a, h1) ∧ (g a).1 h1 = some z := by
  obtain ⟨x, h1, e, hf⟩ := jB_some hf
  cases x with
  | inl v => exact Or.inl ⟨v, h1, e, hf⟩
  | inr a => exact Or.inr ⟨a, h1, e, hf⟩
/-- where something is being thrown -/
def WX (p : Program) (l : Launch) (e : Env) (R : Room) (s : State) (m : MethodId) (args : Array Value) (below : List Frame) (meth : Method) (c : Code) (H : Heap) (locs : List Loc) (cells slots : Nat) (Q : State → Prop) (g : JFrame) (x : Nat) : Prop :=
  ∀ T : State, T.heap = H → Stand p l e R s m args below meth c T locs cells slots → ∃ t, Steps p.tables e below ((T.setTop g).pushFrame (.throwing x)) t ∧ Q t
section JX
variable {p : Program} {l : Launch} {e : Env} {R : Room} {s : State} {m : MethodId} {args : Array Value} {below : List Frame} {meth : Method} {c : Code} {H : Heap} {locs : List Loc} {cells slots : Nat} {Q : State → Prop}
variable {cc : ByteArray} {pc : Nat} {ls : Array Slot} {st0 st1 rest : List Value} {D : va_G} {dA : Nat → ClassId → Prop} {H0 : Heap} {K : Nat → Nat} {hs h h1 : jH} {own : String} {nL : Nat} {rt : Option FieldType} {α : Type} {z : α × jH}
variable {y : MethodName} {cc' : ByteArray} {nL' fr lo idx x : Nat} {rt' : Option FieldType} {As : List Value}
/-- it leaves the method -/
theorem j_leaves {mc ms : Nat} (cx : jCx p s m args meth c cc own nL rt D dA H0 K) (hS : jS D dA H0 hs h H locs cells slots) (ht : c.exceptionTable.toList = []) (e1 : h.2.2.1 = hs.2.2.1 + mc) (e2 : h.2.2.2.1 = hs.2.2.2.1 + ms) : WX p l e R s m args below meth c H locs cells slots (jQ D dA H0 below s (.threw x) h mc ms) (F0 m pc ls rest) x := by
  intro T hT X
  obtain ⟨w, r1, r2, r3, r4⟩ := X.leaveThrown x (g := F0 m pc ls rest) rfl rfl rfl (by rw [ht]; intro y hy; cases hy) cx.2.2.2.2.2.2.2.1
  obtain ⟨rfl, rfl⟩ := jcs hS e1 e2
  refine ⟨_, w, r1, r2, rfl, ?_, r3, locs, r4, hS.2.2.1⟩
  show jRep D dA H0 h T.heap
  rw [hT]
  exact hS.1
theorem j_athrow {mc ms : Nat} {β : Type} {r : Option Nat} {z : β ⊕ Nat} {h' : jH} {f : β → Option Value} (cx : jCx p s m args meth c cc own nL rt D dA H0 K) (hS : jS D dA H0 hs h H locs cells slots) (ht : c.exceptionTable.toList = []) (hf : (jB (jnn0 r) fun a => (jR (.inr a) : jM (β ⊕ Nat))).1 h = some (z, h')) (e1 : h'.2.2.1 = hs.2.2.1 + mc) (e2 : h'.2.2.2.1 = hs.2.2.2.1 + ms) (hd : decode cc pc = .ok (.athrow, 1)) :
    W p l e R s m args below meth c H locs cells slots (jQ D dA H0 below s (jOc f z) h' mc ms) (F0 m pc ls (va_rf r :: rest)) := by
  obtain ⟨b, rfl, hf⟩ := jnn0_s hf
  cases hf
  intro T hT X
  obtain ⟨w, r1, r2, r3, r4⟩ := X.athrowLeaves cx.1 (g := F0 m pc ls (va_rf (some b) :: rest)) rfl rfl rfl (by rw [ht]; intro y hy; cases hy) (a := b) (rest := rest) rfl (by rw [cx.2.1]; exact hd) cx.2.2.2.2.2.2.2.1
  obtain ⟨rfl, rfl⟩ := jcs hS e1 e2
  refine ⟨_, w, r1, r2, rfl, ?_, r3, locs, r4, hS.2.2.1⟩
  show jRep D dA H0 h T.heap
  rw [hT]
  exact hS.1
/-- a callee throws -/
theorem j_thr {mc ms : Nat} (cx : jCx p s m args meth c cc own nL rt D dA H0 K) (hS : jS D dA H0 hs h H locs cells slots) (hK : K = hs.2.2.2.2) (hM : jMet l y (ws_ y cc' nL' rt') fr lo As h h1 (.threw x)) (e1 : h1.2.2.1 = h.2.2.1 + mc) (e2 : h1.2.2.2.1 = h.2.2.2.1 + ms) (e3 : cells + mc ≤ R.cells) (e4 : slots + ms ≤ R.slots)
    (hG : GoodIn lw_all (ws_ y cc' nL' rt')) (hini : (Cond.initialized y.cls).before args s = true) (hR : fr + 1 ≤ R.frames ∧ 8 + (nL' + 11) + lo ≤ R.locals) {T : State} (hT : T.heap = H) (X : Stand p l e R s m args below meth c T locs cells slots) {g : JFrame} (hg : g.method = m) (hsize : g.locals.size = c.maxLocals) {ig : Instr} {len : Nat} (hdg : decode c.code g.pc = .ok (ig, len)) (hW : 2 * g.monitorRoom + (g.stack.map fun v => v.category).sum ≤ 8) {mk : MethodId} (hn : T.methodNamed? y = some mk) :
    ∃ (T' : State) (L : List Loc), Stand p l e R s m args below meth c T' (locs ++ L) (cells + mc) (slots + ms) ∧ jS D dA H0 hs h1 T'.heap (locs ++ L) (cells + mc) (slots + ms) ∧ Steps p.tables e below (doInvoke e (T.setTop g) [] mk As.toArray).1 ((T'.setTop g).pushFrame (.throwing x)) := by
  have hws := pay_in cx.2.2.2.2.1 hG
  obtain ⟨methY, cY, hmY, hcY, -, hlY, -, -, -, -⟩ := Cond.code_spec hn (hws _ List.mem_cons_self As.toArray T X.warmed)
  obtain ⟨kY, hkY, -⟩ := className_of_methodNamed hn
  have hinitT : (Cond.initialized y.cls).before args T = true := word_at X.warmed (Or.inl (by first | rfl | simp [Cond.onTables, Cond.keeps, Cond.steady])) hini
  have hinitY : kY.init = .initialized := Cond.initialized_spec (findClass_of_methodNamed hn) hkY hinitT
  have hAt : At T g.method c below := by rw [hg]; exact X.here
  have happ : (headSpec (ws_ y cc' nL' rt') { frames := fr, cells := mc, slots := ms, locals := lo }).appliesLoose y e.platform (T.calling g mk As.toArray) = true :=
    Spec.appliesLoose_calling (g := g) hAt hdg hn hkY hinitY (X.room_calling (g := g) (R' := { frames := fr, cells := mc, slots := ms, locals := lo }) hsize hmY hcY hR.1 (by rw [hlY]; dsimp only; omega) e3 e4) (atoms_intro fun w hw => hws w hw _ _ X.warmed)
  obtain ⟨g₀, hfr⟩ := X.frames_eq
  have hfr2 : (T.setTop g).frames = [.java g] ++ below := by
    rw [State.frames_setTop' g hAt.top, hfr]
    rfl
  have hpre := jblind _ _ g mk (jPre (As := As) cx hS hK T hT X.warmed)
  obtain ⟨o, t, hsteps, -, hend, hq⟩ := Steps.callFree (hM.2 D dA H0 mc ms e1 e2) p X.admits X.cas X.clock (acts := []) hfr2 happ hpre trivial
  obtain ⟨rfl, q1, q2, L, q3, q4⟩ := hq
  rw [hfr2] at hend
  obtain ⟨T', X', hW', -, rfl⟩ := X.outOfThrown hg hend q2 q3
  have hh : ((T'.setTop g).pushFrame (.throwing x)).heap = T'.heap := Stand.throwing_heap T' g x
  rw [hh] at q1
  have b1 := hS.2.2.2.1
  have b2 := hS.2.2.2.2
  exact ⟨T', L, X', ⟨q1, hS.2.1.tr hM.1, fun q hq => by
      rcases List.mem_append.mp hq with h | h
      · exact hS.2.2.1 q h
      · exact q4 q h, by omega, by omega⟩, hsteps⟩
theorem j_callVX (cx : jCx p s m args meth c cc own nL rt D dA H0 K) (hS : jS D dA H0 hs h H locs cells slots) (hK : K = hs.2.2.2.2) (hsz : ls.size = nL) (hm : z.2.2.2.1 ≤ hs.2.2.1 + R.cells ∧ z.2.2.2.2.1 ≤ hs.2.2.2.1 + R.slots)
    {b ci : Nat} (hM : jMet l y (ws_ y cc' nL' rt') fr lo (.ref b :: As) h h1 (.threw x)) (hz : jLe h1 z.2) (hrc : jcd h b = some ci) (hnm : jnm ci = y.cls) (hw : GoodIn lw_all (wsV own idx y.cls y (ws_ y cc' nL' rt'))) {n : Nat} (hp : jPd y n) (hn : As.length = n) (hst : st0 = As.reverse ++ .ref b :: rest) (hroom : (rest.map fun v => v.category).sum ≤ 8) (hR : fr + 1 ≤ R.frames ∧ 8 + (nL' + 11) + lo ≤ R.locals) (hd : decode cc pc = .ok (.invokevirtual idx, 3))
    (kk : ∀ (H1 : Heap) (locs1 : List Loc) (cells1 slots1 : Nat), jS D dA H0 hs h1 H1 locs1 cells1 slots1 → WX p l e R s m args below meth c H1 locs1 cells1 slots1 Q (F0 m pc ls rest) x) : W p l e R s m args below meth c H locs cells slots Q (F0 m pc ls st0) := by
  obtain ⟨mc, ms, e1, e2, e3, e4⟩ := jroom hS hM.1 hz hm
  have hrv := jcd_at cx.2.2.2.2.2.1 hS hrc
  rw [hnm] at hrv
  obtain ⟨⟨-, -, hfr, hlo, hws, hcw, hcode, hini, hy, hlen, hl⟩, hin, hse⟩ := cwV (rm := { frames := fr, cells := mc, slots := ms, locals := lo }) (mc := mc) (ms := ms) n cx.2.2.2.2.1 hw rfl rfl rfl ⟨rfl, hp⟩ hR
  obtain ⟨cellB, hcB, hoB, hclB⟩ := hrv
  intro T hT X
  obtain ⟨mk, methM, hnamed, hmethM, hstM, habM⟩ := Cond.instanceMethod_spec hin
  obtain ⟨methM', cM, hmethM', -, -, -, -, -, -, hsigM⟩ := Cond.code_spec hnamed hcode
  cases hmethM.symm.trans hmethM'
  obtain ⟨c2, r2, m2, q1, q2, q3, q4, kP, hkP, hkPi⟩ := Cond.selects_spec hse
  cases hclB.symm.trans q1
  cases (State.methodFound?_of_named hnamed hy).symm.trans q2
  cases hnamed.symm.trans q3
  have hselP : selectMethod e.platform s.vm cellB.cls mk = .method mk := by rw [Launch.admits_selectMethod X.admits]; exact q4
  obtain ⟨vm₁, X₁, hstep₁⟩ := X.invokevirtual cx.1 cx.2.2.2.1 hl hnamed hmethM hstM hkP hkPi hy (a := b) (cell := cellB) (by rw [hT]; exact hcB)
    (fun z h => by rw [h] at hoB; cases hoB) hselP hmethM habM hkP hkPi (g := F0 m pc ls st0) rfl (argsL := As) (rest := rest) (hn.trans (hlen _ hsigM)) hst (by rw [cx.2.1]; exact hd)
  have hG : GoodIn lw_all (ws_ y cc' nL' rt') := fun w hh => hw w (List.mem_append_right _ hh)
  obtain ⟨T', L, X', hS', hsteps⟩ := j_thr cx hS hK hM e1 e2 e3 e4 hG hini hR (T := T.setVm vm₁) hT X₁ (g := F0 m pc ls rest) rfl (by rw [cx.2.2.1]; exact hsz) (by rw [cx.2.1]; exact hd) (lv_room (rest := rest) (pc := pc) (ls := ls) hroom) (X₁.named hnamed)
  obtain ⟨t, a1, a2⟩ := kk _ _ _ _ hS' T' rfl X'
  exact ⟨t, hstep₁ _ fun acts => by rw [doInvoke_state]; exact hsteps.trans a1, a2⟩
theorem j_callSX (cx : jCx p s m args meth c cc own nL rt D dA H0 K) (hS : jS D dA H0 hs h H locs cells slots) (hK : K = hs.2.2.2.2) (hsz : ls.size = nL) (hm : z.2.2.2.1 ≤ hs.2.2.1 + R.cells ∧ z.2.2.2.2.1 ≤ hs.2.2.2.1 + R.slots)
    (hM : jMet l y (ws_ y cc' nL' rt') fr lo As h h1 (.threw x)) (hz : jLe h1 z.2) (hw : GoodIn lw_all (va_wsS own idx y (ws_ y cc' nL' rt'))) {n : Nat} (hp : jPd y n) (hn : As.length = n) (hst : st0 = As.reverse ++ rest) (hroom : (rest.map fun v => v.category).sum ≤ 8) (hR : fr + 1 ≤ R.frames ∧ 8 + (nL' + 11) + lo ≤ R.locals) (hd : decode cc pc = .ok (.invokestatic idx, 3))
    (kk : ∀ (H1 : Heap) (locs1 : List Loc) (cells1 slots1 : Nat), jS D dA H0 hs h1 H1 locs1 cells1 slots1 → WX p l e R s m args below meth c H1 locs1 cells1 slots1 Q (F0 m pc ls rest) x) : W p l e R s m args below meth c H locs cells slots Q (F0 m pc ls st0) := by
  obtain ⟨mc, ms, e1, e2, e3, e4⟩ := jroom hS hM.1 hz hm
  obtain ⟨⟨-, -, hfr, hlo, hws, hcw, hcode, hini, hy, hlen, hl⟩, hstt⟩ := va_cwS (rm := { frames := fr, cells := mc, slots := ms, locals := lo }) (mc := mc) (ms := ms) n cx.2.2.2.2.1 hw rfl rfl rfl hp hR
  intro T hT X
  obtain ⟨mk, hnamed⟩ := Cond.code_named hcode
  obtain ⟨methM, cM, hmethM, -, -, -, -, -, -, hsigM⟩ := Cond.code_spec hnamed hcode
  have hstatic : methM.isStatic = true := Cond.static_spec hnamed hmethM hstt
  obtain ⟨kP, hkP, -⟩ := className_of_methodNamed hnamed
  have hinitP : kP.init = .initialized := Cond.initialized_spec (findClass_of_methodNamed hnamed) hkP hini
  obtain ⟨vm₁, X₁, hstep₁⟩ := X.invokestatic cx.1 cx.2.2.2.1 hl hnamed hmethM hstatic hkP hinitP hy (g := F0 m pc ls st0) rfl (argsL := As) (rest := rest) (hn.trans (hlen _ hsigM)) hst (by rw [cx.2.1]; exact hd)
  have hG : GoodIn lw_all (ws_ y cc' nL' rt') := fun w hh => hw w (List.mem_append_right _ hh)
  obtain ⟨T', L, X', hS', hsteps⟩ := j_thr cx hS hK hM e1 e2 e3 e4 hG hini hR (T := T.setVm vm₁) hT X₁ (g := F0 m pc ls rest) rfl (by rw [cx.2.2.1]; exact hsz) (by rw [cx.2.1]; exact hd) (lv_room (rest := rest) (pc := pc) (ls := ls) hroom) (X₁.named hnamed)
  obtain ⟨t, a1, a2⟩ := kk _ _ _ _ hS' T' rfl X'
  exact ⟨t, hstep₁ _ fun acts => by rw [doInvoke_state]; exact hsteps.trans a1, a2⟩
/-- it is caught here, by its own class, the class perhaps looked up for the first time -/
theorem j_caught (cx : jCx p s m args meth c cc own nL rt D dA H0 K) (hS : jS D dA H0 hs h H locs cells slots) {ci a b hp ct : Nat} (hx : jcd h x = some ci) (ht : c.exceptionTable.toList = [⟨a, b, hp, ct⟩]) (hcov : covers ⟨a, b, hp, ct⟩ pc = true) (h0 : ct ≠ 0) {C : String} (hC : jnm ci = C) (hl : Cond.classLink own ct C ∈ lw_all)
    (kk : W p l e R s m args below meth c H locs cells slots Q (F0 m hp ls [.ref x])) : WX p l e R s m args below meth c H locs cells slots Q (F0 m pc ls rest) x := by
  intro T hT X
  subst hC
  have hpl : e.platform.magicAccessors = ({} : Platform).magicAccessors := by rw [X.admits.platform]
  obtain ⟨cell, g1, g2, g3⟩ := jcd_at cx.2.2.2.2.2.1 hS hx
  obtain ⟨c', hc', hcl⟩ := Cond.classLink_spec cx.2.2.2.1 (cx.2.2.2.2.1 _ hl) e.platform hpl
  cases g3.symm.trans hc'
  obtain ⟨dk, _, _, kt, hd, _, _, _, _, hkt, _, hopen⟩ := hcl.here
  have hcT := X.warmed.classLinks hcl
  have hW' : s.WarmedH (T.vm.noted m.cls ct (.cls cell.cls)) := X.warmed.noted hd hopen (State.rightAt_cls hcl)
  obtain ⟨kt', hkt', -⟩ := X.warmed.alike.2.2 _ _ hkt
  have hal : T.vm.Alike (T.vm.noted m.cls ct (.cls cell.cls)) := (Vm.Alike.refl T.vm).noted _ _ _
  obtain ⟨kt2, hkt2, -⟩ := hal.2.2 _ _ hkt'
  have hrefl : (T.vm.noted m.cls ct (.cls cell.cls)).assignable cell.cls cell.cls = true := by
    show Vm.assignableAux _ (255 + 1) _ _ = true
    rw [Vm.assignableAux]
    simp
  have hfind : ∀ (Q : Handler → Pre) (E : CtlPost) (d : Bool) (acts : List Action), wp (findHandler (F0 m pc ls rest) x) Q E e d acts ((T.setTop (F0 m pc ls rest)).pushFrame (.throwing x)) ↔ Q (.found hp) d acts (((T.setTop (F0 m pc ls rest)).pushFrame (.throwing x)).setVm (T.vm.noted m.cls ct (.cls cell.cls))) := by
    intro Q E d acts
    have hvm : ((T.setTop (F0 m pc ls rest)).pushFrame (.throwing x)).vm = T.vm := Stand.throwing_vm T _ x
    have hhe : ((T.setTop (F0 m pc ls rest)).pushFrame (.throwing x)).heap = T.heap := Stand.throwing_heap T _ x
    rw [W.findHandler_eq (meth := meth) (code := c) (by rw [hvm]; exact X.method') X.code, ht]
    generalize (T.setTop (F0 m pc ls rest)).pushFrame (.throwing x) = V at hvm hhe ⊢
    rw [← hvm] at hcT hkt2 hrefl ⊢
    have hcell : V.heap[x]? = some cell := by rw [hhe, hT]; exact g1
    have hobj := VmData.ne_statics_of g2
    simp only [covers] at hcov
    have hcT' : V.vm.ClassLinks e.platform (F0 m pc ls rest).method.cls ct cell.cls := hcT
    obtain ⟨ha, ht'⟩ := (resolveClass_links e.toSetting hcT').op (op := VmOp.resolveClass m.cls ct) rfl
    simp only [Bool.and_eq_true, decide_eq_true_eq] at hcov
    simp [findHandler.go, F0, hcov, h0, ha, ht', hcell, hobj, hkt2, hrefl, VmOp.dirties, VmOp.acts]
  obtain ⟨t, a1, a2⟩ := kk (T.setVm (T.vm.noted m.cls ct (.cls cell.cls))) hT (X.noted hW')
  refine ⟨t, ?_, a2⟩
  have hAt : At T (F0 m pc ls rest).method c below := X.here
  obtain ⟨hgo, hw⟩ := hAt.throwing x
  refine Steps.head hgo hw ?_
  rw [stepThread_throwing (frames_entered hAt.top _)]
  have hst : (stepThrowing e ((T.setTop (F0 m pc ls rest)).pushFrame (.throwing x)) x (.java (F0 m pc ls rest) :: T.frames.tail)).Is ((((T.setTop (F0 m pc ls rest)).pushFrame (.throwing x)).setVm (T.vm.noted m.cls ct (.cls cell.cls))).setFrames (.java { F0 m pc ls rest with pc := hp, stack := [.ref x] } :: T.frames.tail)) [] := by
    simp only [stepThrowing, searchFrame, vmDo]
    generalize hr : Sem.go _ e false [] _ = res
    obtain ⟨as, rfl, ha⟩ := Sem.eq_ok_of hr (a := Handler.found hp) (s' := ((T.setTop (F0 m pc ls rest)).pushFrame (.throwing x)).setVm (T.vm.noted m.cls ct (.cls cell.cls))) (acts' := []) (by simp [hfind _ _ _ _])
    exact ⟨rfl, ha⟩
  rw [hst.1]
  obtain ⟨g₀, hr⟩ := X.frames_eq
  have hr' : (T.setVm (T.vm.noted m.cls ct (.cls cell.cls))).frames = .java g₀ :: below := hr
  rw [State.setTop_of_frames _ hr'] at a1
  rw [hr, List.tail_cons]
  have hz : ((((T.setTop (F0 m pc ls rest)).pushFrame (.throwing x)).setVm (T.vm.noted m.cls ct (.cls cell.cls))).setFrames (.java { F0 m pc ls rest with pc := hp, stack := [.ref x] } :: below)) = ((T.setVm (T.vm.noted m.cls ct (.cls cell.cls))).setFrames (.java (F0 m hp ls [.ref x]) :: below)) := by
    rw [State.setTop_of_frames _ hr, State.pushFrame]
    show (((T.setVm (T.vm.noted m.cls ct (.cls cell.cls))).setFrames _).setFrames _).setFrames _ = _
    rw [State.setFrames_setFrames, State.setFrames_setFrames]
  rw [hz]
  exact a1
end JX
/-- a method that may throw: its walk gives its contract -/
theorem jStartT {l : Launch} {y : MethodName} {cc : ByteArray} {nL fr lo : Nat} {rt : Option FieldType} {av : List Value} {h h' : jH} {oc : Outcome} (hy : plainName y.cls = true) (hle : jLe h h') (hv : (lg_sl av).length ≤ nL)
    (body : ∀ (p : Program) (e : Env) (s : State) (m : MethodId) (below : List Frame) (meth : Method) (c : Code) (D : va_G) (dA : Nat → ClassId → Prop) (H0 : Heap) (mc ms : Nat) (ls : Array Slot),
      c.exceptionTable.toList = [] → jCx p s m av.toArray meth c cc y.cls nL rt D dA H0 h.2.2.2.2 → meth.name = y.name → h'.2.2.1 = h.2.2.1 + mc → h'.2.2.2.1 = h.2.2.2.1 + ms → jS D dA H0 h h s.heap [] 0 0 → lv_has ls nL (lv_args 0 av) →
      W p l e { frames := fr, cells := mc, slots := ms, locals := lo } s m av.toArray below meth c s.heap [] 0 0 (jQ D dA H0 below s oc h' mc ms) (F0 m 0 ls [])) :
    jMet l y (ws_ y cc nL rt) fr lo av h h' oc := by
  refine ⟨hle, fun D dA H0 mc ms e1 e2 => ?_⟩
  refine MetFree.of_bodyS (code := cc) (maxLocals := nL) (ret := rt) hy ?_ ?_
  · intro args s m hh hn
    obtain ⟨meth, c, h1, h2, h3, h4, h5, h6, -, -⟩ := Cond.code_spec hn (atoms_spec (ws := ws_ y cc nL rt) hh _ List.mem_cons_self)
    exact ⟨meth, c, h1, h2, h3, h4, h5, h6⟩
  · intro p e s m args below meth c s₁ B hml hP _
    have hh0 : s₁.heap = s.heap := by rw [B.state]; rfl
    obtain ⟨rfl, hF, hR⟩ := hP
    have hts := atoms_spec (ws := ws_ y cc nL rt) B.pre
    have hl := lv_entry av (n := nL) hv
    have htb : c.exceptionTable.toList = [] := by
      have := B.noHandlers (hts _ List.mem_cons_self)
      simpa using this
    have hw := body p e s m below meth c D dA H0 mc ms _ htb ⟨B.exec, B.bytes, hml, findClass_of_methodNamed B.named, fun w h => hts w (List.mem_cons_of_mem _ h), hF, B.returns, B.notSynchronized, hR.2.2.2.1⟩ (name_of_methodNamed B.named B.method).1 e1 e2
      ⟨hR, jLe.rf _, (fun q hq => by cases hq), rfl, rfl⟩ hl
    obtain ⟨t, a1, b1, b2, b3⟩ := hw s₁ hh0 (Stand.of_body B)
    refine ⟨t, oc, ?_, b1, b2, b3⟩
    have e0 : entryFrame m av.toArray nL = F0 m 0 ((lg_sl av ++ List.replicate (nL - (lg_sl av).length) Slot.unset).toArray) [] := by
      rw [lg_entry_eq]
    rw [← e0] at a1
    exact a1
/-- a method with handlers -/
theorem jStartH {l : Launch} {y : MethodName} {cc : ByteArray} {nL fr lo : Nat} {rt : Option FieldType} {hh : List (Nat × Nat × Nat × Nat)} {av : List Value} {h h' : jH} {oc : Outcome} (hy : plainName y.cls = true) (hle : jLe h h') (hv : (lg_sl av).length ≤ nL)
    (body : ∀ (p : Program) (e : Env) (s : State) (m : MethodId) (below : List Frame) (meth : Method) (c : Code) (D : va_G) (dA : Nat → ClassId → Prop) (H0 : Heap) (mc ms : Nat) (ls : Array Slot),
      c.exceptionTable.toList = tableOf hh → jCx p s m av.toArray meth c cc y.cls nL rt D dA H0 h.2.2.2.2 → meth.name = y.name → h'.2.2.1 = h.2.2.1 + mc → h'.2.2.2.1 = h.2.2.2.1 + ms → jS D dA H0 h h s.heap [] 0 0 → lv_has ls nL (lv_args 0 av) →
      W p l e { frames := fr, cells := mc, slots := ms, locals := lo } s m av.toArray below meth c s.heap [] 0 0 (jQ D dA H0 below s oc h' mc ms) (F0 m 0 ls [])) :
    jMet l y (wsW_ y cc nL rt hh) fr lo av h h' oc := by
  refine ⟨hle, fun D dA H0 mc ms e1 e2 => ?_⟩
  refine MetFree.of_bodyS (code := cc) (maxLocals := nL) (ret := rt) hy ?_ ?_
  · intro args s m hh0 hn
    obtain ⟨m', meth, c, h0, h1, h2, h3, h4, -, h5, h6, -⟩ := Cond.codeWith_spec (atoms_spec (ws := wsW_ y cc nL rt hh) hh0 _ List.mem_cons_self)
    cases hn.symm.trans h0
    exact ⟨meth, c, h1, h2, h3, h4, h5, h6⟩
  · intro p e s m args below meth c s₁ B hml hP _
    have hh0 : s₁.heap = s.heap := by rw [B.state]; rfl
    obtain ⟨rfl, hF, hR⟩ := hP
    have hts := atoms_spec (ws := wsW_ y cc nL rt hh) B.pre
    have hl := lv_entry av (n := nL) hv
    have htb : c.exceptionTable.toList = tableOf hh := by
      obtain ⟨m', meth', c', h0, h1, h2, h3, h4, h7, -⟩ := Cond.codeWith_spec (hts _ List.mem_cons_self)
      cases B.named.symm.trans h0
      cases B.method.symm.trans h1
      cases (Stand.of_body B).code.symm.trans h2
      rw [← h7, table_eq]
    have hw := body p e s m below meth c D dA H0 mc ms _ htb ⟨B.exec, B.bytes, hml, findClass_of_methodNamed B.named, fun w h => hts w (List.mem_cons_of_mem _ h), hF, B.returns, B.notSynchronized, hR.2.2.2.1⟩ (name_of_methodNamed B.named B.method).1 e1 e2
      ⟨hR, jLe.rf _, (fun q hq => by cases hq), rfl, rfl⟩ hl
    obtain ⟨t, a1, b1, b2, b3⟩ := hw s₁ hh0 (Stand.of_body B)
    refine ⟨t, oc, ?_, b1, b2, b3⟩
    have e0 : entryFrame m av.toArray nL = F0 m 0 ((lg_sl av ++ List.replicate (nL - (lg_sl av).length) Slot.unset).toArray) [] := by
      rw [lg_entry_eq]
    rw [← e0] at a1
    exact a1
section JW
variable {p : Program} {l : Launch} {e : Env} {R : Room} {s : State} {m : MethodId} {args : Array Value} {below : List Frame} {meth : Method} {c : Code} {H : Heap} {locs : List Loc} {cells slots : Nat} {Q : State → Prop}
variable {cc : ByteArray} {pc : Nat} {ls : Array Slot} {st0 st1 rest : List Value} {D : va_G} {dA : Nat → ClassId → Prop} {H0 : Heap} {K : Nat → Nat} {hs h h1 : jH} {own : String} {nL : Nat} {rt : Option FieldType} {α : Type} {z : α × jH}
variable {y : MethodName} {cc' : ByteArray} {nL' fr lo idx x : Nat} {rt' : Option FieldType} {As : List Value} {ov : Option Value} {hh : List (Nat × Nat × Nat × Nat)}
/-- a callee with handlers comes back -/
theorem j_backW {mc ms : Nat} (cx : jCx p s m args meth c cc own nL rt D dA H0 K) (hM : jMet l y (wsW_ y cc' nL' rt' hh) fr lo As h h1 (.returned ov)) (e1 : h1.2.2.1 = h.2.2.1 + mc) (e2 : h1.2.2.2.1 = h.2.2.2.1 + ms) (hG : GoodIn lw_all (wsW_ y cc' nL' rt' hh)) (hini : (Cond.initialized y.cls).before args s = true) (hR : fr + 1 ≤ R.frames ∧ 8 + (nL' + 11) + lo ≤ R.locals) :
    Back l R p e below s args y 3 8 (PreOf R mc ms (va_Pc As (fun U => jF D dA H0 h.2.2.2.2 U ∧ jRep D dA H0 h U.heap))) (PostOf (fun _ _ o t => o = .returned ov ∧ jRep D dA H0 h1 t.heap) mc ms (fun q => H0.size ≤ q)) := by
  have hws := pay_in cx.2.2.2.2.1 hG
  have hini' : ∀ (a' : Array Value) (U : State), s.WarmedH U.vm → (Cond.initialized y.cls).before a' U = true := fun a' U hW => word_at hW (Or.inl (by first | rfl | simp [Cond.onTables, Cond.keeps, Cond.steady])) hini
  refine Back.of_freeWith (handlers := hh) (S := headSpec (wsW_ y cc' nL' rt' hh) { frames := fr, cells := mc, slots := ms, locals := lo }) (P := va_Pc As (fun U => jF D dA H0 h.2.2.2.2 U ∧ jRep D dA H0 h U.heap)) (K := fun _ _ _ _ _ => True) (Q := fun _ st o t => jFr D dA H0 (.returned ov) h1 mc ms st o t) (bytes := cc') (maxL := nL') (ret := rt')
    (E := fun a st o t L k n => k = mc ∧ n = ms ∧ ∀ q ∈ L, H0.size ≤ q.base) (hM.2 D dA H0 mc ms e1 e2) hR.1 hR.2 ?_ ?_ (fun _ _ _ _ _ _ _ _ _ => trivial) ?_ ?_
  · intro m meth c A a X hp
    exact ⟨atoms_intro fun w hw => hws w hw _ _ X.warmed, hws _ List.mem_cons_self _ _ X.warmed, hini' _ _ X.warmed, hp.1, hp.2.1⟩
  · intro m meth c A a g mk X hp
    exact jblind _ _ _ _ hp.2.2
  · intro a st o t hq
    obtain ⟨rfl, q1, q2, L, q3, q4⟩ := hq
    exact ⟨L, mc, ms, ⟨⟨_, rfl⟩, q2, q3⟩, rfl, rfl, q4⟩
  · intro m meth c A a g mk v t L k n X hp hq hF hE
    obtain ⟨e1, e2, hL⟩ := hE
    subst e1; subst e2
    exact ⟨g, mk, t, L, rfl, rfl, ⟨hq.1, hq.2.1⟩, rfl, hL, rfl, rfl⟩
theorem j_callVW (cx : jCx p s m args meth c cc own nL rt D dA H0 K) (hS : jS D dA H0 hs h H locs cells slots) (hK : K = hs.2.2.2.2) (hsz : ls.size = nL) (hm : z.2.2.2.1 ≤ hs.2.2.1 + R.cells ∧ z.2.2.2.2.1 ≤ hs.2.2.2.1 + R.slots)
    {b ci : Nat} (hM : jMet l y (wsW_ y cc' nL' rt' hh) fr lo (.ref b :: As) h h1 (.returned ov)) (hz : jLe h1 z.2) (hrc : jcd h b = some ci) (hnm : jnm ci = y.cls) (hco : Cond.codeWith y cc' nL' rt' hh ∈ lw_all) (hin : Cond.instanceMethod y ∈ lw_all) (hse : Cond.selects y.cls y y ∈ lw_all) (hli : Cond.methodLink own idx y ∈ lw_all) (hini : Cond.initialized y.cls ∈ lw_all) {n : Nat} (hp : jPd y n) (hn : As.length = n) (hst : st0 = As.reverse ++ .ref b :: rest) (hroom : (rest.map fun v => v.category).sum ≤ 8) (hR : fr + 1 ≤ R.frames ∧ 8 + (nL' + 11) + lo ≤ R.locals) (hd : decode cc pc = .ok (.invokevirtual idx, 3)) (hst1 : ov.toList ++ rest = st1)
    (kk : ∀ (H1 : Heap) (locs1 : List Loc) (cells1 slots1 : Nat), jS D dA H0 hs h1 H1 locs1 cells1 slots1 → W p l e R s m args below meth c H1 locs1 cells1 slots1 Q (F0 m (pc + 3) ls st1)) : W p l e R s m args below meth c H locs cells slots Q (F0 m pc ls st0) := by
  subst hst1
  obtain ⟨mc, ms, e1, e2, e3, e4⟩ := jroom hS hM.1 hz hm
  have hts := cx.2.2.2.2.1
  have hrv := jcd_at cx.2.2.2.2.2.1 hS hrc
  rw [hnm] at hrv
  obtain ⟨cellB, hcB, hoB, hclB⟩ := hrv
  have hK2 := j_backW (R := R) (below := below) (e := e) cx hM e1 e2 (lw_methW hco) (hts _ hini) hR
  refine j_after hS hM.1 e1 e2 ?_ kk
  intro T hT X
  obtain ⟨mk, methM, hnamed, hmethM, hstM, habM⟩ := Cond.instanceMethod_spec (hts _ hin)
  obtain ⟨mk', methM', cM, hn', hmethM', -, -, -, -, -, -, hsigM⟩ := Cond.codeWith_spec (hts _ hco)
  cases hnamed.symm.trans hn'
  cases hmethM.symm.trans hmethM'
  obtain ⟨c2, r2, m2, q1, q2, q3, q4, kP, hkP, hkPi⟩ := Cond.selects_spec (hts _ hse)
  cases hclB.symm.trans q1
  cases (State.methodFound?_of_named hnamed ⟨hp.1, hp.2.1⟩).symm.trans q2
  cases hnamed.symm.trans q3
  have hselP : selectMethod e.platform s.vm cellB.cls mk = .method mk := by rw [Launch.admits_selectMethod X.admits]; exact q4
  have hlen : As.length = methM.sig.parameters.length := by
    have h2 := hp.2.2
    rw [hsigM] at h2
    exact hn.trans (Option.some.inj h2).symm
  obtain ⟨vm₁, X₁, hstep₁⟩ := X.invokevirtual cx.1 cx.2.2.2.1 (hts _ hli) hnamed hmethM hstM hkP hkPi ⟨hp.1, hp.2.1⟩ (a := b) (cell := cellB) (by rw [hT]; exact hcB)
    (fun z h => by rw [h] at hoB; cases hoB) hselP hmethM habM hkP hkPi (g := F0 m pc ls st0) rfl (argsL := As) (rest := rest) hlen hst (by rw [cx.2.1]; exact hd)
  obtain ⟨v, B, X', ⟨g', mk2, t, L, f1, f2, hq, f3, hL, f4, f5⟩, hsteps⟩ := hK2 m meth c ⟨T.setVm vm₁, locs, cells, slots⟩ (F0 m pc ls rest) (.invokevirtual idx) mk (Value.ref b :: As).toArray X₁ rfl (by rw [cx.2.2.1]; exact hsz) (by rw [cx.2.1]; exact hd) (lv_room (rest := rest) (pc := pc) (ls := ls) hroom) (X₁.named hnamed) ⟨e3, e4, jPre cx hS hK (T.setVm vm₁) hT X₁.warmed⟩
  obtain ⟨U', l2, c2', s2⟩ := B
  dsimp only [Pt.U, Pt.locs, Pt.cells, Pt.slots] at X' f1 f2 f3 f4 f5 hsteps
  subst f3; subst f4; subst f5
  exact ⟨v, (T.setVm vm₁).calling g' mk2 (Value.ref b :: As).toArray, t, U', L, hT, X', hL, f1, f2, hq, fun target h => hstep₁ _ fun acts => by rw [doInvoke_state]; exact hsteps.trans h⟩
theorem j_callSW (cx : jCx p s m args meth c cc own nL rt D dA H0 K) (hS : jS D dA H0 hs h H locs cells slots) (hK : K = hs.2.2.2.2) (hsz : ls.size = nL) (hm : z.2.2.2.1 ≤ hs.2.2.1 + R.cells ∧ z.2.2.2.2.1 ≤ hs.2.2.2.1 + R.slots)
    (hM : jMet l y (wsW_ y cc' nL' rt' hh) fr lo As h h1 (.returned ov)) (hz : jLe h1 z.2) (hco : Cond.codeWith y cc' nL' rt' hh ∈ lw_all) (hsc : Cond.static y ∈ lw_all) (hli : Cond.methodLink own idx y ∈ lw_all) (hini : Cond.initialized y.cls ∈ lw_all) {n : Nat} (hp : jPd y n) (hn : As.length = n) (hst : st0 = As.reverse ++ rest) (hroom : (rest.map fun v => v.category).sum ≤ 8) (hR : fr + 1 ≤ R.frames ∧ 8 + (nL' + 11) + lo ≤ R.locals) (hd : decode cc pc = .ok (.invokestatic idx, 3)) (hst1 : ov.toList ++ rest = st1)
    (kk : ∀ (H1 : Heap) (locs1 : List Loc) (cells1 slots1 : Nat), jS D dA H0 hs h1 H1 locs1 cells1 slots1 → W p l e R s m args below meth c H1 locs1 cells1 slots1 Q (F0 m (pc + 3) ls st1)) : W p l e R s m args below meth c H locs cells slots Q (F0 m pc ls st0) := by
  subst hst1
  obtain ⟨mc, ms, e1, e2, e3, e4⟩ := jroom hS hM.1 hz hm
  have hts := cx.2.2.2.2.1
  have hK2 := j_backW (R := R) (below := below) (e := e) cx hM e1 e2 (lw_methW hco) (hts _ hini) hR
  refine j_after hS hM.1 e1 e2 ?_ kk
  intro T hT X
  obtain ⟨mk, methM, cM, hnamed, hmethM, -, -, -, -, -, -, hsigM⟩ := Cond.codeWith_spec (hts _ hco)
  have hstatic : methM.isStatic = true := Cond.static_spec hnamed hmethM (hts _ hsc)
  obtain ⟨kP, hkP, -⟩ := className_of_methodNamed hnamed
  have hinitP : kP.init = .initialized := Cond.initialized_spec (findClass_of_methodNamed hnamed) hkP (hts _ hini)
  have hlen : As.length = methM.sig.parameters.length := by
    have h2 := hp.2.2
    rw [hsigM] at h2
    exact hn.trans (Option.some.inj h2).symm
  obtain ⟨vm₁, X₁, hstep₁⟩ := X.invokestatic cx.1 cx.2.2.2.1 (hts _ hli) hnamed hmethM hstatic hkP hinitP ⟨hp.1, hp.2.1⟩ (g := F0 m pc ls st0) rfl (argsL := As) (rest := rest) hlen hst (by rw [cx.2.1]; exact hd)
  obtain ⟨v, B, X', ⟨g', mk2, t, L, f1, f2, hq, f3, hL, f4, f5⟩, hsteps⟩ := hK2 m meth c ⟨T.setVm vm₁, locs, cells, slots⟩ (F0 m pc ls rest) (.invokestatic idx) mk As.toArray X₁ rfl (by rw [cx.2.2.1]; exact hsz) (by rw [cx.2.1]; exact hd) (lv_room (rest := rest) (pc := pc) (ls := ls) hroom) (X₁.named hnamed) ⟨e3, e4, jPre cx hS hK (T.setVm vm₁) hT X₁.warmed⟩
  obtain ⟨U', l2, c2', s2⟩ := B
  dsimp only [Pt.U, Pt.locs, Pt.cells, Pt.slots] at X' f1 f2 f3 f4 f5 hsteps
  subst f3; subst f4; subst f5
  exact ⟨v, (T.setVm vm₁).calling g' mk2 As.toArray, t, U', L, hT, X', hL, f1, f2, hq, fun target h => hstep₁ _ fun acts => by rw [doInvoke_state]; exact hsteps.trans h⟩
end JW
