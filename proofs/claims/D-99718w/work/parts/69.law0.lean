/-! the law's end (STARTING TEXT: SKELETON.whole), its row -/
set_option maxRecDepth 100000
/-! THE CLAIM OUT OF ONE WALK OF THE LAW'S BODY. Your part is whole_start (and what it stands on); all else here is the same for every law, but numbers. -/
def R_law : String := "WornSkinLaw"
def lw_P (b : Addr) (xs : List Int32) (args : Array Value) (s : State) : Prop := args = #[.ref b] ∧ s.IntsAt b xs ∧ xs.length ≤ 448 ∧ (Jvm.Cond.and given_1 narrow_1).before args s = true
def lw_Q (_ : Array Value) (s : State) (o : Outcome) (t : State) : Prop := o = .returned (some (.int 1)) ∧ Framed s o t [] 774447 6772764
def lw_Z (below : List Frame) (a : Array Value) (s : State) : State → Prop := fun t => ∃ o, t.status = .running ∧ Ended t below o ∧ lw_Q a s o t
/-- the law's own end, with 1 on the stack, nothing written that was there before, its room as the claim has it -/
theorem lw_ret {p : Program} {l : Launch} {e : Env} {s : State} {m : MethodId} {below : List Frame} {meth : Method} {c : Code} {b : Nat} (hx : p.tables.exec = Jvm.exec) (hb : c.code = code) (hr : meth.sig.returnType = ret) (hlocks : meth.locks = false) {pc : Nat} {H : Heap} {ls : Array Slot} (hdg : decode code pc = .ok (.ireturn, 1)) : W p l e room_1 s m #[Value.ref b] below meth c H [] 774447 6772764 (lw_Z below #[Value.ref b] s) (F0 m pc ls [.int 1]) := by
  intro T hT X
  obtain ⟨fs, hret, hrun, hended, hW, hframe⟩ := X.leave (v := some (.int 1)) (hlocks := hlocks) (fun h => by rw [hr] at h; cases h)
  have hmeth' : T.vm.method? m = some meth := X.method'
  refine ⟨T.setFrames fs, ?_, .returned (some (.int 1)), hrun, hended, rfl, ⟨_, rfl⟩, hW, hframe⟩
  jvm_step X.here [X.here.top, hx, hb, hdg, hmeth', hr, ret, narrow_b1]
  (try refine ⟨rfl, ?_⟩); (try refine ⟨rfl, ?_⟩)
  first | (intro acts; rw [hret _ acts rfl rfl rfl]) | rw [hret _ _ rfl rfl rfl]
  exact Steps.refl _
/-- what holds at the law's entry: the machine, the code, the tables' words (any of lw_tbl by 'hts w (by decide +kernel)'), the script of L ints xs at the cell b, what the Statement gives of the start (any of its parts by flat_of_before) -/
def lw_At (p : Program) (s : State) (m : MethodId) (meth : Method) (c : Code) (b L : Nat) (xs : Nat → Int32) : Prop :=
  p.tables.exec = Jvm.exec ∧ c.code = code ∧ meth.sig.returnType = ret ∧ c.maxLocals = 7 ∧ s.vm.findClass R_law = some m.cls ∧ (∀ w ∈ lw_tbl, w.before #[Value.ref b] s = true) ∧ va_X b L xs s s.heap ∧ b < s.heap.size ∧ meth.locks = false ∧ (Jvm.Cond.and given_1 narrow_1).before #[Value.ref b] s = true
section
variable {p : Program} {l : Launch} {e : Env} {s : State} {m : MethodId} {args : Array Value} {below : List Frame} {meth : Method} {c : Code} {H : Heap} {locs : List Loc} {cells slots : Nat}
variable {pc : Nat} {ls : Array Slot} {D : va_G} {dA : Nat → ClassId → Prop} {H0 : Heap} {K : Nat → Nat} {hs h : jH} {own : String} {nL : Nat}
theorem j_lawret (cx : jCx p s m args meth c code own nL ret D dA H0 K) (hS : jS D dA H0 hs h H locs cells slots) {v r : Int32} {h' : jH} {b : Nat} (hf : (jRn .boolean v).1 h = some (r, h')) (hr1 : r = 1) (hA : args = #[Value.ref b]) (hH0 : H0 = s.heap) (e1 : h'.2.2.1 ≤ hs.2.2.1 + 774447) (e2 : h'.2.2.2.1 ≤ hs.2.2.2.1 + 6772764) (hd : decode code pc = .ok (.ireturn, 1)) :
    W p l e room_1 s m args below meth c H locs cells slots (lw_Z below args s) (F0 m pc ls [.int v]) := by
  unfold jRn at hf
  by_cases hn : vp_nar .boolean v = v
  · rw [if_pos hn] at hf
    cases hf
    subst hr1
    subst hA
    refine va_forget (fun q hq => by rw [← hH0]; exact hS.2.2.1 q hq) ?_
    have a1 := hS.2.2.2.1
    have a2 := hS.2.2.2.2
    intro T hT X
    exact lw_ret (ls := ls) cx.1 cx.2.1 cx.2.2.2.2.2.2.1 cx.2.2.2.2.2.2.2.1 hd T hT ⟨X.admits, X.cas, X.clock, X.frames, X.room, X.hears, X.method, X.code, X.here, X.tail, X.warmed, X.limits, X.bytes, X.same.weaken (fun y hy _ => hy) (by omega) (by omega)⟩
  · rw [if_neg hn] at hf
    cases hf
end
