/-! CORE 2: what the abstract heap says of the machine's; what is known of its tables -/
set_option maxRecDepth 100000
def jEl (x : jX) (j : Nat) : Value := match x with
  | .inl f => .int (f j)
  | .inr (.inl f) => .long (f j)
  | .inr (.inr (.inl f)) => .float (f j)
  | .inr (.inr (.inr (.inl f))) => .double (f j)
  | .inr (.inr (.inr (.inr f))) => va_rf (f j)
def jV (b q : Nat) (cell : Cell) : Prop := cell.vm ≠ .unknown ∧ cell.vm.isStatics = false ∧ (b ≤ q → cell.vm = .none ∧ cell.monitor.owner = none ∧ cell.monitor.count = 0)
/-- an array's length: what is read of it, the number that arraylength gives -/
def jSz (n : Nat) (cell : Cell) : Prop := n ≤ cell.slots.size ∧ nI cell.slots.size = nI n
theorem jSz.of {n : Nat} {cell : Cell} (h : cell.slots.size = n) : jSz n cell := ⟨Nat.le_of_eq h.symm, by rw [h]⟩
theorem jSz.to {n : Nat} {c1 c2 : Cell} (h : c2.slots.size = c1.slots.size) (h1 : jSz n c1) : jSz n c2 := ⟨by rw [h]; exact h1.1, by rw [h]; exact h1.2⟩
theorem jin {n : Nat} {i : Int32} {cell : Cell} (h : jSz n cell) (hi : vp_in i n) : vp_in i cell.slots.size := fun q => hi (q.elim Or.inl fun q => Or.inr (Nat.le_trans h.1 q))
def jAt (D : va_G) (dA : Nat → ClassId → Prop) (b q : Nat) (e : jC) (H : Heap) : Prop := match e with
  | .inl o => ∃ (r : vw_C) (cell : Cell), jCl[o.1]? = some r ∧ H[q]? = some cell ∧ cell.cls = D.1 o.1 ∧ jV b q cell ∧ o.2.length = r.2.2 ∧ ∀ k, k < r.2.2 → cell.slots[D.2 o.1 k]? = some (vp_V o.2 k)
  | .inr a => ∃ (ty : FieldType) (cell : Cell), jTy[a.1]? = some ty ∧ H[q]? = some cell ∧ dA a.1 cell.cls ∧ jV b q cell ∧ jSz a.2.1 cell ∧ ∀ j, j < a.2.1 → cell.slots[j]? = some (jEl a.2.2 j)
def jRep (D : va_G) (dA : Nat → ClassId → Prop) (H0 : Heap) (h : jH) (H : Heap) : Prop :=
  H.size = h.2.1 ∧ h.2.2.2.2 0 = H0.size ∧ H0.size ≤ H.size ∧ (∀ q : Nat, q < H0.size → H[q]? = H0[q]?) ∧ ∀ (q : Nat) (e : jC), h.1 q = some e → jAt D dA H0.size q e H
theorem jAt.kept {D : va_G} {dA : Nat → ClassId → Prop} {b q : Nat} {e : jC} {H H1 : Heap} (h : jAt D dA b q e H) (hq : H1[q]? = H[q]?) : jAt D dA b q e H1 := by
  cases e with
  | inl o =>
    obtain ⟨r, cell, h1, h2, h3⟩ := h
    exact ⟨r, cell, h1, hq.trans h2, h3⟩
  | inr a =>
    obtain ⟨ty, cell, h1, h2, h3⟩ := h
    exact ⟨ty, cell, h1, hq.trans h2, h3⟩
theorem jAt.lt {D : va_G} {dA : Nat → ClassId → Prop} {b q : Nat} {e : jC} {H : Heap} (h : jAt D dA b q e H) : q < H.size := by
  cases e with
  | inl o =>
    obtain ⟨r, cell, h1, h2, h3⟩ := h
    exact (Array.getElem?_eq_some_iff.mp h2).1
  | inr a =>
    obtain ⟨ty, cell, h1, h2, h3⟩ := h
    exact (Array.getElem?_eq_some_iff.mp h2).1
/-- a cell is written -/
theorem jRep.set {D : va_G} {dA : Nat → ClassId → Prop} {H0 : Heap} {h : jH} {H H1 : Heap} (hR : jRep D dA H0 h H) {a : Nat} {e : jC} (hb : h.2.2.2.2 0 ≤ a) (he : jAt D dA H0.size a e H1) (z : H1.size = H.size) (oq : ∀ q : Nat, q ≠ a → H1[q]? = H[q]?) : jRep D dA H0 (jset h a e) H1 := by
  obtain ⟨r1, r2, r3, r4, r5⟩ := hR
  refine ⟨z.trans r1, r2, by rw [z]; exact r3, fun q hq => ?_, fun q x hx => ?_⟩
  · rw [oq q (by omega)]
    exact r4 q hq
  · by_cases hq : q = a
    · subst hq
      simp only [jset, if_true] at hx
      cases hx
      exact he
    · simp only [jset, if_neg hq] at hx
      exact (r5 q x hx).kept (oq q hq)
theorem jRep.new {D : va_G} {dA : Nat → ClassId → Prop} {H0 : Heap} {h : jH} {H H1 : Heap} {n : Nat} (hR : jRep D dA H0 h H) {e : jC} (he : jAt D dA H0.size H.size e H1) (z : H1.size = H.size + 1) (oq : ∀ q : Nat, q < H.size → H1[q]? = H[q]?) : jRep D dA H0 (jnew h e n) H1 := by
  obtain ⟨r1, r2, r3, r4, r5⟩ := hR
  refine ⟨by rw [z, r1]; rfl, r2, by rw [z]; omega, fun q hq => ?_, fun q x hx => ?_⟩
  · rw [oq q (by omega)]
    exact r4 q hq
  · by_cases hq : q = h.2.1
    · subst hq
      simp only [jnew, if_true] at hx
      cases hx
      rw [← r1]
      exact he
    · simp only [jnew, if_neg hq] at hx
      exact (r5 q x hx).kept (oq q (r5 q x hx).lt)
/-! what is known of the tables -/
def jex : Cond → Bool
  | .fieldLinkNest .. => true
  | .methodLinkNest .. => true
  | .declares _ => true
  | .castable .. => true
  | .arrayOver (.object _) => true
  | _ => false
theorem jex_warm {w : Cond} {s U : State} (hx : jex w = true) (hW : s.WarmedH U.vm) (h : va_Nw w s) : va_Nw w U := by
  unfold jex at hx
  split at hx
  · exact va_Nw.warmF hW h
  · exact va_Nw.warmM hW h
  · exact va_Nw.warmD hW h
  · exact va_Nw.warmC hW h
  · exact va_AO.moved hW.alike h
  · cases hx
theorem jex_use {w : Cond} {s : State} {A : Array Value} (hx : jex w = true) (h : va_Nw w s) : w.before A s = true := by
  unfold jex at hx
  split at hx
  · exact va_Nw.use rfl h
  · exact va_Nw.use rfl h
  · exact va_Nw.use rfl h
  · exact va_Nw.use rfl h
  · exact va_AO.use h
  · cases hx
def jKn (U : State) (q : vw_C) (c : ClassId) (iS : Nat → Nat) : Prop := U.vm.findClass q.1 = some c ∧ ∀ k, k < q.2.2 → ∃ (cf : ClassId) (kf : Class) (fi : Nat) (f : Field), U.fieldFound? (q.2.1 k).1 (q.2.1 k).2.1 (q.2.1 k).2.2.1 = some (cf, kf, fi, f) ∧ f.slot = iS k ∧ f.isStatic = false
theorem jKn.moved {u U : State} {q : vw_C} {c : ClassId} {iS : Nat → Nat} (hvm : u.vm.Alike U.vm) (h : jKn u q c iS) : jKn U q c iS := by
  refine ⟨by rw [hvm.findClass]; exact h.1, fun k hk => ?_⟩
  obtain ⟨cf, kf, fi, f, h1, h2, h3⟩ := h.2 k hk
  obtain ⟨k', hi', he⟩ := State.fieldFound?_setVm hvm h1
  exact ⟨cf, k', fi, f, hi', h2, h3⟩
/-- a static field as the cells that were there hold it -/
def jLs (O n d : String) (U : State) (H0 : Heap) : Prop := ∃ (c : ClassId) (k : Class) (i : Nat) (f : Field) (a : Nat) (cell : Cell), U.vm.findClass O = some c ∧ U.fieldFound? O n d = some (c, k, i, f) ∧ f.isStatic = true ∧ k.statics = some a ∧ H0[a]? = some cell ∧ cell.vm.isStatics = true ∧ cell.cls = c ∧ f.slot < cell.slots.size ∧ k.staticTypes[f.slot]? = some f.type
theorem jLs.moved {O n d : String} {u U : State} {H0 : Heap} (hvm : u.vm.Alike U.vm) (h : jLs O n d u H0) : jLs O n d U H0 := by
  obtain ⟨c, k, i, f, a, cell, h0, h1, h2, h3, h4, h5, h6, h7, h8⟩ := h
  obtain ⟨k', hi', he⟩ := State.fieldFound?_setVm hvm h1
  exact ⟨c, k', i, f, a, cell, by rw [hvm.findClass]; exact h0, hi', h2, by rw [he]; exact h3, h4, h5, h6, h7, by rw [he]; exact h8⟩
def jLsT : List (String × String × String) := [("java/lang/Throwable", "UNASSIGNED_STACK", "[Ljava/lang/StackTraceElement;"), ("java/lang/Throwable", "SUPPRESSED_SENTINEL", "Ljava/util/List;")]
def jF (D : va_G) (dA : Nat → ClassId → Prop) (H0 : Heap) (K : Nat → Nat) (U : State) : Prop :=
  (∀ (c : Nat) (q : vw_C), jCl[c]? = some q → jKn U q (D.1 c) (D.2 c)) ∧
  (∀ (c : Nat) (q : vw_C), jCl[c]? = some q → c < 33 → u_Kn U q.1 q.2.1 q.2.2 (D.1 c) (D.2 c)) ∧
  (∀ (k : Nat) (ty : FieldType), jTy[k]? = some ty → (∀ cA : ClassId, dA k cA → ArrOfT U cA ty) ∧ (jnd k = true → ∃ cA : ClassId, va_RA U cA ty ∧ ∀ c' : ClassId, dA k c' ↔ c' = cA)) ∧
  (∀ w ∈ lw_tbl, jex w = true → va_Nw w U) ∧
  (∀ x ∈ jSt, va_Z x.1 x.2.1 x.2.2.1 (x.2.2.2 K) (fun q => H0.size ≤ q) U H0) ∧
  (∀ x ∈ jStr, vk_R x.1 x.2.1 x.2.2.1 (K x.2.2.2) U) ∧
  va_Mi "[Ljava/lang/Object;" (K 55) U ∧
  (∀ x ∈ jLsT, jLs x.1 x.2.1 x.2.2 U H0)
theorem jF.warm {D : va_G} {dA : Nat → ClassId → Prop} {H0 : Heap} {K : Nat → Nat} {s U : State} (hW : s.WarmedH U.vm) (h : jF D dA H0 K s) : jF D dA H0 K U := by
  obtain ⟨h1, h2, h3, h4, h5, h6, h7, h8⟩ := h
  exact ⟨fun c q hq => (h1 c q hq).moved hW.alike, fun c q hq hc => u_Kn_moved hW.alike (h2 c q hq hc), fun k ty hk => ⟨fun cA hc => arrOfT_moved hW.alike ((h3 k ty hk).1 cA hc), fun h7 => (by
      obtain ⟨cA, x1, x2⟩ := (h3 k ty hk).2 h7
      exact ⟨cA, x1.moved hW.alike, x2⟩)⟩,
    fun w hw hx => jex_warm hx hW (h4 w hw hx), fun x hx => (h5 x hx).moved hW.alike, fun x hx => (h6 x hx).warm hW, h7.moved hW.alike, fun x hx => (h8 x hx).moved hW.alike⟩
theorem jF.blind {D : va_G} {dA : Nat → ClassId → Prop} {H0 : Heap} {K : Nat → Nat} {U : State} {g : JFrame} {mk : MethodId} {a : Array Value} (h : jF D dA H0 K U) : jF D dA H0 K (U.calling g mk a) :=
  jF.warm (s := U) (U := U.calling g mk a) (State.WarmedH.refl U) h
/-! contracts -/
def jFr (D : va_G) (dA : Nat → ClassId → Prop) (H0 : Heap) (oc : Outcome) (h' : jH) (mc ms : Nat) (s : State) (o : Outcome) (t : State) : Prop :=
  o = oc ∧ jRep D dA H0 h' t.heap ∧ s.WarmedH t.vm ∧ ∃ L : List Loc, s.sameButNew ({ t with vm := s.vm } : State) L mc ms ∧ ∀ q ∈ L, H0.size ≤ q.base
def jMet (l : Launch) (y : MethodName) (ws : List Cond) (fr lo : Nat) (av : List Value) (h h' : jH) (oc : Outcome) : Prop :=
  jLe h h' ∧ ∀ (D : va_G) (dA : Nat → ClassId → Prop) (H0 : Heap) (mc ms : Nat), h'.2.2.1 = h.2.2.1 + mc → h'.2.2.2.1 = h.2.2.2.1 + ms →
    MetFree l y (headSpec ws { frames := fr, cells := mc, slots := ms, locals := lo }) (va_Pc av (fun U => jF D dA H0 h.2.2.2.2 U ∧ jRep D dA H0 h U.heap)) (fun _ _ _ _ _ => True) (fun _ st o t => jFr D dA H0 oc h' mc ms st o t)
/-- the end that a walk comes to -/
def jQ (D : va_G) (dA : Nat → ClassId → Prop) (H0 : Heap) (below : List Frame) (s : State) (oc : Outcome) (h' : jH) (mc ms : Nat) : State → Prop := fun t =>
  t.status = .running ∧ Ended t below oc ∧ jFr D dA H0 oc h' mc ms s oc t
/-- where a walk stands -/
def jS (D : va_G) (dA : Nat → ClassId → Prop) (H0 : Heap) (hs h : jH) (H : Heap) (locs : List Loc) (cells slots : Nat) : Prop :=
  jRep D dA H0 h H ∧ jLe hs h ∧ (∀ q ∈ locs, H0.size ≤ q.base) ∧ h.2.2.1 = hs.2.2.1 + cells ∧ h.2.2.2.1 = hs.2.2.2.1 + slots
def jCx (p : Program) (s : State) (m : MethodId) (args : Array Value) (meth : Method) (c : Code) (cc : ByteArray) (own : String) (nL : Nat) (rt : Option FieldType) (D : va_G) (dA : Nat → ClassId → Prop) (H0 : Heap) (K : Nat → Nat) : Prop :=
  p.tables.exec = Jvm.exec ∧ c.code = cc ∧ c.maxLocals = nL ∧ s.vm.findClass own = some m.cls ∧ (∀ w ∈ lw_all, w.before args s = true) ∧ jF D dA H0 K s ∧ meth.sig.returnType = rt ∧ meth.locks = false ∧ ∀ q : Nat, q < H0.size → s.heap[q]? = H0[q]?
theorem W.mono {p : Program} {l : Launch} {e : Env} {R : Room} {s : State} {m : MethodId} {args : Array Value} {below : List Frame} {meth : Method} {c : Code} {H : Heap} {locs : List Loc} {cells slots : Nat} {Q Q' : State → Prop} {g : JFrame} (hq : ∀ t, Q t → Q' t) (k : W p l e R s m args below meth c H locs cells slots Q g) : W p l e R s m args below meth c H locs cells slots Q' g := by
  intro T hT X
  obtain ⟨t, a, b⟩ := k T hT X
  exact ⟨t, a, hq t b⟩
/-- a method's walk gives its contract -/
theorem jStart {l : Launch} {y : MethodName} {cc : ByteArray} {nL fr lo : Nat} {rt : Option FieldType} {av : List Value} {h h' : jH} {oc : Outcome} (hy : plainName y.cls = true) (hle : jLe h h') (hv : (lg_sl av).length ≤ nL)
    (body : ∀ (p : Program) (e : Env) (s : State) (m : MethodId) (below : List Frame) (meth : Method) (c : Code) (D : va_G) (dA : Nat → ClassId → Prop) (H0 : Heap) (mc ms : Nat) (ls : Array Slot),
      jCx p s m av.toArray meth c cc y.cls nL rt D dA H0 h.2.2.2.2 → meth.name = y.name → h'.2.2.1 = h.2.2.1 + mc → h'.2.2.2.1 = h.2.2.2.1 + ms → jS D dA H0 h h s.heap [] 0 0 → lv_has ls nL (lv_args 0 av) →
      W p l e { frames := fr, cells := mc, slots := ms, locals := lo } s m av.toArray below meth c s.heap [] 0 0 (jQ D dA H0 below s oc h' mc ms) (F0 m 0 ls [])) :
    jMet l y (ws_ y cc nL rt) fr lo av h h' oc := by
  refine ⟨hle, fun D dA H0 mc ms e1 e2 => ?_⟩
  refine MetFree.of_bodyS (code := cc) (maxLocals := nL) (ret := rt) hy ?_ ?_
  · intro args s m hh hn
    obtain ⟨meth, c, h1, h2, h3, h4, h5, h6, -, -⟩ := Cond.code_spec hn (atoms_spec (ws := ws_ y cc nL rt) hh _ List.mem_cons_self)
    exact ⟨meth, c, h1, h2, h3, h4, h5, h6⟩
  · intro p e s m args below meth c s₁ B hml hP _
    have hh0 : s₁.heap = s.heap := by rw [B.state]; rfl
    obtain ⟨rfl, hF, hR⟩ := hP
    have hts := atoms_spec (ws := ws_ y cc nL rt) B.pre
    have hl := lv_entry av (n := nL) hv
    have hw := body p e s m below meth c D dA H0 mc ms _ ⟨B.exec, B.bytes, hml, findClass_of_methodNamed B.named, fun w h => hts w (List.mem_cons_of_mem _ h), hF, B.returns, B.notSynchronized, hR.2.2.2.1⟩ (name_of_methodNamed B.named B.method).1 e1 e2
      ⟨hR, jLe.rf _, (fun q hq => by cases hq), rfl, rfl⟩ hl
    obtain ⟨t, a1, b1, b2, b3⟩ := hw s₁ hh0 (Stand.of_body B)
    refine ⟨t, oc, ?_, b1, b2, b3⟩
    have e0 : entryFrame m av.toArray nL = F0 m 0 ((lg_sl av ++ List.replicate (nL - (lg_sl av).length) Slot.unset).toArray) [] := by
      rw [lg_entry_eq]
    rw [← e0] at a1
    exact a1
