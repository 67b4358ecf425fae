/-! CORE 6: calls; arraycopy; an object's Class -/
set_option maxRecDepth 100000
/-- what a callee's name says: not a handle's, so many parameters -/
abbrev jPd (y : MethodName) (n : Nat) : Prop := y.cls ≠ "java/lang/invoke/MethodHandle" ∧ y.cls ≠ "java/lang/invoke/VarHandle" ∧ (parseMethodDescriptor y.desc).map (fun d => d.parameters.length) = some n
/-- a receiver of a known kind -/
def jrc (ci : Nat) (r : Option Nat) : jM Nat := jO fun h => match r with
  | none => none
  | some a => if jcd h a = some ci then some a else none
theorem jrc_s {α : Type} {ci : Nat} {r : Option Nat} {F : Nat → jM α} {h : jH} {z : α × jH} (hf : (jB (jrc ci r) F).1 h = some z) : ∃ b, r = some b ∧ jcd h b = some ci ∧ (F b).1 h = some z := by
  obtain ⟨x, h1, h2⟩ := jBO_some hf
  split at h1
  · cases h1
  · rename_i a
    split at h1
    · rename_i hc
      cases h1
      exact ⟨_, rfl, hc, h2⟩
    · cases h1
theorem jm1 (x : Int32) : x + Int32.ofInt (-1) = x + (-1) := by
  rw [show Int32.ofInt (-1) = (-1 : Int32) from by decide]
theorem jMet.met {l : Launch} {y : MethodName} {ws : List Cond} {fr lo : Nat} {av : List Value} {h h' : jH} {ov : Option Value} (hM : jMet l y ws fr lo av h h' (.returned ov)) (D : va_G) (dA : Nat → ClassId → Prop) (H0 : Heap) {mc ms : Nat} (e1 : h'.2.2.1 = h.2.2.1 + mc) (e2 : h'.2.2.2.1 = h.2.2.2.1 + ms) :
    Met l y ws { frames := fr, cells := mc, slots := ms, locals := lo } (va_Pc av (fun U => jF D dA H0 h.2.2.2.2 U ∧ jRep D dA H0 h U.heap)) (fun _ _ o t => o = .returned ov ∧ jRep D dA H0 h' t.heap) mc ms (fun q => H0.size ≤ q) := by
  intro p e ha hc hk s m args below hf happ hP hK
  obtain ⟨n, o, h1, h2, h3, ⟨rfl, h5, h6, L, h7, h8⟩⟩ := hM.2 D dA H0 mc ms e1 e2 p e ha hc hk s m args below hf happ hP hK
  exact ⟨n, _, h1, h2, h3, ⟨rfl, h5⟩, L, ⟨⟨_, rfl⟩, h6, h7⟩, h8⟩
theorem jblind {D : va_G} {dA : Nat → ClassId → Prop} {H0 : Heap} {K : Nat → Nat} {av : List Value} {h : jH} : FrameBlind (va_Pc av (fun U => jF D dA H0 K U ∧ jRep D dA H0 h U.heap)) := by
  intro a U g mk hq
  obtain ⟨q0, q1, q2⟩ := hq
  exact ⟨q0, q1.blind, q2⟩
section JC
variable {p : Program} {l : Launch} {e : Env} {R : Room} {s : State} {m : MethodId} {args : Array Value} {below : List Frame} {meth : Method} {c : Code} {H : Heap} {locs : List Loc} {cells slots : Nat} {Q : State → Prop}
variable {cc : ByteArray} {pc : Nat} {ls : Array Slot} {st0 st1 rest : List Value} {D : va_G} {dA : Nat → ClassId → Prop} {H0 : Heap} {K : Nat → Nat} {hs h h1 : jH} {own : String} {nL : Nat} {rt : Option FieldType} {α : Type} {z : α × jH}
variable {y : MethodName} {cc' : ByteArray} {nL' fr lo idx : Nat} {rt' : Option FieldType} {ov : Option Value} {As : List Value}
/-- behind a call -/
theorem j_after {mc ms : Nat} (hS : jS D dA H0 hs h H locs cells slots) (hle : jLe h h1) (e1 : h1.2.2.1 = h.2.2.1 + mc) (e2 : h1.2.2.2.1 = h.2.2.2.1 + ms)
    (hr : va_Run p l e R s m args below meth c H locs cells slots mc ms (F0 m pc ls st0) rest (fun _ o t => o = .returned ov ∧ jRep D dA H0 h1 t.heap) (fun q => H0.size ≤ q))
    (kk : ∀ (H1 : Heap) (locs1 : List Loc) (cells1 slots1 : Nat), jS D dA H0 hs h1 H1 locs1 cells1 slots1 → W p l e R s m args below meth c H1 locs1 cells1 slots1 Q (F0 m (pc + 3) ls (ov.toList ++ rest))) : W p l e R s m args below meth c H locs cells slots Q (F0 m pc ls st0) := by
  intro T hT X
  obtain ⟨v, st₀, t, T', L, h0, X', hL, f1, f2, ⟨hv, hR⟩, st⟩ := hr T hT X
  cases hv
  have b1 := hS.2.2.2.1
  have b2 := hS.2.2.2.2
  obtain ⟨t2, a1, c1⟩ := kk T'.heap (locs ++ L) (cells + mc) (slots + ms) ⟨by rw [f1]; exact hR, hS.2.1.tr hle, fun q hq => by
      rcases List.mem_append.mp hq with h | h
      · exact hS.2.2.1 q h
      · exact hL q h, by omega, by omega⟩ T' rfl X'
  exact ⟨t2, st t2 a1, c1⟩
theorem jPre (cx : jCx p s m args meth c cc own nL rt D dA H0 K) (hS : jS D dA H0 hs h H locs cells slots) (hK : K = hs.2.2.2.2) (U : State) (hU : U.heap = H) (hW : s.WarmedH U.vm) : va_Pc As (fun U => jF D dA H0 h.2.2.2.2 U ∧ jRep D dA H0 h U.heap) As.toArray U := by
  refine ⟨rfl, ?_, by rw [hU]; exact hS.1⟩
  rw [hS.2.1.2.2.2.1, ← hK]
  exact cx.2.2.2.2.2.1.warm hW
theorem jroom (hS : jS D dA H0 hs h H locs cells slots) (hle : jLe h h1) (hz : jLe h1 z.2) (hm : z.2.2.2.1 ≤ hs.2.2.1 + R.cells ∧ z.2.2.2.2.1 ≤ hs.2.2.2.1 + R.slots) : ∃ mc ms, h1.2.2.1 = h.2.2.1 + mc ∧ h1.2.2.2.1 = h.2.2.2.1 + ms ∧ cells + mc ≤ R.cells ∧ slots + ms ≤ R.slots := by
  refine ⟨h1.2.2.1 - h.2.2.1, h1.2.2.2.1 - h.2.2.2.1, ?_⟩
  have a1 := hle.2.1
  have a2 := hle.2.2.1
  have a3 := hz.2.1
  have a4 := hz.2.2.1
  have b1 := hS.2.2.2.1
  have b2 := hS.2.2.2.2
  omega
theorem j_callS (cx : jCx p s m args meth c cc own nL rt D dA H0 K) (hS : jS D dA H0 hs h H locs cells slots) (hK : K = hs.2.2.2.2) (hsz : ls.size = nL) (hm : z.2.2.2.1 ≤ hs.2.2.1 + R.cells ∧ z.2.2.2.2.1 ≤ hs.2.2.2.1 + R.slots)
    (hM : jMet l y (ws_ y cc' nL' rt') fr lo As h h1 (.returned ov)) (hz : jLe h1 z.2) (hw : GoodIn lw_all (va_wsS own idx y (ws_ y cc' nL' rt'))) {n : Nat} (hp : jPd y n) (hn : As.length = n) (hst : st0 = As.reverse ++ rest) (hroom : (rest.map fun v => v.category).sum ≤ 8) (hR : fr + 1 ≤ R.frames ∧ 8 + (nL' + 11) + lo ≤ R.locals) (hd : decode cc pc = .ok (.invokestatic idx, 3)) (hst1 : ov.toList ++ rest = st1)
    (kk : ∀ (H1 : Heap) (locs1 : List Loc) (cells1 slots1 : Nat), jS D dA H0 hs h1 H1 locs1 cells1 slots1 → W p l e R s m args below meth c H1 locs1 cells1 slots1 Q (F0 m (pc + 3) ls st1)) : W p l e R s m args below meth c H locs cells slots Q (F0 m pc ls st0) := by
  subst hst1
  obtain ⟨mc, ms, e1, e2, e3, e4⟩ := jroom hS hM.1 hz hm
  exact j_after hS hM.1 e1 e2 (va_runS (As := As) (rest := rest) ⟨cx.1, cx.2.1, cx.2.2.1, cx.2.2.2.1, cx.2.2.2.2.1⟩ (hM.met D dA H0 e1 e2) (va_cwS n cx.2.2.2.2.1 hw rfl rfl rfl hp hR) ⟨jblind, jPre cx hS hK⟩ rfl hn hsz hst (lv_room (rest := st0) (pc := pc) (ls := ls) hroom) hd ⟨e3, e4⟩) kk
theorem j_callV (cx : jCx p s m args meth c cc own nL rt D dA H0 K) (hS : jS D dA H0 hs h H locs cells slots) (hK : K = hs.2.2.2.2) (hsz : ls.size = nL) (hm : z.2.2.2.1 ≤ hs.2.2.1 + R.cells ∧ z.2.2.2.2.1 ≤ hs.2.2.2.1 + R.slots)
    {b ci : Nat} (hM : jMet l y (ws_ y cc' nL' rt') fr lo (.ref b :: As) h h1 (.returned ov)) (hz : jLe h1 z.2) (hrc : jcd h b = some ci) (hnm : jnm ci = y.cls) (hw : GoodIn lw_all (wsV own idx y.cls y (ws_ y cc' nL' rt'))) {n : Nat} (hp : jPd y n) (hn : As.length = n) (hst : st0 = As.reverse ++ .ref b :: rest) (hroom : (rest.map fun v => v.category).sum ≤ 8) (hR : fr + 1 ≤ R.frames ∧ 8 + (nL' + 11) + lo ≤ R.locals) (hd : decode cc pc = .ok (.invokevirtual idx, 3)) (hst1 : ov.toList ++ rest = st1)
    (kk : ∀ (H1 : Heap) (locs1 : List Loc) (cells1 slots1 : Nat), jS D dA H0 hs h1 H1 locs1 cells1 slots1 → W p l e R s m args below meth c H1 locs1 cells1 slots1 Q (F0 m (pc + 3) ls st1)) : W p l e R s m args below meth c H locs cells slots Q (F0 m pc ls st0) := by
  subst hst1
  obtain ⟨mc, ms, e1, e2, e3, e4⟩ := jroom hS hM.1 hz hm
  have hrv := jcd_at cx.2.2.2.2.2.1 hS hrc
  rw [hnm] at hrv
  exact j_after hS hM.1 e1 e2 (va_runV (C := y.cls) (As := As) (rest := rest) ⟨cx.1, cx.2.1, cx.2.2.1, cx.2.2.2.1, cx.2.2.2.2.1⟩ (hM.met D dA H0 e1 e2) (cwV n cx.2.2.2.2.1 hw rfl rfl rfl ⟨rfl, hp⟩ hR) ⟨jblind, hrv, jPre cx hS hK⟩ rfl hn hsz hst (lv_room (rest := st0) (pc := pc) (ls := ls) hroom) hd ⟨e3, e4⟩) kk
theorem j_callI (cx : jCx p s m args meth c cc own nL rt D dA H0 K) (hS : jS D dA H0 hs h H locs cells slots) (hK : K = hs.2.2.2.2) (hsz : ls.size = nL) (hm : z.2.2.2.1 ≤ hs.2.2.1 + R.cells ∧ z.2.2.2.2.1 ≤ hs.2.2.2.1 + R.slots)
    {b : Nat} (hM : jMet l y (ws_ y cc' nL' none) fr lo (.ref b :: As) h h1 (.returned none)) (hz : jLe h1 z.2) (hy : y.name = "<init>") (hco : Cond.code y cc' nL' none ∈ lw_all) (hin : Cond.instanceMethod y ∈ lw_all) (hli : Cond.methodLink own idx y ∈ lw_all) (hini : Cond.initialized y.cls ∈ lw_all) {n : Nat} (hp : jPd y n) (hn : As.length = n) (hst : st0 = As.reverse ++ .ref b :: rest) (hroom : (rest.map fun v => v.category).sum ≤ 8) (hR : fr + 1 ≤ R.frames ∧ 8 + (nL' + 11) + lo ≤ R.locals) (hd : decode cc pc = .ok (.invokespecial idx, 3)) (hst1 : rest = st1)
    (kk : ∀ (H1 : Heap) (locs1 : List Loc) (cells1 slots1 : Nat), jS D dA H0 hs h1 H1 locs1 cells1 slots1 → W p l e R s m args below meth c H1 locs1 cells1 slots1 Q (F0 m (pc + 3) ls st1)) : W p l e R s m args below meth c H locs cells slots Q (F0 m pc ls st0) := by
  subst hst1
  obtain ⟨mc, ms, e1, e2, e3, e4⟩ := jroom hS hM.1 hz hm
  have hts := cx.2.2.2.2.1
  exact j_after hS hM.1 e1 e2 (va_runI (As := As) (rest := rest) ⟨cx.1, cx.2.1, cx.2.2.1, cx.2.2.2.1, cx.2.2.2.2.1⟩ (hM.met D dA H0 e1 e2) (cwI n hts (lw_meth hco) rfl rfl rfl (hts _ hini) (hts _ hli) (hts _ hin) hy hp hR) ⟨jblind, jPre cx hS hK⟩ rfl hn hsz hst (lv_room (rest := st0) (pc := pc) (ls := ls) hroom) hd ⟨e3, e4⟩) kk
/-! nest mates -/
theorem j_callSN (cx : jCx p s m args meth c cc own nL rt D dA H0 K) (hS : jS D dA H0 hs h H locs cells slots) (hK : K = hs.2.2.2.2) (hsz : ls.size = nL) (hm : z.2.2.2.1 ≤ hs.2.2.1 + R.cells ∧ z.2.2.2.2.1 ≤ hs.2.2.2.1 + R.slots)
    (hM : jMet l y (ws_ y cc' nL' rt') fr lo As h h1 (.returned ov)) (hz : jLe h1 z.2) {host : String} (hco : Cond.code y cc' nL' rt' ∈ lw_all) (hsc : Cond.static y ∈ lw_all) (hli : Cond.methodLinkNest own idx y host ∈ lw_tbl) (hini : Cond.initialized y.cls ∈ lw_all) {n : Nat} (hp : jPd y n) (hn : As.length = n) (hst : st0 = As.reverse ++ rest) (hroom : (rest.map fun v => v.category).sum ≤ 8) (hR : fr + 1 ≤ R.frames ∧ 8 + (nL' + 11) + lo ≤ R.locals) (hd : decode cc pc = .ok (.invokestatic idx, 3)) (hst1 : ov.toList ++ rest = st1)
    (kk : ∀ (H1 : Heap) (locs1 : List Loc) (cells1 slots1 : Nat), jS D dA H0 hs h1 H1 locs1 cells1 slots1 → W p l e R s m args below meth c H1 locs1 cells1 slots1 Q (F0 m (pc + 3) ls st1)) : W p l e R s m args below meth c H locs cells slots Q (F0 m pc ls st0) := by
  subst hst1
  obtain ⟨mc, ms, e1, e2, e3, e4⟩ := jroom hS hM.1 hz hm
  have hts := cx.2.2.2.2.1
  exact j_after hS hM.1 e1 e2 (va_runSN (As := As) (rest := rest) ⟨cx.1, cx.2.1, cx.2.2.1, cx.2.2.2.1, cx.2.2.2.2.1⟩ (hM.met D dA H0 e1 e2) ⟨va_cnB n hts (lw_meth hco) rfl rfl rfl (cx.2.2.2.2.2.1.2.2.2.1 _ hli rfl) (hts _ hini) hp hR, hts _ hsc, trivial⟩ ⟨jblind, jPre cx hS hK⟩ rfl hn hsz hst (lv_room (rest := st0) (pc := pc) (ls := ls) hroom) hd ⟨e3, e4⟩) kk
theorem j_callVN (cx : jCx p s m args meth c cc own nL rt D dA H0 K) (hS : jS D dA H0 hs h H locs cells slots) (hK : K = hs.2.2.2.2) (hsz : ls.size = nL) (hm : z.2.2.2.1 ≤ hs.2.2.1 + R.cells ∧ z.2.2.2.2.1 ≤ hs.2.2.2.1 + R.slots)
    {b ci : Nat} (hM : jMet l y (ws_ y cc' nL' rt') fr lo (.ref b :: As) h h1 (.returned ov)) (hz : jLe h1 z.2) (hrc : jcd h b = some ci) (hnm : jnm ci = y.cls) {host : String} (hco : Cond.code y cc' nL' rt' ∈ lw_all) (hin : Cond.instanceMethod y ∈ lw_all) (hse : Cond.selects y.cls y y ∈ lw_all) (hli : Cond.methodLinkNest own idx y host ∈ lw_tbl) (hini : Cond.initialized y.cls ∈ lw_all) {n : Nat} (hp : jPd y n) (hn : As.length = n) (hst : st0 = As.reverse ++ .ref b :: rest) (hroom : (rest.map fun v => v.category).sum ≤ 8) (hR : fr + 1 ≤ R.frames ∧ 8 + (nL' + 11) + lo ≤ R.locals) (hd : decode cc pc = .ok (.invokevirtual idx, 3)) (hst1 : ov.toList ++ rest = st1)
    (kk : ∀ (H1 : Heap) (locs1 : List Loc) (cells1 slots1 : Nat), jS D dA H0 hs h1 H1 locs1 cells1 slots1 → W p l e R s m args below meth c H1 locs1 cells1 slots1 Q (F0 m (pc + 3) ls st1)) : W p l e R s m args below meth c H locs cells slots Q (F0 m pc ls st0) := by
  subst hst1
  obtain ⟨mc, ms, e1, e2, e3, e4⟩ := jroom hS hM.1 hz hm
  have hts := cx.2.2.2.2.1
  have hrv := jcd_at cx.2.2.2.2.2.1 hS hrc
  rw [hnm] at hrv
  exact j_after hS hM.1 e1 e2 (va_runVN (C := y.cls) (As := As) (rest := rest) ⟨cx.1, cx.2.1, cx.2.2.1, cx.2.2.2.1, cx.2.2.2.2.1⟩ (hM.met D dA H0 e1 e2) ⟨va_cnB n hts (lw_meth hco) rfl rfl rfl (cx.2.2.2.2.2.1.2.2.2.1 _ hli rfl) (hts _ hini) hp hR, hts _ hin, hts _ hse⟩ ⟨jblind, hrv, jPre cx hS hK⟩ rfl hn hsz hst (lv_room (rest := st0) (pc := pc) (ls := ls) hroom) hd ⟨e3, e4⟩) kk
theorem j_callIN (cx : jCx p s m args meth c cc own nL rt D dA H0 K) (hS : jS D dA H0 hs h H locs cells slots) (hK : K = hs.2.2.2.2) (hsz : ls.size = nL) (hm : z.2.2.2.1 ≤ hs.2.2.1 + R.cells ∧ z.2.2.2.2.1 ≤ hs.2.2.2.1 + R.slots)
    {b : Nat} (hM : jMet l y (ws_ y cc' nL' none) fr lo (.ref b :: As) h h1 (.returned none)) (hz : jLe h1 z.2) {host : String} (hy : y.name = "<init>") (hco : Cond.code y cc' nL' none ∈ lw_all) (hin : Cond.instanceMethod y ∈ lw_all) (hli : Cond.methodLinkNest own idx y host ∈ lw_tbl) (hini : Cond.initialized y.cls ∈ lw_all) {n : Nat} (hp : jPd y n) (hn : As.length = n) (hst : st0 = As.reverse ++ .ref b :: rest) (hroom : (rest.map fun v => v.category).sum ≤ 8) (hR : fr + 1 ≤ R.frames ∧ 8 + (nL' + 11) + lo ≤ R.locals) (hd : decode cc pc = .ok (.invokespecial idx, 3)) (hst1 : rest = st1)
    (kk : ∀ (H1 : Heap) (locs1 : List Loc) (cells1 slots1 : Nat), jS D dA H0 hs h1 H1 locs1 cells1 slots1 → W p l e R s m args below meth c H1 locs1 cells1 slots1 Q (F0 m (pc + 3) ls st1)) : W p l e R s m args below meth c H locs cells slots Q (F0 m pc ls st0) := by
  subst hst1
  obtain ⟨mc, ms, e1, e2, e3, e4⟩ := jroom hS hM.1 hz hm
  have hts := cx.2.2.2.2.1
  exact j_after hS hM.1 e1 e2 (va_runIN (As := As) (rest := rest) ⟨cx.1, cx.2.1, cx.2.2.1, cx.2.2.2.1, cx.2.2.2.2.1⟩ (hM.met D dA H0 e1 e2) ⟨va_cnB n hts (lw_meth hco) rfl rfl rfl (cx.2.2.2.2.2.1.2.2.2.1 _ hli rfl) (hts _ hini) hp hR, hy, hts _ hin⟩ ⟨jblind, jPre cx hS hK⟩ rfl hn hsz hst (lv_room (rest := st0) (pc := pc) (ls := ls) hroom) hd ⟨e3, e4⟩) kk
end JC
