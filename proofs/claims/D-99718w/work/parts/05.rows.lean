/-! CORE 3: a row an instruction that looks at the heap -/
set_option maxRecDepth 100000
def jCf (ci : Nat) (C : String) (T : u_T) (N : Nat) (ty : Nat → FieldType) : Prop := jCl[ci]? = some (C, T, N) ∧ ci < 33 ∧ (∀ w ∈ u_ws C T N, w ∈ lw_all) ∧ (∀ k, k < N → parseFieldDescriptor (T k).2.2.1 = some (ty k)) ∧ (∀ a, a < N → ∀ b, b < N → a ≠ b → (T a).2.1 ≠ (T b).2.1)
def jFd (cs : List Nat) (k : Nat) (ref nm ds : String) : Prop := ∀ ci ∈ cs, ∃ q : vw_C, jCl[ci]? = some q ∧ k < q.2.2 ∧ (q.2.1 k).1 = ref ∧ (q.2.1 k).2.1 = nm ∧ (q.2.1 k).2.2.1 = ds
def jFp (cs : List Nat) (k : Nat) (ref nm ds : String) (fin : Bool) (ty : FieldType) : Prop := parseFieldDescriptor ds = some ty ∧ ∀ ci ∈ cs, ∃ (C : String) (T : u_T) (N : Nat) (ty0 : Nat → FieldType), jCf ci C T N ty0 ∧ k < N ∧ T k = (ref, nm, ds, fin)
theorem jFd1 {ci k : Nat} {ref nm ds : String} {q : vw_C} (h : jCl[ci]? = some q) (hk : k < q.2.2) (h1 : (q.2.1 k).1 = ref) (h2 : (q.2.1 k).2.1 = nm) (h3 : (q.2.1 k).2.2.1 = ds) : jFd [ci] k ref nm ds := by
  intro c hc
  rw [List.mem_singleton] at hc
  subst hc
  exact ⟨q, h, hk, h1, h2, h3⟩
theorem jFdc {ci k : Nat} {cs : List Nat} {ref nm ds : String} (h1 : jFd [ci] k ref nm ds) (h2 : jFd cs k ref nm ds) : jFd (ci :: cs) k ref nm ds := by
  intro c hc
  rcases List.mem_cons.mp hc with e | e
  · exact h1 c (List.mem_singleton.mpr e)
  · exact h2 c e
theorem jFp1 {ci k : Nat} {ref nm ds : String} {fin : Bool} {ty : FieldType} {C : String} {T : u_T} {N : Nat} {ty0 : Nat → FieldType} (hd : parseFieldDescriptor ds = some ty) (h : jCf ci C T N ty0) (hk : k < N) (h1 : T k = (ref, nm, ds, fin)) : jFp [ci] k ref nm ds fin ty := by
  refine ⟨hd, fun c hc => ?_⟩
  rw [List.mem_singleton] at hc
  subst hc
  exact ⟨C, T, N, ty0, h, hk, h1⟩
theorem jFpc {ci k : Nat} {cs : List Nat} {ref nm ds : String} {fin : Bool} {ty : FieldType} (h1 : jFp [ci] k ref nm ds fin ty) (h2 : jFp cs k ref nm ds fin ty) : jFp (ci :: cs) k ref nm ds fin ty := by
  refine ⟨h1.1, fun c hc => ?_⟩
  rcases List.mem_cons.mp hc with e | e
  · exact h1.2 c (List.mem_singleton.mpr e)
  · exact h2.2 c e
theorem jle {α : Type} {m : jM α} {h : jH} {z : α × jH} (hf : m.1 h = some z) : jLe h z.2 := m.2 h z.1 z.2 hf
theorem jrfc (r : Option Nat) : (va_rf r).category = 1 := by cases r <;> rfl
def jTh (hs : jH) (a ci : Nat) : Prop := a < hs.2.1 ∧ jcd hs a = some ci
section JR
variable {p : Program} {l : Launch} {e : Env} {R : Room} {s : State} {m : MethodId} {args : Array Value} {below : List Frame} {meth : Method} {c : Code} {H : Heap} {locs : List Loc} {cells slots : Nat} {Q : State → Prop}
variable {cc : ByteArray} {pc : Nat} {ls : Array Slot} {rest : List Value} {D : va_G} {dA : Nat → ClassId → Prop} {H0 : Heap} {K : Nat → Nat} {hs h : jH} {own : String} {nL : Nat} {rt : Option FieldType} {α : Type} {z : α × jH}
theorem jTh.mk {a ci : Nat} (hS : jS D dA H0 hs hs H locs cells slots) (h : jcd hs a = some ci) : jTh hs a ci := by
  refine ⟨?_, h⟩
  unfold jcd at h
  cases hx : hs.1 a with
  | none => rw [hx] at h; cases h
  | some x =>
    rw [← hS.1.1]
    exact (hS.1.2.2.2.2 a x hx).lt
theorem jTh.at {a ci : Nat} (ht : jTh hs a ci) (hS : jS D dA H0 hs h H locs cells slots) : jcd h a = some ci := hS.2.1.2.2.2.2 a ci ht.1 ht.2
/-! fields -/
theorem j_getV (cx : jCx p s m args meth c cc own nL rt D dA H0 K) (hS : jS D dA H0 hs h H locs cells slots) {cs : List Nat} {k : Nat} {r : Option Nat} {v : Value} (hv : jfV cs k r h = some v) {ref0 ref nm ds : String} {idx : Nat} (fd : jFd cs k ref0 nm ds)
    (hsame : ∀ x, s.fieldFound? ref0 nm ds = some x → s.fieldFound? ref nm ds = some x) (hl : (Cond.fieldLink own idx ref nm ds).before args s = true) (hd : decode cc pc = .ok (.getfield idx, 3))
    (kk : W p l e R s m args below meth c H locs cells slots Q (F0 m (pc + 3) ls (v :: rest))) : W p l e R s m args below meth c H locs cells slots Q (F0 m pc ls (va_rf r :: rest)) := by
  obtain ⟨a, ci, fs, rfl, ha, hci, hv⟩ := jfV_spec hv
  obtain ⟨q, hq, hk, e1, e2, e3⟩ := fd ci hci
  obtain ⟨q', cell, g1, g2, g3, g4, g5, g6⟩ := hS.1.2.2.2.2 a _ ha
  cases hq.symm.trans g1
  obtain ⟨cf, kf, fi, f, hi, hsl, hst⟩ := (cx.2.2.2.2.2.1.1 ci q hq).2 k hk
  rw [e1, e2, e3] at hi
  refine W.getf cx.1 cx.2.1 cx.2.2.2.1 hl (hsame _ hi) hst g2 g4.1 (v := v) ?_ rfl rfl hd kk
  rw [hsl, g6 k hk]
  simp [vp_V, hv]
theorem j_getVN (cx : jCx p s m args meth c cc own nL rt D dA H0 K) (hS : jS D dA H0 hs h H locs cells slots) {cs : List Nat} {k : Nat} {r : Option Nat} {v : Value} (hv : jfV cs k r h = some v) {ref nm ds host : String} {idx : Nat} (fd : jFd cs k ref nm ds)
    (hl : Cond.fieldLinkNest own idx ref nm ds host ∈ lw_tbl) (hd : decode cc pc = .ok (.getfield idx, 3))
    (kk : W p l e R s m args below meth c H locs cells slots Q (F0 m (pc + 3) ls (v :: rest))) : W p l e R s m args below meth c H locs cells slots Q (F0 m pc ls (va_rf r :: rest)) := by
  obtain ⟨a, ci, fs, rfl, ha, hci, hv⟩ := jfV_spec hv
  obtain ⟨q, hq, hk, e1, e2, e3⟩ := fd ci hci
  obtain ⟨q', cell, g1, g2, g3, g4, g5, g6⟩ := hS.1.2.2.2.2 a _ ha
  cases hq.symm.trans g1
  obtain ⟨cf, kf, fi, f, hi, hsl, hst⟩ := (cx.2.2.2.2.2.1.1 ci q hq).2 k hk
  rw [e1, e2, e3] at hi
  refine va_Wgetf cx.1 cx.2.1 cx.2.2.2.1 (jex_use rfl (cx.2.2.2.2.2.1.2.2.2.1 _ hl rfl)) hi hst g2 g4.1 (v := v) ?_ rfl rfl hd kk
  rw [hsl, g6 k hk]
  simp [vp_V, hv]
theorem jvI_s {v : Option Value} {x : Int32} (h : jvI v = some x) : v = some (.int x) := by
  unfold jvI at h
  split at h
  · cases h; rfl
  · cases h
theorem jvL_s {v : Option Value} {x : Int64} (h : jvL v = some x) : v = some (.long x) := by
  unfold jvL at h
  split at h
  · cases h; rfl
  · cases h
theorem jvR_s {v : Option Value} {x : Option Nat} (h : jvR v = some x) : v = some (va_rf x) := by
  unfold jvR at h
  split at h
  · cases h; rfl
  · cases h; rfl
  · cases h
theorem j_gI (cx : jCx p s m args meth c cc own nL rt D dA H0 K) (hS : jS D dA H0 hs h H locs cells slots) {cs : List Nat} {k : Nat} {r : Option Nat} {F : Int32 → jM α} (hf : (jB (jgI cs k r) F).1 h = some z) {ref nm ds : String} {idx : Nat} (fd : jFd cs k ref nm ds) (hl : Cond.fieldLink own idx ref nm ds ∈ lw_all) (hd : decode cc pc = .ok (.getfield idx, 3))
    (kk : ∀ x : Int32, (F x).1 h = some z → W p l e R s m args below meth c H locs cells slots Q (F0 m (pc + 3) ls (.int x :: rest))) : W p l e R s m args below meth c H locs cells slots Q (F0 m pc ls (va_rf r :: rest)) := by
  obtain ⟨x, h1, h2⟩ := jBO_some hf
  exact j_getV cx hS (jvI_s h1) fd (fun _ h => h) (cx.2.2.2.2.1 _ hl) hd (kk x h2)
theorem j_gIs (cx : jCx p s m args meth c cc own nL rt D dA H0 K) (hS : jS D dA H0 hs h H locs cells slots) {cs : List Nat} {k : Nat} {r : Option Nat} {F : Int32 → jM α} (hf : (jB (jgI cs k r) F).1 h = some z) {ref0 ref nm ds : String} {idx : Nat} (fd : jFd cs k ref0 nm ds) (hsm : Cond.sameField ref ref0 nm ds ∈ lw_all) (hl : Cond.fieldLink own idx ref nm ds ∈ lw_all) (hd : decode cc pc = .ok (.getfield idx, 3))
    (kk : ∀ x : Int32, (F x).1 h = some z → W p l e R s m args below meth c H locs cells slots Q (F0 m (pc + 3) ls (.int x :: rest))) : W p l e R s m args below meth c H locs cells slots Q (F0 m pc ls (va_rf r :: rest)) := by
  obtain ⟨x, h1, h2⟩ := jBO_some hf
  exact j_getV cx hS (jvI_s h1) fd (fun x hx => u_same (cx.2.2.2.2.1 _ hsm) x hx) (cx.2.2.2.2.1 _ hl) hd (kk x h2)
theorem j_gL (cx : jCx p s m args meth c cc own nL rt D dA H0 K) (hS : jS D dA H0 hs h H locs cells slots) {cs : List Nat} {k : Nat} {r : Option Nat} {F : Int64 → jM α} (hf : (jB (jgL cs k r) F).1 h = some z) {ref nm ds : String} {idx : Nat} (fd : jFd cs k ref nm ds) (hl : Cond.fieldLink own idx ref nm ds ∈ lw_all) (hd : decode cc pc = .ok (.getfield idx, 3))
    (kk : ∀ x : Int64, (F x).1 h = some z → W p l e R s m args below meth c H locs cells slots Q (F0 m (pc + 3) ls (.long x :: rest))) : W p l e R s m args below meth c H locs cells slots Q (F0 m pc ls (va_rf r :: rest)) := by
  obtain ⟨x, h1, h2⟩ := jBO_some hf
  exact j_getV cx hS (jvL_s h1) fd (fun _ h => h) (cx.2.2.2.2.1 _ hl) hd (kk x h2)
theorem j_gR (cx : jCx p s m args meth c cc own nL rt D dA H0 K) (hS : jS D dA H0 hs h H locs cells slots) {cs : List Nat} {k : Nat} {r : Option Nat} {F : Option Nat → jM α} (hf : (jB (jgR cs k r) F).1 h = some z) {ref nm ds : String} {idx : Nat} (fd : jFd cs k ref nm ds) (hl : Cond.fieldLink own idx ref nm ds ∈ lw_all) (hd : decode cc pc = .ok (.getfield idx, 3))
    (kk : ∀ x : Option Nat, (F x).1 h = some z → W p l e R s m args below meth c H locs cells slots Q (F0 m (pc + 3) ls (va_rf x :: rest))) : W p l e R s m args below meth c H locs cells slots Q (F0 m pc ls (va_rf r :: rest)) := by
  obtain ⟨x, h1, h2⟩ := jBO_some hf
  exact j_getV cx hS (jvR_s h1) fd (fun _ h => h) (cx.2.2.2.2.1 _ hl) hd (kk x h2)
theorem j_gIN (cx : jCx p s m args meth c cc own nL rt D dA H0 K) (hS : jS D dA H0 hs h H locs cells slots) {cs : List Nat} {k : Nat} {r : Option Nat} {F : Int32 → jM α} (hf : (jB (jgI cs k r) F).1 h = some z) {ref nm ds host : String} {idx : Nat} (fd : jFd cs k ref nm ds) (hl : Cond.fieldLinkNest own idx ref nm ds host ∈ lw_tbl) (hd : decode cc pc = .ok (.getfield idx, 3))
    (kk : ∀ x : Int32, (F x).1 h = some z → W p l e R s m args below meth c H locs cells slots Q (F0 m (pc + 3) ls (.int x :: rest))) : W p l e R s m args below meth c H locs cells slots Q (F0 m pc ls (va_rf r :: rest)) := by
  obtain ⟨x, h1, h2⟩ := jBO_some hf
  exact j_getVN cx hS (jvI_s h1) fd hl hd (kk x h2)
theorem j_gRN (cx : jCx p s m args meth c cc own nL rt D dA H0 K) (hS : jS D dA H0 hs h H locs cells slots) {cs : List Nat} {k : Nat} {r : Option Nat} {F : Option Nat → jM α} (hf : (jB (jgR cs k r) F).1 h = some z) {ref nm ds host : String} {idx : Nat} (fd : jFd cs k ref nm ds) (hl : Cond.fieldLinkNest own idx ref nm ds host ∈ lw_tbl) (hd : decode cc pc = .ok (.getfield idx, 3))
    (kk : ∀ x : Option Nat, (F x).1 h = some z → W p l e R s m args below meth c H locs cells slots Q (F0 m (pc + 3) ls (va_rf x :: rest))) : W p l e R s m args below meth c H locs cells slots Q (F0 m pc ls (va_rf r :: rest)) := by
  obtain ⟨x, h1, h2⟩ := jBO_some hf
  exact j_getVN cx hS (jvR_s h1) fd hl hd (kk x h2)
theorem jlocs {a i : Nat} (h1 : ∀ q ∈ locs, H0.size ≤ q.base) (ha : H0.size ≤ a) : ∀ q ∈ locs ++ [⟨a, i⟩], H0.size ≤ q.base := by
  intro q hq
  rcases List.mem_append.mp hq with h | h
  · exact h1 q h
  · rw [List.mem_singleton] at h
    subst h
    exact ha
theorem jS.set {a : Nat} {x : jC} {H1 : Heap} {i : Nat} (hS : jS D dA H0 hs h H locs cells slots) (hle : jLe h (jset h a x)) (hb : h.2.2.2.2 0 ≤ a) (he : jAt D dA H0.size a x H1) (z : H1.size = H.size) (oq : ∀ q : Nat, q ≠ a → H1[q]? = H[q]?) : jS D dA H0 hs (jset h a x) H1 (locs ++ [⟨a, i⟩]) cells slots :=
  ⟨hS.1.set hb he z oq, hS.2.1.tr hle, jlocs hS.2.2.1 (by rw [← hS.1.2.1]; exact hb), hS.2.2.2⟩
/-- a field is written -/
theorem j_putV (cx : jCx p s m args meth c cc own nL rt D dA H0 K) (hS : jS D dA H0 hs h H locs cells slots) {cs : List Nat} {k : Nat} {r : Option Nat} {v : Value} {h1 : jH} (hv : jpG cs k r v h = some h1) {ref0 ref nm ds : String} {fin : Bool} {ty : FieldType} {idx : Nat} (fp : jFp cs k ref0 nm ds fin ty)
    (hn : narrow ty v = v) (hfit : fits ty v = true) (hsame : ∀ x, s.fieldFound? ref0 nm ds = some x → s.fieldFound? ref nm ds = some x) (hfin : fin = false ∨ (fin = true ∧ meth.name = "<init>" ∧ ref0 = own)) (hl : (Cond.fieldLink own idx ref nm ds).before args s = true) (hd : decode cc pc = .ok (.putfield idx, 3))
    (kk : ∀ (H1 : Heap) (locs1 : List Loc), jS D dA H0 hs h1 H1 locs1 cells slots → W p l e R s m args below meth c H1 locs1 cells slots Q (F0 m (pc + 3) ls rest)) : W p l e R s m args below meth c H locs cells slots Q (F0 m pc ls (v :: va_rf r :: rest)) := by
  obtain ⟨a, ci, fs, rfl, ha, hci, hb, hk0, rfl⟩ := jpG_spec hv
  obtain ⟨hty, fp⟩ := fp
  obtain ⟨C, T, N, ty0, ⟨hc, h33, hin, htyok, hnm⟩, hk, hT⟩ := fp ci hci
  obtain ⟨q', cell, g1, g2, g3, g4, g5, g6⟩ := hS.1.2.2.2.2 a _ ha
  cases hc.symm.trans g1
  have hts := cx.2.2.2.2.1
  have hown := cx.2.2.2.1
  have hK2 := cx.2.2.2.2.2.1.2.1
  obtain ⟨hSl, hfc, kC, hkC, hkind⟩ := hK2 ci _ hc h33
  obtain ⟨cf, kf, fi, f, hi, hsl⟩ := hSl k hk
  have hap : ∀ x y, x < N → y < N → x ≠ y → (D.2 ci) x ≠ (D.2 ci) y := by
    intro x y hx hy hne
    obtain ⟨_, _, _, fa, hia, ea⟩ := hSl x hx
    obtain ⟨_, _, _, fb, hib, eb⟩ := hSl y hy
    rw [← ea, ← eb]
    refine u_apart (u_lays hts hin hx) (u_lays hts hin hy) hia hib ?_
    rw [(State.fieldFound?_type hia (htyok x hx)).1, (State.fieldFound?_type hib (htyok y hy)).1]
    exact hnm x hx y hy hne
  have hlay := hts _ (hin _ (u_in_lay hk))
  have hi2 : s.fieldFound? ref0 nm ds = some (cf, kf, fi, f) := by
    have := hi
    dsimp only at this
    rw [hT] at this
    exact this
  have hst := (u_facts hfc hkC (u_lays hts hin hk) hi).1
  have hbase : H0.size ≤ a := by rw [← hS.1.2.1]; exact hb
  have hvm : cell.vm = .none := (g4.2.2 hbase).1
  have hlt : f.slot < cell.slots.size := by rw [hsl]; exact k2_hasslot (g6 k hk)
  have hd2 : parseFieldDescriptor (T k).2.2.1 = some ty := by rw [hT]; exact hty
  have fin2 : ∀ H' : Heap, H'[a]? = some (cell.setSlot f.slot v) → H'.size = H.size → (∀ q, q ≠ a → H'[q]? = H[q]?) → W p l e R s m args below meth c H' (locs ++ [⟨a, f.slot⟩]) cells slots Q (F0 m (pc + 3) ls rest) := by
    intro H' e1 e2 e3
    refine kk H' _ (hS.set (jsetO_le ha) hb ?_ e2 e3)
    rw [hsl] at e1
    refine ⟨_, _, hc, e1, g3, g4, by rw [List.length_set]; exact g5, fun j hj => ?_⟩
    rw [t_set (V := vp_V fs) g6 hap hk v j hj, vp_updV_set hk0 v j]
  rcases hfin with rfl | ⟨rfl, hinit, hro⟩
  · unfold u_lay at hlay
    rw [if_neg (by rw [hT]; exact Bool.false_ne_true)] at hlay
    have h6 := u_store hfc hkC hkind hlay hi hd2 hn hfit
    exact W.putK cx.1 cx.2.1 (f := f) ⟨hown, hl, ⟨_, _, _, hsame _ hi2⟩, hst⟩ (by rw [g3]; exact h6) g2 hvm hlt rfl rfl hd fin2
  · unfold u_lay at hlay
    rw [if_pos (by rw [hT])] at hlay
    have hcf : m.cls = cf := by
      obtain ⟨_, _, c', _, _, _, -, -, hf', -, -, -, hown2, -⟩ := Cond.laysFinal_spec hlay
      have e1 : c' = cf := by have := hi.symm.trans hf'; simp at this; exact this.1.symm
      rw [hT, hro] at hown2
      rw [← e1]; exact Option.some.inj (hown.symm.trans hown2)
    have h6 := u_fits hfc hkC hkind (Or.inr hlay) hi hd2 hn hfit
    exact W.putFinK cx.1 cx.2.1 hown hl (hsame _ hi2) hst hcf hinit (by rw [g3]; exact h6) g2 hvm hlt rfl rfl hd fin2
theorem j_putVN (cx : jCx p s m args meth c cc own nL rt D dA H0 K) (hS : jS D dA H0 hs h H locs cells slots) {cs : List Nat} {k : Nat} {r : Option Nat} {v : Value} {h1 : jH} (hv : jpG cs k r v h = some h1) {ref nm ds host : String} {ty : FieldType} {idx : Nat} (fp : jFp cs k ref nm ds false ty)
    (hn : narrow ty v = v) (hfit : fits ty v = true) (hl : Cond.fieldLinkNest own idx ref nm ds host ∈ lw_tbl) (hd : decode cc pc = .ok (.putfield idx, 3))
    (kk : ∀ (H1 : Heap) (locs1 : List Loc), jS D dA H0 hs h1 H1 locs1 cells slots → W p l e R s m args below meth c H1 locs1 cells slots Q (F0 m (pc + 3) ls rest)) : W p l e R s m args below meth c H locs cells slots Q (F0 m pc ls (v :: va_rf r :: rest)) := by
  obtain ⟨a, ci, fs, rfl, ha, hci, hb, hk0, rfl⟩ := jpG_spec hv
  obtain ⟨hty, fp⟩ := fp
  obtain ⟨C, T, N, ty0, ⟨hc, h33, hin, htyok, hnm⟩, hk, hT⟩ := fp ci hci
  obtain ⟨q', cell, g1, g2, g3, g4, g5, g6⟩ := hS.1.2.2.2.2 a _ ha
  cases hc.symm.trans g1
  have hts := cx.2.2.2.2.1
  have hown := cx.2.2.2.1
  have hK2 := cx.2.2.2.2.2.1.2.1
  obtain ⟨hSl, hfc, kC, hkC, hkind⟩ := hK2 ci _ hc h33
  obtain ⟨cf, kf, fi, f, hi, hsl⟩ := hSl k hk
  have hap : ∀ x y, x < N → y < N → x ≠ y → (D.2 ci) x ≠ (D.2 ci) y := by
    intro x y hx hy hne
    obtain ⟨_, _, _, fa, hia, ea⟩ := hSl x hx
    obtain ⟨_, _, _, fb, hib, eb⟩ := hSl y hy
    rw [← ea, ← eb]
    refine u_apart (u_lays hts hin hx) (u_lays hts hin hy) hia hib ?_
    rw [(State.fieldFound?_type hia (htyok x hx)).1, (State.fieldFound?_type hib (htyok y hy)).1]
    exact hnm x hx y hy hne
  have hlay := hts _ (hin _ (u_in_lay hk))
  have hi2 : s.fieldFound? ref nm ds = some (cf, kf, fi, f) := by
    have := hi
    dsimp only at this
    rw [hT] at this
    exact this
  have hst := (u_facts hfc hkC (u_lays hts hin hk) hi).1
  have hbase : H0.size ≤ a := by rw [← hS.1.2.1]; exact hb
  have hvm : cell.vm = .none := (g4.2.2 hbase).1
  have hlt : f.slot < cell.slots.size := by rw [hsl]; exact k2_hasslot (g6 k hk)
  have hd2 : parseFieldDescriptor (T k).2.2.1 = some ty := by rw [hT]; exact hty
  unfold u_lay at hlay
  rw [if_neg (by rw [hT]; exact Bool.false_ne_true)] at hlay
  have h6 := u_store hfc hkC hkind hlay hi hd2 hn hfit
  refine va_WputK cx.1 cx.2.1 (f := f) hown (jex_use rfl (cx.2.2.2.2.2.1.2.2.2.1 _ hl rfl)) hi2 hst (by rw [g3]; exact h6) g2 hvm hlt rfl rfl hd fun H' e1 e2 e3 => ?_
  refine kk H' _ (hS.set (jsetO_le ha) hb ?_ e2 e3)
  rw [hsl] at e1
  refine ⟨_, _, hc, e1, g3, g4, by rw [List.length_set]; exact g5, fun j hj => ?_⟩
  rw [t_set (V := vp_V fs) g6 hap hk v j hj, vp_updV_set hk0 v j]
theorem jnz1 {x : Int32} (h : x = 0 ∨ x = 1) : narrow .boolean (.int x) = .int x ∧ fits .boolean (.int x) = true := by
  rcases h with rfl | rfl
  · exact ⟨rfl, rfl⟩
  · exact ⟨by decide, by decide⟩
theorem jnr1 (x : Option Nat) (C : String) : narrow (.object C) (va_rf x) = va_rf x ∧ fits (.object C) (va_rf x) = true := by
  cases x <;> exact ⟨rfl, rfl⟩
theorem jnr2 (x : Option Nat) (t : FieldType) : narrow (.array t) (va_rf x) = va_rf x ∧ fits (.array t) (va_rf x) = true := by
  cases x <;> exact ⟨rfl, rfl⟩
theorem j_pI (cx : jCx p s m args meth c cc own nL rt D dA H0 K) (hS : jS D dA H0 hs h H locs cells slots) {cs : List Nat} {k : Nat} {r : Option Nat} {x : Int32} {F : Unit → jM α} (hf : (jB (jpI cs k r x) F).1 h = some z) {ref nm ds : String} {fin : Bool} {idx : Nat} (fp : jFp cs k ref nm ds fin .int)
    (hfin : fin = false ∨ (fin = true ∧ meth.name = "<init>" ∧ ref = own)) (hl : Cond.fieldLink own idx ref nm ds ∈ lw_all) (hd : decode cc pc = .ok (.putfield idx, 3))
    (kk : ∀ (h1 : jH) (H1 : Heap) (locs1 : List Loc), (F ()).1 h1 = some z → jS D dA H0 hs h1 H1 locs1 cells slots → W p l e R s m args below meth c H1 locs1 cells slots Q (F0 m (pc + 3) ls rest)) : W p l e R s m args below meth c H locs cells slots Q (F0 m pc ls (.int x :: va_rf r :: rest)) := by
  obtain ⟨h1, e1, hf⟩ := jBW_some (p := jpG_le) hf
  exact j_putV cx hS e1 fp rfl rfl (fun _ h => h) hfin (cx.2.2.2.2.1 _ hl) hd (fun H1 l1 h2 => kk h1 H1 l1 hf h2)
theorem j_pIs (cx : jCx p s m args meth c cc own nL rt D dA H0 K) (hS : jS D dA H0 hs h H locs cells slots) {cs : List Nat} {k : Nat} {r : Option Nat} {x : Int32} {F : Unit → jM α} (hf : (jB (jpI cs k r x) F).1 h = some z) {ref0 ref nm ds : String} {idx : Nat} (fp : jFp cs k ref0 nm ds false .int)
    (hsm : Cond.sameField ref ref0 nm ds ∈ lw_all) (hl : Cond.fieldLink own idx ref nm ds ∈ lw_all) (hd : decode cc pc = .ok (.putfield idx, 3))
    (kk : ∀ (h1 : jH) (H1 : Heap) (locs1 : List Loc), (F ()).1 h1 = some z → jS D dA H0 hs h1 H1 locs1 cells slots → W p l e R s m args below meth c H1 locs1 cells slots Q (F0 m (pc + 3) ls rest)) : W p l e R s m args below meth c H locs cells slots Q (F0 m pc ls (.int x :: va_rf r :: rest)) := by
  obtain ⟨h1, e1, hf⟩ := jBW_some (p := jpG_le) hf
  exact j_putV cx hS e1 fp rfl rfl (fun x hx => u_same (cx.2.2.2.2.1 _ hsm) x hx) (Or.inl rfl) (cx.2.2.2.2.1 _ hl) hd (fun H1 l1 h2 => kk h1 H1 l1 hf h2)
theorem j_pIN (cx : jCx p s m args meth c cc own nL rt D dA H0 K) (hS : jS D dA H0 hs h H locs cells slots) {cs : List Nat} {k : Nat} {r : Option Nat} {x : Int32} {F : Unit → jM α} (hf : (jB (jpI cs k r x) F).1 h = some z) {ref nm ds host : String} {idx : Nat} (fp : jFp cs k ref nm ds false .int)
    (hl : Cond.fieldLinkNest own idx ref nm ds host ∈ lw_tbl) (hd : decode cc pc = .ok (.putfield idx, 3))
    (kk : ∀ (h1 : jH) (H1 : Heap) (locs1 : List Loc), (F ()).1 h1 = some z → jS D dA H0 hs h1 H1 locs1 cells slots → W p l e R s m args below meth c H1 locs1 cells slots Q (F0 m (pc + 3) ls rest)) : W p l e R s m args below meth c H locs cells slots Q (F0 m pc ls (.int x :: va_rf r :: rest)) := by
  obtain ⟨h1, e1, hf⟩ := jBW_some (p := jpG_le) hf
  exact j_putVN cx hS e1 fp rfl rfl hl hd (fun H1 l1 h2 => kk h1 H1 l1 hf h2)
theorem j_pL (cx : jCx p s m args meth c cc own nL rt D dA H0 K) (hS : jS D dA H0 hs h H locs cells slots) {cs : List Nat} {k : Nat} {r : Option Nat} {x : Int64} {F : Unit → jM α} (hf : (jB (jpL cs k r x) F).1 h = some z) {ref nm ds : String} {fin : Bool} {idx : Nat} (fp : jFp cs k ref nm ds fin .long)
    (hfin : fin = false ∨ (fin = true ∧ meth.name = "<init>" ∧ ref = own)) (hl : Cond.fieldLink own idx ref nm ds ∈ lw_all) (hd : decode cc pc = .ok (.putfield idx, 3))
    (kk : ∀ (h1 : jH) (H1 : Heap) (locs1 : List Loc), (F ()).1 h1 = some z → jS D dA H0 hs h1 H1 locs1 cells slots → W p l e R s m args below meth c H1 locs1 cells slots Q (F0 m (pc + 3) ls rest)) : W p l e R s m args below meth c H locs cells slots Q (F0 m pc ls (.long x :: va_rf r :: rest)) := by
  obtain ⟨h1, e1, hf⟩ := jBW_some (p := jpG_le) hf
  exact j_putV cx hS e1 fp rfl rfl (fun _ h => h) hfin (cx.2.2.2.2.1 _ hl) hd (fun H1 l1 h2 => kk h1 H1 l1 hf h2)
theorem j_pR (cx : jCx p s m args meth c cc own nL rt D dA H0 K) (hS : jS D dA H0 hs h H locs cells slots) {cs : List Nat} {k : Nat} {r x : Option Nat} {F : Unit → jM α} (hf : (jB (jpR cs k r x) F).1 h = some z) {ref nm ds C : String} {fin : Bool} {idx : Nat} (fp : jFp cs k ref nm ds fin (.object C))
    (hfin : fin = false ∨ (fin = true ∧ meth.name = "<init>" ∧ ref = own)) (hl : Cond.fieldLink own idx ref nm ds ∈ lw_all) (hd : decode cc pc = .ok (.putfield idx, 3))
    (kk : ∀ (h1 : jH) (H1 : Heap) (locs1 : List Loc), (F ()).1 h1 = some z → jS D dA H0 hs h1 H1 locs1 cells slots → W p l e R s m args below meth c H1 locs1 cells slots Q (F0 m (pc + 3) ls rest)) : W p l e R s m args below meth c H locs cells slots Q (F0 m pc ls (va_rf x :: va_rf r :: rest)) := by
  obtain ⟨h1, e1, hf⟩ := jBW_some (p := jpG_le) hf
  exact j_putV cx hS e1 fp (jnr1 x C).1 (jnr1 x C).2 (fun _ h => h) hfin (cx.2.2.2.2.1 _ hl) hd (fun H1 l1 h2 => kk h1 H1 l1 hf h2)
theorem j_pRa (cx : jCx p s m args meth c cc own nL rt D dA H0 K) (hS : jS D dA H0 hs h H locs cells slots) {cs : List Nat} {k : Nat} {r x : Option Nat} {F : Unit → jM α} (hf : (jB (jpR cs k r x) F).1 h = some z) {ref nm ds : String} {t : FieldType} {fin : Bool} {idx : Nat} (fp : jFp cs k ref nm ds fin (.array t))
    (hfin : fin = false ∨ (fin = true ∧ meth.name = "<init>" ∧ ref = own)) (hl : Cond.fieldLink own idx ref nm ds ∈ lw_all) (hd : decode cc pc = .ok (.putfield idx, 3))
    (kk : ∀ (h1 : jH) (H1 : Heap) (locs1 : List Loc), (F ()).1 h1 = some z → jS D dA H0 hs h1 H1 locs1 cells slots → W p l e R s m args below meth c H1 locs1 cells slots Q (F0 m (pc + 3) ls rest)) : W p l e R s m args below meth c H locs cells slots Q (F0 m pc ls (va_rf x :: va_rf r :: rest)) := by
  obtain ⟨h1, e1, hf⟩ := jBW_some (p := jpG_le) hf
  exact j_putV cx hS e1 fp (jnr2 x t).1 (jnr2 x t).2 (fun _ h => h) hfin (cx.2.2.2.2.1 _ hl) hd (fun H1 l1 h2 => kk h1 H1 l1 hf h2)
theorem j_pZ (cx : jCx p s m args meth c cc own nL rt D dA H0 K) (hS : jS D dA H0 hs h H locs cells slots) {cs : List Nat} {k : Nat} {r : Option Nat} {x : Int32} {F : Unit → jM α} (hf : (jB (jpZ cs k r x) F).1 h = some z) {ref nm ds : String} {fin : Bool} {idx : Nat} (fp : jFp cs k ref nm ds fin .boolean)
    (hfin : fin = false ∨ (fin = true ∧ meth.name = "<init>" ∧ ref = own)) (hl : Cond.fieldLink own idx ref nm ds ∈ lw_all) (hd : decode cc pc = .ok (.putfield idx, 3))
    (kk : ∀ (h1 : jH) (H1 : Heap) (locs1 : List Loc), (F ()).1 h1 = some z → jS D dA H0 hs h1 H1 locs1 cells slots → W p l e R s m args below meth c H1 locs1 cells slots Q (F0 m (pc + 3) ls rest)) : W p l e R s m args below meth c H locs cells slots Q (F0 m pc ls (.int x :: va_rf r :: rest)) := by
  unfold jpZ at hf
  by_cases hx : x = 0 ∨ x = 1
  · rw [if_pos hx] at hf
    obtain ⟨h1, e1, hf⟩ := jBW_some (p := jpG_le) hf
    exact j_putV cx hS e1 fp (jnz1 hx).1 (jnz1 hx).2 (fun _ h => h) hfin (cx.2.2.2.2.1 _ hl) hd (fun H1 l1 h2 => kk h1 H1 l1 hf h2)
  · rw [if_neg hx] at hf
    cases hf
end JR
