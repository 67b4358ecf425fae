/-! CORE 5: what is made, kinds, constants, references, ends, arraycopy -/
set_option maxRecDepth 100000
def jCn (ci : Nat) (C : String) (n : Nat) (fs : List Value) : Prop := ∃ (T : u_T) (N : Nat) (ty : Nat → FieldType), jCf ci C T N ty ∧ (∀ j, j < N → defaultValue (ty j) = vp_V fs j) ∧ fs.length = N ∧ Cond.instantiable C n ∈ lw_all ∧ Cond.initialized C ∈ lw_all
theorem jnx {h : jH} {α : Type} {z : α × jH} {m : jM α} (hf : m.1 h = some z) : h.2.2.1 ≤ z.2.2.2.1 ∧ h.2.2.2.1 ≤ z.2.2.2.2.1 := ⟨(jle hf).2.1, (jle hf).2.2.1⟩
section JR3
variable {p : Program} {l : Launch} {e : Env} {R : Room} {s : State} {m : MethodId} {args : Array Value} {below : List Frame} {meth : Method} {c : Code} {H : Heap} {locs : List Loc} {cells slots : Nat} {Q : State → Prop}
variable {cc : ByteArray} {pc : Nat} {ls : Array Slot} {rest : List Value} {D : va_G} {dA : Nat → ClassId → Prop} {H0 : Heap} {K : Nat → Nat} {hs h : jH} {own : String} {nL : Nat} {rt : Option FieldType} {α : Type} {z : α × jH}
theorem jS.new {x : jC} {H1 : Heap} {n : Nat} (hS : jS D dA H0 hs h H locs cells slots) (he : jAt D dA H0.size H.size x H1) (z : H1.size = H.size + 1) (oq : ∀ q : Nat, q < H.size → H1[q]? = H[q]?) : jS D dA H0 hs (jnew h x n) H1 locs (cells + 1) (slots + n) :=
  ⟨hS.1.new he z oq, hS.2.1.tr (jnew_le _ _ _), hS.2.2.1, by show h.2.2.1 + 1 = _; rw [hS.2.2.2.1]; omega, by show h.2.2.2.1 + n = _; rw [hS.2.2.2.2]; omega⟩
theorem j_new (cx : jCx p s m args meth c cc own nL rt D dA H0 K) (hS : jS D dA H0 hs h H locs cells slots) {ci n : Nat} {fs : List Value} {F : Nat → jM α} (hf : (jB (jnw ci n fs) F).1 h = some z) {C : String} (cn : jCn ci C n fs) {idx : Nat} (hl : Cond.classLink own idx C ∈ lw_all) (hd : decode cc pc = .ok (.new idx, 3))
    (hm : z.2.2.2.1 ≤ hs.2.2.1 + R.cells ∧ z.2.2.2.2.1 ≤ hs.2.2.2.1 + R.slots)
    (kk : ∀ (q : Nat) (h1 : jH) (H1 : Heap) (cells1 slots1 : Nat), (F q).1 h1 = some z → jS D dA H0 hs h1 H1 locs cells1 slots1 → W p l e R s m args below meth c H1 locs cells1 slots1 Q (F0 m (pc + 3) ls (.ref q :: rest))) : W p l e R s m args below meth c H locs cells slots Q (F0 m pc ls rest) := by
  obtain ⟨x, h1, e1, hf⟩ := jB_some hf
  cases e1
  obtain ⟨T, N, ty, ⟨hc, h33, hin, htyok, hnm⟩, hfs, hlen, hi1, hi2⟩ := cn
  have hts := cx.2.2.2.2.1
  have hKn := cx.2.2.2.2.2.1.2.1 ci _ hc h33
  have hz := jnx hf
  have a1 : (jnew h (.inl (ci, fs)) n).2.2.1 = h.2.2.1 + 1 := rfl
  have a2 : (jnew h (.inl (ci, fs)) n).2.2.2.1 = h.2.2.2.1 + n := rfl
  have b1 := hS.2.2.2.1
  have b2 := hS.2.2.2.2
  refine W.newcK cx.1 cx.2.1 cx.2.2.2.1 (hts _ hl) (hts _ hi1) (hts _ hi2) rfl hd (by omega) (by omega) hKn.2.1 rfl fun H1 kC hkC e1 z1 o1 => ?_
  rw [hS.1.1]
  refine kk _ _ H1 _ _ hf (hS.new ?_ z1 o1)
  obtain ⟨cell, g1, g2, g3, g4⟩ := (u_born ty hts hin hKn hkC e1 htyok).to hfs
  have hcell := Option.some.inj (g1.symm.trans e1)
  exact ⟨_, cell, hc, g1, g2, ⟨by rw [g3]; exact (fun h => by cases h), by rw [g3]; rfl, fun _ => ⟨g3, by rw [hcell]; rfl, by rw [hcell]; rfl⟩⟩, hlen, g4⟩
theorem jclamp {n : Int32} (h : n.toNatClampNeg ≤ 1000000) (b : Nat) (hb : b ≤ 8) : n.toNatClampNeg * b ≤ 536870912 := Nat.le_trans (Nat.mul_le_mul h hb) (by decide)
theorem j_naG (cx : jCx p s m args meth c cc own nL rt D dA H0 K) (hS : jS D dA H0 hs h H locs cells slots) {kd : Nat} {x : jX} {n : Int32} {F : Nat → jM α} (hf : (jB (jnaG kd x n) F).1 h = some z) {at' : ArrayType} {ty : FieldType} (hty : newarray.typeOf at' = ty) (hk : jKd kd ty) (hx : ∀ j, defaultValue ty = jEl x j) (hby : componentBytes ty ≤ 8) (hw : Cond.arrayClass ty ∈ lw_all) (hd : decode cc pc = .ok (.newarray at', 2))
    (hrf : ∀ C, ty ≠ .object C) (hm : z.2.2.2.1 ≤ hs.2.2.1 + R.cells ∧ z.2.2.2.2.1 ≤ hs.2.2.2.1 + R.slots)
    (kk : ∀ (q : Nat) (h1 : jH) (H1 : Heap) (cells1 slots1 : Nat), (F q).1 h1 = some z → jS D dA H0 hs h1 H1 locs cells1 slots1 → W p l e R s m args below meth c H1 locs cells1 slots1 Q (F0 m (pc + 2) ls (.ref q :: rest))) (h7 : jnd kd = true := by decide) : W p l e R s m args below meth c H locs cells slots Q (F0 m pc ls (.int n :: rest)) := by
  obtain ⟨q, h1, e1, hf⟩ := jB_some hf
  unfold jnaG at e1
  dsimp only at e1
  split at e1
  · rename_i hc
    cases e1
    subst hty
    have hz := jnx hf
    have a1 : (jnew h (.inr (kd, n.toNatClampNeg, x)) n.toNatClampNeg).2.2.1 = h.2.2.1 + 1 := rfl
    have a2 : (jnew h (.inr (kd, n.toNatClampNeg, x)) n.toNatClampNeg).2.2.2.1 = h.2.2.2.1 + n.toNatClampNeg := rfl
    have b1 := hS.2.2.2.1
    have b2 := hS.2.2.2.2
    refine va_newaK cx.1 cx.2.1 (cx.2.2.2.2.1 _ hw) rfl hd rfl hc.1 rfl (jclamp hc.2 _ hby) (by omega) (by omega) rfl fun H1 cA e1 z1 o1 hAr hNm => ?_
    have hcA : dA kd cA := by
      obtain ⟨c7, hra, hu7⟩ := (cx.2.2.2.2.2.1.2.2.1 kd _ hk).2 h7
      refine (hu7 _).mpr ?_
      unfold va_RA at hra
      split at hra
      · rename_i C hC
        exact absurd hC (hrf C)
      · exact Option.some.inj (hNm.symm.trans hra)
    rw [hS.1.1]
    refine kk _ _ H1 _ _ hf (hS.new ?_ z1 o1)
    refine ⟨_, _, hk, e1, hcA, ⟨(fun h => by cases h), rfl, fun _ => ⟨rfl, rfl, rfl⟩⟩, jSz.of (arrV_size _ _ _), fun j hj => ?_⟩
    rw [arrV_read _ _ hj, ← hx j]
  · cases e1
theorem j_naR (cx : jCx p s m args meth c cc own nL rt D dA H0 K) (hS : jS D dA H0 hs h H locs cells slots) {kd : Nat} {n : Int32} {F : Nat → jM α} (hf : (jB (jnaR kd n) F).1 h = some z) {C : String} {idx : Nat} (hk : jKd kd (.object C)) (hl : Cond.classLink own idx C ∈ lw_all) (hov : Cond.arrayOver (.object C) ∈ lw_tbl) (hd : decode cc pc = .ok (.anewarray idx, 3))
    (hm : z.2.2.2.1 ≤ hs.2.2.1 + R.cells ∧ z.2.2.2.2.1 ≤ hs.2.2.2.1 + R.slots)
    (kk : ∀ (q : Nat) (h1 : jH) (H1 : Heap) (cells1 slots1 : Nat), (F q).1 h1 = some z → jS D dA H0 hs h1 H1 locs cells1 slots1 → W p l e R s m args below meth c H1 locs cells1 slots1 Q (F0 m (pc + 3) ls (.ref q :: rest))) (h7 : jnd kd = true := by decide) : W p l e R s m args below meth c H locs cells slots Q (F0 m pc ls (.int n :: rest)) := by
  obtain ⟨q, h1, e1, hf⟩ := jB_some hf
  unfold jnaR jnaG at e1
  dsimp only at e1
  split at e1
  · rename_i hc
    cases e1
    have hz := jnx hf
    have a1 : (jnew h (.inr (kd, n.toNatClampNeg, .inr (.inr (.inr (.inr fun _ => none))))) n.toNatClampNeg).2.2.1 = h.2.2.1 + 1 := rfl
    have a2 : (jnew h (.inr (kd, n.toNatClampNeg, .inr (.inr (.inr (.inr fun _ => none))))) n.toNatClampNeg).2.2.2.1 = h.2.2.2.1 + n.toNatClampNeg := rfl
    have b1 := hS.2.2.2.1
    have b2 := hS.2.2.2.2
    refine W.anew cx.1 cx.2.1 cx.2.2.2.1 (cx.2.2.2.2.1 _ hl) (jex_use rfl (cx.2.2.2.2.2.1.2.2.2.1 _ hov rfl)) rfl hd rfl hc.1 (jclamp hc.2 4 (by decide)) (by omega) (by omega) fun cA kA comp f1 f2 f3 f4 => ?_
    generalize hH1 : H.push ({ cls := cA, slots := Array.replicate n.toNatClampNeg .null, vm := .none } : Cell) = H1
    have z1 : H1.size = H.size + 1 := by rw [← hH1, Array.size_push]
    have e1 : H1[H.size]? = some (arrV cA n.toNatClampNeg (fun _ => .null)) := by rw [← hH1, Array.getElem?_push_size, ← arrV_new]
    have o1 : ∀ q : Nat, q < H.size → H1[q]? = H[q]? := fun q hq => by rw [← hH1, Array.getElem?_push, if_neg (Nat.ne_of_lt hq)]
    have hcA : dA kd cA := by
      obtain ⟨c7, ⟨-, -, -, -, -, h4⟩, hu7⟩ := (cx.2.2.2.2.2.1.2.2.1 kd _ hk).2 h7
      refine (hu7 _).mpr ?_
      exact Option.some.inj (f1.symm.trans h4)
    rw [hS.1.1]
    refine kk _ _ H1 _ _ hf (hS.new ?_ z1 o1)
    refine ⟨_, _, hk, e1, hcA, ⟨(fun h => by cases h), rfl, fun _ => ⟨rfl, rfl, rfl⟩⟩, jSz.of (arrV_size _ _ _), fun j hj => ?_⟩
    rw [arrV_read _ _ hj]
    rfl
  · cases e1
/-! references: loads, stores, tests -/
theorem j_aload_n (hexec : p.tables.exec = Jvm.exec) (hb : c.code = cc) {k : Fin 4} {i : Nat} {r : Option Nat} (hdg : decode cc pc = .ok (.aload_n k, 1)) (hi : (k : Nat) = i) (hl : ls[i]? = some (.val (va_rf r)))
    (kk : W p l e R s m args below meth c H locs cells slots Q (F0 m (pc + 1) ls (va_rf r :: rest))) : W p l e R s m args below meth c H locs cells slots Q (F0 m pc ls rest) := by
  cases r with
  | none => exact lv_aload_nN hexec hb hdg hi hl kk
  | some a => exact lv_aload_n hexec hb hdg hi hl kk
theorem j_aload (hexec : p.tables.exec = Jvm.exec) (hb : c.code = cc) {i : Nat} {r : Option Nat} (hdg : decode cc pc = .ok (.aload i, 2)) (hl : ls[i]? = some (.val (va_rf r)))
    (kk : W p l e R s m args below meth c H locs cells slots Q (F0 m (pc + 2) ls (va_rf r :: rest))) : W p l e R s m args below meth c H locs cells slots Q (F0 m pc ls rest) := by
  cases r with
  | none => exact lv_aloadN hexec hb hdg hl kk
  | some a => exact lv_aload hexec hb hdg hl kk
theorem j_astore_n (hexec : p.tables.exec = Jvm.exec) (hb : c.code = cc) {k : Fin 4} {i nL : Nat} {r : Option Nat} {lv lv' : List (Nat × Value)} (hdg : decode cc pc = .ok (.astore_n k, 1)) (hi : (k : Nat) = i) (h : lv_has ls nL lv) (hn : i < nL) (hl : (i, va_rf r) :: lv.filter (fun q => !(q.1 == i) && !(q.1 + 1 == i && q.2.category == 2)) = lv')
    (kk : ∀ ls : Array Slot, lv_has ls nL lv' → W p l e R s m args below meth c H locs cells slots Q (F0 m (pc + 1) ls rest)) : W p l e R s m args below meth c H locs cells slots Q (F0 m pc ls (va_rf r :: rest)) := by
  cases r with
  | none => exact lv_astore_nN hexec hb hdg hi h hn hl kk
  | some a => exact lv_astore_n hexec hb hdg hi h hn hl kk
theorem j_astore (hexec : p.tables.exec = Jvm.exec) (hb : c.code = cc) {i nL : Nat} {r : Option Nat} {lv lv' : List (Nat × Value)} (hdg : decode cc pc = .ok (.astore i, 2)) (h : lv_has ls nL lv) (hn : i < nL) (hl : (i, va_rf r) :: lv.filter (fun q => !(q.1 == i) && !(q.1 + 1 == i && q.2.category == 2)) = lv')
    (kk : ∀ ls : Array Slot, lv_has ls nL lv' → W p l e R s m args below meth c H locs cells slots Q (F0 m (pc + 2) ls rest)) : W p l e R s m args below meth c H locs cells slots Q (F0 m pc ls (va_rf r :: rest)) := by
  cases r with
  | none => exact lv_astoreN hexec hb hdg h hn hl kk
  | some a => exact lv_astore hexec hb hdg h hn hl kk
theorem j_ifnull (hexec : p.tables.exec = Jvm.exec) (hb : c.code = cc) {r : Option Nat} {off : Int} {tgt : Nat} (hdg : decode cc pc = .ok (.ifnull off, 3)) (ht : (pc : Int) + off = (tgt : Int))
    (kt : r = none → W p l e R s m args below meth c H locs cells slots Q (F0 m tgt ls rest)) (kf : ¬ r = none → W p l e R s m args below meth c H locs cells slots Q (F0 m (pc + 3) ls rest)) : W p l e R s m args below meth c H locs cells slots Q (F0 m pc ls (va_rf r :: rest)) := by
  cases r with
  | none => exact lv_ifnullN hexec hb hdg ht (kt rfl)
  | some a => exact lv_ifnull hexec hb hdg (kf (fun h => by cases h))
theorem j_ifnonnull (hexec : p.tables.exec = Jvm.exec) (hb : c.code = cc) {r : Option Nat} {off : Int} {tgt : Nat} (hdg : decode cc pc = .ok (.ifnonnull off, 3)) (ht : (pc : Int) + off = (tgt : Int))
    (kt : ¬ r = none → W p l e R s m args below meth c H locs cells slots Q (F0 m tgt ls rest)) (kf : r = none → W p l e R s m args below meth c H locs cells slots Q (F0 m (pc + 3) ls rest)) : W p l e R s m args below meth c H locs cells slots Q (F0 m pc ls (va_rf r :: rest)) := by
  cases r with
  | none => exact lv_ifnonnullN hexec hb hdg (kf rfl)
  | some a => exact lv_ifnonnull hexec hb hdg ht (kt (fun h => by cases h))
theorem j_cast (cx : jCx p s m args meth c cc own nL rt D dA H0 K) (hS : jS D dA H0 hs h H locs cells slots) {ok : List Nat} {r : Option Nat} {F : Unit → jM α} (hf : (jB (jck ok r) F).1 h = some z) {nm : String} {idx : Nat} (ho : jOk ok nm) (hl : Cond.classLink own idx nm ∈ lw_all) (hd : decode cc pc = .ok (.checkcast idx, 3))
    (kk : (F ()).1 h = some z → W p l e R s m args below meth c H locs cells slots Q (F0 m (pc + 3) ls (va_rf r :: rest))) : W p l e R s m args below meth c H locs cells slots Q (F0 m pc ls (va_rf r :: rest)) := by
  obtain ⟨x, h1, h2⟩ := jBO_some hf
  split at h1
  · rename_i hok
    cases r with
    | none => exact lv_castN cx.1 cx.2.1 hd (kk h2)
    | some b =>
      unfold jokR at hok
      dsimp only at hok
      split at hok
      · rename_i k hkk
        have hcF := cx.2.2.2.2.2.1
        obtain ⟨cell, g1, g2, g3⟩ := jcd_at hcF hS hkk
        rcases ho k (of_decide_eq_true hok) with e | e
        · rw [e] at g3
          intro T hT X
          obtain ⟨vm', X', st⟩ := X.checkcastYes cx.1 cx.2.2.2.1 (cx.2.2.2.2.1 _ hl) (by rw [hT]; exact g1) g2 g3 (va_asg _ _) (g := F0 m pc ls (.ref b :: rest)) rfl rfl (by rw [cx.2.1]; exact hd)
          obtain ⟨t, a1, b1⟩ := kk h2 (T.setVm vm') hT X'
          exact ⟨t, st t a1, b1⟩
        · exact va_castY cx.1 cx.2.1 cx.2.2.2.1 (cx.2.2.2.2.1 _ hl) (hcF.2.2.2.1 _ e rfl) ⟨cell, g1, g2, g3⟩ hd (kk h2)
      · cases hok
  · cases h1
/-! constants -/
theorem j_ldcS (cx : jCx p s m args meth c cc own nL rt D dA H0 K) (hS : jS D dA H0 hs h H locs cells slots) (hK : K = hs.2.2.2.2) {k : Nat} {F : Option Nat → jM α} (hf : (jB (jK k) F).1 h = some z) {idx : Nat} {tx : String} (hx : (own, idx, tx, k) ∈ jStr) (hd : decode cc pc = .ok (.ldc idx, 2))
    (kk : ∀ x : Option Nat, (F x).1 h = some z → W p l e R s m args below meth c H locs cells slots Q (F0 m (pc + 2) ls (va_rf x :: rest))) : W p l e R s m args below meth c H locs cells slots Q (F0 m pc ls rest) := by
  obtain ⟨x, h1, h2⟩ := jBO_some hf
  cases h1
  have hr := cx.2.2.2.2.2.1.2.2.2.2.2.1 _ hx
  dsimp only at hr
  have e : K k = h.2.2.2.2 k := by rw [hK, hS.2.1.2.2.2.1]
  rw [e] at hr
  exact va_ldcS cx.1 cx.2.1 cx.2.2.2.1 hr hd (kk _ h2)
theorem j_ldcM (cx : jCx p s m args meth c cc own nL rt D dA H0 K) (hS : jS D dA H0 hs h H locs cells slots) (hK : K = hs.2.2.2.2) {F : Option Nat → jM α} (hf : (jB (jK 55) F).1 h = some z) {idx : Nat} (hl : Cond.classLink own idx "[Ljava/lang/Object;" ∈ lw_all) (hd : decode cc pc = .ok (.ldc idx, 2))
    (kk : ∀ x : Option Nat, (F x).1 h = some z → W p l e R s m args below meth c H locs cells slots Q (F0 m (pc + 2) ls (va_rf x :: rest))) : W p l e R s m args below meth c H locs cells slots Q (F0 m pc ls rest) := by
  obtain ⟨x, h1, h2⟩ := jBO_some hf
  cases h1
  have hr := cx.2.2.2.2.2.1.2.2.2.2.2.2.1
  have e : K 55 = h.2.2.2.2 55 := by rw [hK, hS.2.1.2.2.2.1]
  rw [e] at hr
  exact va_ldcM cx.1 cx.2.1 cx.2.2.2.1 (cx.2.2.2.2.1 _ hl) hr hd (kk _ h2)
theorem j_gets {v : Value} (cx : jCx p s m args meth c cc own nL rt D dA H0 K) (hS : jS D dA H0 hs h H locs cells slots) {C n d : String} {fv : (Nat → Nat) → Value} (hx : (C, n, d, fv) ∈ jSt) (hv : fv K = v) {idx : Nat} (hl : Cond.fieldLink own idx C n d ∈ lw_all) (hd : decode cc pc = .ok (.getstatic idx, 3))
    (kk : W p l e R s m args below meth c H locs cells slots Q (F0 m (pc + 3) ls (v :: rest))) : W p l e R s m args below meth c H locs cells slots Q (F0 m pc ls rest) := by
  obtain ⟨cf, kf, fi, f, a, cell, h1, h2, h3, h4, h5, h6, h7, h8⟩ := cx.2.2.2.2.2.1.2.2.2.2.1 _ hx
  dsimp only at h1 h7 h8
  rw [hv] at h7
  refine W.gets cx.1 cx.2.1 cx.2.2.2.1 (cx.2.2.2.2.1 _ hl) h1 h2 h3 h4 (cell₁ := cell) ?_ (fun q => by rw [q] at h6; cases h6) h7 rfl hd kk
  rw [hS.1.2.2.2.1 a (Nat.lt_of_not_le h8)]
  exact h5
theorem j_getsR (cx : jCx p s m args meth c cc own nL rt D dA H0 K) (hS : jS D dA H0 hs h H locs cells slots) (hK : K = hs.2.2.2.2) {k : Nat} {F : Option Nat → jM α} (hf : (jB (jK k) F).1 h = some z) {C n d : String} {fv : (Nat → Nat) → Value} (hx : (C, n, d, fv) ∈ jSt) (hv : fv = fun K => .ref (K k)) {idx : Nat} (hl : Cond.fieldLink own idx C n d ∈ lw_all) (hd : decode cc pc = .ok (.getstatic idx, 3))
    (kk : ∀ x : Option Nat, (F x).1 h = some z → W p l e R s m args below meth c H locs cells slots Q (F0 m (pc + 3) ls (va_rf x :: rest))) : W p l e R s m args below meth c H locs cells slots Q (F0 m pc ls rest) := by
  obtain ⟨x, h1, h2⟩ := jBO_some hf
  cases h1
  have e : K k = h.2.2.2.2 k := by rw [hK, hS.2.1.2.2.2.1]
  exact j_gets (v := .ref (h.2.2.2.2 k)) cx hS hx (by rw [hv, ← e]) hl hd (kk _ h2)
/-! ends -/
theorem jQ_of {v : Option Value} {h' : jH} {mc ms : Nat} (hS : jS D dA H0 hs h' H locs mc ms) {t : State} (ht : MQ below (fun _ _ o t => o = .returned v ∧ t.heap = H) args s mc ms (fun q => H0.size ≤ q) t) : jQ D dA H0 below s (.returned v) h' mc ms t := by
  obtain ⟨o, h1, h2, ⟨rfl, h3⟩, L, ⟨-, h4, h5⟩, h6⟩ := ht
  exact ⟨h1, h2, rfl, by rw [h3]; exact hS.1, h4, L, h5, h6⟩
theorem jcs {h' : jH} {mc ms : Nat} (hS : jS D dA H0 hs h' H locs cells slots) (e1 : h'.2.2.1 = hs.2.2.1 + mc) (e2 : h'.2.2.2.1 = hs.2.2.2.1 + ms) : cells = mc ∧ slots = ms := by
  have a := hS.2.2.2.1
  have b := hS.2.2.2.2
  omega
theorem j_iret (cx : jCx p s m args meth c cc own nL (some .int) D dA H0 K) (hS : jS D dA H0 hs h H locs cells slots) {v r : Int32} {h' : jH} (hf : (jR v).1 h = some (r, h')) {mc ms : Nat} (e1 : h'.2.2.1 = hs.2.2.1 + mc) (e2 : h'.2.2.2.1 = hs.2.2.2.1 + ms) (hd : decode cc pc = .ok (.ireturn, 1)) :
    W p l e R s m args below meth c H locs cells slots (jQ D dA H0 below s (.returned (some (.int r))) h' mc ms) (F0 m pc ls [.int v]) := by
  cases hf
  obtain ⟨rfl, rfl⟩ := jcs hS e1 e2
  exact W.mono (fun t => jQ_of hS) (W.iret cx.1 cx.2.1 cx.2.2.2.2.2.2.1 (fun t ht _ => ⟨rfl, ht⟩) hS.2.2.1 hd cx.2.2.2.2.2.2.2.1)
theorem j_lret (cx : jCx p s m args meth c cc own nL (some .long) D dA H0 K) (hS : jS D dA H0 hs h H locs cells slots) {v r : Int64} {h' : jH} (hf : (jR v).1 h = some (r, h')) {mc ms : Nat} (e1 : h'.2.2.1 = hs.2.2.1 + mc) (e2 : h'.2.2.2.1 = hs.2.2.2.1 + ms) (hd : decode cc pc = .ok (.lreturn, 1)) :
    W p l e R s m args below meth c H locs cells slots (jQ D dA H0 below s (.returned (some (.long r))) h' mc ms) (F0 m pc ls [.long v]) := by
  cases hf
  obtain ⟨rfl, rfl⟩ := jcs hS e1 e2
  exact W.mono (fun t => jQ_of hS) (W.lret cx.1 cx.2.1 cx.2.2.2.2.2.2.1 (fun t ht _ => ⟨rfl, ht⟩) hS.2.2.1 hd cx.2.2.2.2.2.2.2.1)
theorem j_vret (cx : jCx p s m args meth c cc own nL none D dA H0 K) (hS : jS D dA H0 hs h H locs cells slots) {r : Unit} {h' : jH} (hf : (jR ()).1 h = some (r, h')) {mc ms : Nat} (e1 : h'.2.2.1 = hs.2.2.1 + mc) (e2 : h'.2.2.2.1 = hs.2.2.2.1 + ms) (hd : decode cc pc = .ok (.return_, 1)) :
    W p l e R s m args below meth c H locs cells slots (jQ D dA H0 below s (.returned none) h' mc ms) (F0 m pc ls []) := by
  cases hf
  obtain ⟨rfl, rfl⟩ := jcs hS e1 e2
  exact W.mono (fun t => jQ_of hS) (W.vret cx.1 cx.2.1 cx.2.2.2.2.2.2.1 (fun t ht _ => ⟨rfl, ht⟩) hS.2.2.1 hd cx.2.2.2.2.2.2.2.1)
theorem j_aret {T : FieldType} (cx : jCx p s m args meth c cc own nL (some T) D dA H0 K) (hS : jS D dA H0 hs h H locs cells slots) {v r : Option Nat} {h' : jH} (hf : (jR v).1 h = some (r, h')) (hT : (∃ n, T = .object n) ∨ ∃ t, T = .array t) {mc ms : Nat} (e1 : h'.2.2.1 = hs.2.2.1 + mc) (e2 : h'.2.2.2.1 = hs.2.2.2.1 + ms) (hd : decode cc pc = .ok (.areturn, 1)) :
    W p l e R s m args below meth c H locs cells slots (jQ D dA H0 below s (.returned (some (va_rf r))) h' mc ms) (F0 m pc ls [va_rf v]) := by
  cases hf
  obtain ⟨rfl, rfl⟩ := jcs hS e1 e2
  exact W.mono (fun t => jQ_of hS) (W.aret cx.1 cx.2.1 cx.2.2.2.2.2.2.1 hT (by cases v; exact Or.inl rfl; exact Or.inr ⟨_, rfl⟩) (fun t ht _ => ⟨rfl, ht⟩) hS.2.2.1 hd cx.2.2.2.2.2.2.2.1)
/-- an answer of a small kind: it must be one already -/
def jRn (ty : FieldType) (v : Int32) : jM Int32 := if vp_nar ty v = v then jR v else jE
theorem jnar_ok {ty : FieldType} (hty : ty = .boolean ∨ ty = .byte ∨ ty = .char ∨ ty = .short) {v : Int32} (h : vp_nar ty v = v) : narrow ty (.int v) = .int v := by
  rcases hty with rfl | rfl | rfl | rfl <;> exact congrArg Value.int h
theorem j_zret {ty : FieldType} (cx : jCx p s m args meth c cc own nL (some ty) D dA H0 K) (hty : ty = .boolean ∨ ty = .byte ∨ ty = .char ∨ ty = .short) (hS : jS D dA H0 hs h H locs cells slots) {v r : Int32} {h' : jH} (hf : (jRn ty v).1 h = some (r, h')) {mc ms : Nat} (e1 : h'.2.2.1 = hs.2.2.1 + mc) (e2 : h'.2.2.2.1 = hs.2.2.2.1 + ms) (hd : decode cc pc = .ok (.ireturn, 1)) :
    W p l e R s m args below meth c H locs cells slots (jQ D dA H0 below s (.returned (some (.int r))) h' mc ms) (F0 m pc ls [.int v]) := by
  unfold jRn at hf
  by_cases hn : vp_nar ty v = v
  · rw [if_pos hn] at hf
    cases hf
    obtain ⟨rfl, rfl⟩ := jcs hS e1 e2
    exact W.mono (fun t => jQ_of hS) (W.zret cx.1 cx.2.1 cx.2.2.2.2.2.2.1 (jnar_ok hty hn) (fun t ht _ => ⟨rfl, ht⟩) hS.2.2.1 hd cx.2.2.2.2.2.2.2.1)
  · rw [if_neg hn] at hf
    cases hf
theorem j_objInit (cx : jCx p s m args meth c cc own nL rt D dA H0 K) {a : Nat} {idx : Nat} (hl : Cond.methodLink own idx Lib.objectInit ∈ lw_all) (h1 : Cond.instanceMethod Lib.objectInit ∈ lw_all) (h2 : Cond.code Lib.objectInit ⟨#[0xb1]⟩ 1 none ∈ lw_all) (hsz : ls.size = nL) (hd : decode cc pc = .ok (.invokespecial idx, 3))
    (hfr : 1 ≤ R.frames) (hlo : (rest.map fun v => v.category).sum + 12 ≤ R.locals)
    (kk : W p l e R s m args below meth c H locs cells slots Q (F0 m (pc + 3) ls rest)) : W p l e R s m args below meth c H locs cells slots Q (F0 m pc ls (.ref a :: rest)) :=
  W.objInit cx.1 cx.2.1 cx.2.2.2.1 (cx.2.2.2.2.1 _ hl) (cx.2.2.2.2.1 _ h1) (cx.2.2.2.2.1 _ h2) rfl (by rw [cx.2.2.1]; exact hsz) rfl hd hfr (by show 2 * 0 + _ + 12 ≤ _; omega) kk
/-! division -/
theorem jnz_s {y : Int32} {F : Unit → jM α} (hf : (jB (jnz y) F).1 h = some z) : ¬ y = 0 ∧ (F ()).1 h = some z := by
  unfold jnz at hf
  by_cases hy : y = 0
  · rw [if_pos hy] at hf; cases hf
  · rw [if_neg hy] at hf; exact ⟨hy, hf⟩
theorem jnzL_s {y : Int64} {F : Unit → jM α} (hf : (jB (jnzL y) F).1 h = some z) : ¬ y = 0 ∧ (F ()).1 h = some z := by
  unfold jnzL at hf
  by_cases hy : y = 0
  · rw [if_pos hy] at hf; cases hf
  · rw [if_neg hy] at hf; exact ⟨hy, hf⟩
end JR3
