/-! what Throwable's constructors ask of the tables; ends of methods that may throw -/
set_option maxRecDepth 100000
theorem jta : ∀ w ∈ Jvm.Bundle.throwableAtoms, jThA w := by
  intro w hw
  simp only [Jvm.Bundle.throwableAtoms, List.mem_cons, List.not_mem_nil, or_false] at hw
  rcases hw with rfl | rfl | rfl | rfl | rfl | rfl | rfl | rfl | rfl | rfl | rfl | rfl | rfl | rfl | rfl | rfl | rfl | rfl | rfl | rfl | rfl | rfl | rfl | rfl
  · exact Or.inl q129
  · exact Or.inl q641
  · exact Or.inl q650
  · exact Or.inl q653
  · exact Or.inl q656
  · exact Or.inl q658
  · exact Or.inl q642
  · exact Or.inl q643
  · exact Or.inl q171
  · exact Or.inl q172
  · exact Or.inl q644
  · exact Or.inl q649
  · exact Or.inl q654
  · exact Or.inl q669
  · exact Or.inl q631
  · exact Or.inl q670
  · exact Or.inl q633
  · exact Or.inl q671
  · exact Or.inl q635
  · exact Or.inl q645
  · exact Or.inr (Or.inl rfl)
  · exact Or.inl q647
  · exact Or.inr (Or.inr rfl)
  · exact Or.inl q637
theorem jtc9 : jThC 9 := ⟨_, _, _, _, cf_X8, by decide, ⟨rfl, rfl, rfl, rfl⟩, q628, q629⟩
theorem jtc31 : jThC 31 := ⟨_, _, _, _, cf_J18, by decide, ⟨rfl, rfl, rfl, rfl⟩, q1657, q652⟩
section
variable {p : Program} {l : Launch} {e : Env} {R : Room} {s : State} {m : MethodId} {args : Array Value} {below : List Frame} {meth : Method} {c : Code} {H : Heap} {locs : List Loc} {cells slots : Nat} {Q : State → Prop}
variable {cc : ByteArray} {pc : Nat} {ls : Array Slot} {rest : List Value} {D : va_G} {dA : Nat → ClassId → Prop} {H0 : Heap} {K : Nat → Nat} {hs h : jH} {own : String} {nL : Nat} {rt : Option FieldType}
theorem jpass {X Y : String} (cx : jCx p s m args meth c cc own nL rt D dA H0 K) (h1 : Cond.instanceMethod (Jvm.Bundle.init0 X) ∈ lw_all) (h2 : Cond.code (Jvm.Bundle.init0 X) Jvm.Bundle.five 1 none ∈ lw_all) (h3 : Cond.methodLink X 1 (Jvm.Bundle.init0 Y) ∈ lw_all) (h4 : Cond.instanceMethod (Jvm.Bundle.init0 Y) ∈ lw_all) (h5 : Cond.declares (Jvm.Bundle.init0 Y) ∈ lw_tbl) :
    ∀ w ∈ Jvm.Bundle.passAtoms X Y 1 Jvm.Bundle.five, w.before args s = true := by
  have hts := cx.2.2.2.2.1
  intro w hw
  simp only [Jvm.Bundle.passAtoms, List.mem_cons, List.not_mem_nil, or_false] at hw
  rcases hw with rfl | rfl | rfl | rfl | rfl
  · exact hts _ h1
  · exact hts _ h2
  · exact hts _ h3
  · exact hts _ h4
  · exact jex_use rfl (cx.2.2.2.2.2.1.2.2.2.1 _ h5 rfl)
theorem jchE (cx : jCx p s m args meth c cc own nL rt D dA H0 K) : ∀ w ∈ Jvm.Bundle.chain0Atoms "java/lang/Exception" [], w.before args s = true :=
  jpass cx q663 q664 q665 q642 q626
theorem jchN (cx : jCx p s m args meth c cc own nL rt D dA H0 K) : ∀ w ∈ Jvm.Bundle.chain0Atoms "java/util/NoSuchElementException" ["java/lang/RuntimeException", "java/lang/Exception"], w.before args s = true := by
  intro w hw
  rcases List.mem_append.mp hw with hw | hw
  · exact jpass cx q1664 q1665 q1666 q1667 q1655 w hw
  · rcases List.mem_append.mp hw with hw | hw
    · exact jpass cx q1667 q1668 q1669 q663 q624 w hw
    · exact jchE cx w hw
theorem j_iretT (cx : jCx p s m args meth c cc own nL (some .int) D dA H0 K) (hS : jS D dA H0 hs h H locs cells slots) {v : Int32} {r : Int32 ⊕ Nat} {h' : jH} (hf : (jR (.inl v) : jM (Int32 ⊕ Nat)).1 h = some (r, h')) {mc ms : Nat} (e1 : h'.2.2.1 = hs.2.2.1 + mc) (e2 : h'.2.2.2.1 = hs.2.2.2.1 + ms) (hd : decode cc pc = .ok (.ireturn, 1)) :
    W p l e R s m args below meth c H locs cells slots (jQ D dA H0 below s (jOc (fun v => some (.int v)) r) h' mc ms) (F0 m pc ls [.int v]) := by
  cases hf
  exact j_iret cx hS rfl e1 e2 hd
theorem j_vretT (cx : jCx p s m args meth c cc own nL none D dA H0 K) (hS : jS D dA H0 hs h H locs cells slots) {r : Unit ⊕ Nat} {h' : jH} (hf : (jR (.inl ()) : jM (Unit ⊕ Nat)).1 h = some (r, h')) {mc ms : Nat} (e1 : h'.2.2.1 = hs.2.2.1 + mc) (e2 : h'.2.2.2.1 = hs.2.2.2.1 + ms) (hd : decode cc pc = .ok (.return_, 1)) :
    W p l e R s m args below meth c H locs cells slots (jQ D dA H0 below s (jOc (fun _ => none) r) h' mc ms) (F0 m pc ls []) := by
  cases hf
  exact j_vret (r := ()) cx hS rfl e1 e2 hd
theorem j_aretT {rt : FieldType} (cx : jCx p s m args meth c cc own nL (some rt) D dA H0 K) (hS : jS D dA H0 hs h H locs cells slots) {v : Option Nat} {r : Option Nat ⊕ Nat} {h' : jH} (hf : (jR (.inl v) : jM (Option Nat ⊕ Nat)).1 h = some (r, h')) (hT : (∃ C, rt = .object C) ∨ ∃ t, rt = .array t) {mc ms : Nat} (e1 : h'.2.2.1 = hs.2.2.1 + mc) (e2 : h'.2.2.2.1 = hs.2.2.2.1 + ms) (hd : decode cc pc = .ok (.areturn, 1)) :
    W p l e R s m args below meth c H locs cells slots (jQ D dA H0 below s (jOc (fun v => some (va_rf v)) r) h' mc ms) (F0 m pc ls [va_rf v]) := by
  cases hf
  exact j_aret cx hS rfl hT e1 e2 hd
end
