/-! CORE 8: small rows behind the names -/
set_option maxRecDepth 100000
theorem jfr2 {F k : Nat} (h : 1 ≤ k) : F + 1 ≤ F + k := by omega
theorem jlo2 {L a k : Nat} (h : a ≤ k) : a + L ≤ L + k := by omega
section JC4
variable {p : Program} {l : Launch} {e : Env} {R : Room} {s : State} {m : MethodId} {args : Array Value} {below : List Frame} {meth : Method} {c : Code} {H : Heap} {locs : List Loc} {cells slots : Nat} {Q : State → Prop}
variable {pc : Nat} {ls : Array Slot}
/-- a reference that isn't null, on the stack -/
theorem j_nn {r : Option Nat} {b : Nat} (eb : r = some b) (As rest : List Value) {st0 : List Value} (h0 : st0 = As ++ va_rf r :: rest) (kk : W p l e R s m args below meth c H locs cells slots Q (F0 m pc ls (As ++ .ref b :: rest))) : W p l e R s m args below meth c H locs cells slots Q (F0 m pc ls st0) := by
  subst eb
  subst h0
  exact kk
end JC4
theorem jrc_s2 {α : Type} {ci a : Nat} {F : Nat → jM α} {h : jH} {z : α × jH} (hf : (jB (jrc ci (some a)) F).1 h = some z) : jcd h a = some ci ∧ (F a).1 h = some z := by
  obtain ⟨b, e, h1, h2⟩ := jrc_s hf
  cases e
  exact ⟨h1, h2⟩
