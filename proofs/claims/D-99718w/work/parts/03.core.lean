/-! CORE 1: the abstract heap, its monad, what is done to it -/
set_option maxRecDepth 100000
/-- a cell: an object (number in jCl, fields) or an array (number in jTy, length, contents) -/
abbrev jC : Type := (Nat × List Value) ⊕ (Nat × vp_A)
/-- cells by address; size; cells made; slots made; constants' addresses -/
abbrev jH : Type := (Nat → Option jC) × Nat × Nat × Nat × (Nat → Nat)
/-- kinds of arrays whose class is found by its name -/
def jnd (k : Nat) : Bool := decide (k < 7 ∧ k ≠ 3)
def jce (e : jC) : Option Nat := match e with
  | .inl o => some o.1
  | .inr x => if jnd x.1 = true then some (1000 + x.1) else none
def jcd (h : jH) (b : Nat) : Option Nat := match h.1 b with
  | some e => jce e
  | none => none
def jLe (h h' : jH) : Prop := h.2.1 ≤ h'.2.1 ∧ h.2.2.1 ≤ h'.2.2.1 ∧ h.2.2.2.1 ≤ h'.2.2.2.1 ∧ h'.2.2.2.2 = h.2.2.2.2 ∧ ∀ q c, q < h.2.1 → jcd h q = some c → jcd h' q = some c
theorem jLe.rf (h : jH) : jLe h h := ⟨Nat.le_refl _, Nat.le_refl _, Nat.le_refl _, rfl, fun _ _ _ h => h⟩
theorem jLe.tr {a b c : jH} (h1 : jLe a b) (h2 : jLe b c) : jLe a c :=
  ⟨Nat.le_trans h1.1 h2.1, Nat.le_trans h1.2.1 h2.2.1, Nat.le_trans h1.2.2.1 h2.2.2.1, h2.2.2.2.1.trans h1.2.2.2.1, fun q x hq e => h2.2.2.2.2 q x (Nat.lt_of_lt_of_le hq h1.1) (h1.2.2.2.2 q x hq e)⟩
abbrev jM (α : Type) : Type := { f : jH → Option (α × jH) // ∀ (h : jH) (r : α) (h' : jH), f h = some (r, h') → jLe h h' }
def jR {α : Type} (x : α) : jM α := ⟨fun h => some (x, h), fun h r h' e => by cases e; exact jLe.rf _⟩
def jE {α : Type} : jM α := ⟨fun _ => none, fun h r h' e => by cases e⟩
def jB {α β : Type} (m : jM α) (k : α → jM β) : jM β := ⟨fun h => match m.1 h with
    | none => none
    | some x => (k x.1).1 x.2, fun h r h' e => by
  dsimp only at e
  cases hm : m.1 h with
  | none => rw [hm] at e; cases e
  | some x =>
    rw [hm] at e
    exact jLe.tr (m.2 h x.1 x.2 hm) ((k x.1).2 x.2 r h' e)⟩
/-- what only looks -/
def jO {α : Type} (g : jH → Option α) : jM α := ⟨fun h => match g h with
    | none => none
    | some x => some (x, h), fun h r h' e => by
  dsimp only at e
  cases hm : g h with
  | none => rw [hm] at e; cases e
  | some x => rw [hm] at e; cases e; exact jLe.rf _⟩
theorem jR_run {α : Type} (x : α) (h : jH) : (jR x).1 h = some (x, h) := rfl
theorem jE_run {α : Type} (h : jH) : (jE : jM α).1 h = none := rfl
theorem jB_run {α β : Type} (m : jM α) (k : α → jM β) (h : jH) : (jB m k).1 h = match m.1 h with
    | none => none
    | some x => (k x.1).1 x.2 := rfl
theorem jO_run {α : Type} (g : jH → Option α) (h : jH) : (jO g).1 h = match g h with
    | none => none
    | some x => some (x, h) := rfl
theorem jB_some {α β : Type} {m : jM α} {k : α → jM β} {h : jH} {z : β × jH} (hf : (jB m k).1 h = some z) : ∃ (x : α) (h1 : jH), m.1 h = some (x, h1) ∧ (k x).1 h1 = some z := by
  rw [jB_run] at hf
  cases hm : m.1 h with
  | none => rw [hm] at hf; cases hf
  | some x => rw [hm] at hf; exact ⟨x.1, x.2, rfl, hf⟩
theorem jBO_some {α β : Type} {g : jH → Option α} {k : α → jM β} {h : jH} {z : β × jH} (hf : (jB (jO g) k).1 h = some z) : ∃ x : α, g h = some x ∧ (k x).1 h = some z := by
  obtain ⟨x, h1, e, hf⟩ := jB_some hf
  rw [jO_run] at e
  cases hm : g h with
  | none => rw [hm] at e; cases e
  | some y => rw [hm] at e; cases e; exact ⟨x, rfl, hf⟩
theorem jB_eq {α β : Type} {m : jM α} {k : α → jM β} {h h1 : jH} {x : α} (e : m.1 h = some (x, h1)) : (jB m k).1 h = (k x).1 h1 := by
  rw [jB_run, e]
theorem jB_assoc {α β γ : Type} (m : jM α) (k : α → jM β) (n : β → jM γ) (h : jH) : (jB (jB m k) n).1 h = (jB m (fun x => jB (k x) n)).1 h := by
  rw [jB_run, jB_run, jB_run]
  cases m.1 h with
  | none => rfl
  | some x => rfl
theorem jI_t {α : Type} {c : Prop} {d : Decidable c} {A B : jM α} {h : jH} {z : α × jH} (hf : (@ite _ c d A B).1 h = some z) (hc : c) : A.1 h = some z := by rw [if_pos hc] at hf; exact hf
theorem jI_f {α : Type} {c : Prop} {d : Decidable c} {A B : jM α} {h : jH} {z : α × jH} (hf : (@ite _ c d A B).1 h = some z) (hc : ¬ c) : B.1 h = some z := by rw [if_neg hc] at hf; exact hf
theorem jI_fn {α : Type} {c : Prop} {d : Decidable (¬ c)} {A B : jM α} {h : jH} {z : α × jH} (hf : (@ite _ (¬ c) d A B).1 h = some z) (hc : c) : B.1 h = some z := by rw [if_neg (fun q => q hc)] at hf; exact hf
theorem jE_f {α : Type} {h : jH} {z : α × jH} {P : Prop} (hf : (jE : jM α).1 h = some z) : P := by cases hf
theorem jEB_f {α β : Type} {k : α → jM β} {h : jH} {z : β × jH} {P : Prop} (hf : (jB (jE : jM α) k).1 h = some z) : P := by cases hf
def jset (h : jH) (a : Nat) (e : jC) : jH := (fun q => if q = a then some e else h.1 q, h.2)
def jnew (h : jH) (e : jC) (n : Nat) : jH := (fun q => if q = h.2.1 then some e else h.1 q, h.2.1 + 1, h.2.2.1 + 1, h.2.2.2.1 + n, h.2.2.2.2)
theorem jset_le {h : jH} {a : Nat} {e e0 : jC} (h0 : h.1 a = some e0) (hk : jce e = jce e0) : jLe h (jset h a e) := by
  refine ⟨Nat.le_refl _, Nat.le_refl _, Nat.le_refl _, rfl, fun q c hq hc => ?_⟩
  by_cases hqa : q = a
  · subst hqa
    unfold jcd at hc ⊢
    rw [h0] at hc
    simp only [jset, if_true]
    exact hk.trans hc
  · unfold jcd at hc ⊢
    simp only [jset, if_neg hqa]
    exact hc
theorem jsetO_le {h : jH} {a ci : Nat} {fs fs' : List Value} (h0 : h.1 a = some (.inl (ci, fs))) : jLe h (jset h a (.inl (ci, fs'))) := jset_le h0 rfl
theorem jsetA_le {h : jH} {a k : Nat} {x x' : vp_A} (h0 : h.1 a = some (.inr (k, x))) : jLe h (jset h a (.inr (k, x'))) := jset_le h0 rfl
theorem jnew_le (h : jH) (e : jC) (n : Nat) : jLe h (jnew h e n) := by
  refine ⟨Nat.le_succ _, Nat.le_succ _, Nat.le_add_right _ _, rfl, fun q c hq hc => ?_⟩
  unfold jcd at hc ⊢
  simp only [jnew, if_neg (Nat.ne_of_lt hq)]
  exact hc
/-- what changes the heap -/
def jW (g : jH → Option jH) (p : ∀ h h', g h = some h' → jLe h h') : jM Unit := ⟨fun h => match g h with
    | none => none
    | some x => some ((), x), fun h r h' e => by
  dsimp only at e
  cases hm : g h with
  | none => rw [hm] at e; cases e
  | some x => rw [hm] at e; cases e; exact p _ _ hm⟩
theorem jW_run (g : jH → Option jH) (p : ∀ h h', g h = some h' → jLe h h') (h : jH) : (jW g p).1 h = match g h with
    | none => none
    | some x => some ((), x) := rfl
theorem jBW_some {β : Type} {g : jH → Option jH} {p : ∀ h h', g h = some h' → jLe h h'} {k : Unit → jM β} {h : jH} {z : β × jH} (hf : (jB (jW g p) k).1 h = some z) : ∃ h1, g h = some h1 ∧ (k ()).1 h1 = some z := by
  obtain ⟨x, h1, e, hf⟩ := jB_some hf
  rw [jW_run] at e
  cases hm : g h with
  | none => rw [hm] at e; cases e
  | some y => rw [hm] at e; cases e; exact ⟨_, rfl, hf⟩
/-! fields -/
def jfV (cs : List Nat) (k : Nat) (r : Option Nat) (h : jH) : Option Value := match r with
  | none => none
  | some a => match h.1 a with
    | some (.inl o) => if o.1 ∈ cs then o.2[k]? else none
    | _ => none
def jvI (v : Option Value) : Option Int32 := match v with
  | some (.int x) => some x
  | _ => none
def jvL (v : Option Value) : Option Int64 := match v with
  | some (.long x) => some x
  | _ => none
def jvR (v : Option Value) : Option (Option Nat) := match v with
  | some (.ref a) => some (some a)
  | some .null => some none
  | _ => none
def jgI (cs : List Nat) (k : Nat) (r : Option Nat) : jM Int32 := jO fun h => jvI (jfV cs k r h)
def jgL (cs : List Nat) (k : Nat) (r : Option Nat) : jM Int64 := jO fun h => jvL (jfV cs k r h)
def jgR (cs : List Nat) (k : Nat) (r : Option Nat) : jM (Option Nat) := jO fun h => jvR (jfV cs k r h)
def jpG (cs : List Nat) (k : Nat) (r : Option Nat) (v : Value) (h : jH) : Option jH := match r with
  | none => none
  | some a => match h.1 a with
    | some (.inl o) => if o.1 ∈ cs ∧ h.2.2.2.2 0 ≤ a ∧ k < o.2.length then some (jset h a (.inl (o.1, o.2.set k v))) else none
    | _ => none
theorem jpG_spec {cs : List Nat} {k : Nat} {r : Option Nat} {v : Value} {h h' : jH} (e : jpG cs k r v h = some h') : ∃ (a ci : Nat) (fs : List Value), r = some a ∧ h.1 a = some (.inl (ci, fs)) ∧ ci ∈ cs ∧ h.2.2.2.2 0 ≤ a ∧ k < fs.length ∧ h' = jset h a (.inl (ci, fs.set k v)) := by
  unfold jpG at e
  split at e
  · cases e
  · rename_i a
    split at e
    · rename_i o ho
      split at e
      · rename_i hc
        cases e
        exact ⟨a, o.1, o.2, rfl, ho, hc.1, hc.2.1, hc.2.2, rfl⟩
      · cases e
    · cases e
theorem jpG_le {cs : List Nat} {k : Nat} {r : Option Nat} {v : Value} (h h' : jH) (e : jpG cs k r v h = some h') : jLe h h' := by
  obtain ⟨a, ci, fs, -, ha, -, -, -, rfl⟩ := jpG_spec e
  exact jsetO_le ha
theorem jfV_spec {cs : List Nat} {k : Nat} {r : Option Nat} {h : jH} {v : Value} (e : jfV cs k r h = some v) : ∃ (a ci : Nat) (fs : List Value), r = some a ∧ h.1 a = some (.inl (ci, fs)) ∧ ci ∈ cs ∧ fs[k]? = some v := by
  unfold jfV at e
  split at e
  · cases e
  · rename_i a
    split at e
    · rename_i o ho
      split at e
      · rename_i hc
        exact ⟨a, o.1, o.2, rfl, ho, hc, e⟩
      · cases e
    · cases e
def jpV (cs : List Nat) (k : Nat) (r : Option Nat) (v : Value) : jM Unit := jW (jpG cs k r v) jpG_le
def jpI (cs : List Nat) (k : Nat) (r : Option Nat) (x : Int32) : jM Unit := jpV cs k r (.int x)
def jpL (cs : List Nat) (k : Nat) (r : Option Nat) (x : Int64) : jM Unit := jpV cs k r (.long x)
def jpR (cs : List Nat) (k : Nat) (r : Option Nat) (x : Option Nat) : jM Unit := jpV cs k r (va_rf x)
def jpZ (cs : List Nat) (k : Nat) (r : Option Nat) (x : Int32) : jM Unit := if x = 0 ∨ x = 1 then jpV cs k r (.int x) else jE
/-! arrays -/
abbrev jX : Type := (Nat → Int32) ⊕ (Nat → Int64) ⊕ (Nat → UInt32) ⊕ (Nat → UInt64) ⊕ (Nat → Option Nat)
def jaE (r : Option Nat) (i : Int32) (h : jH) : Option (Nat × Nat × vp_A) := match r with
  | none => none
  | some a => match h.1 a with
    | some (.inr e) => if ¬ (i < 0 ∨ e.2.1 ≤ i.toNatClampNeg) then some (a, e) else none
    | _ => none
theorem jaE_spec {r : Option Nat} {i : Int32} {h : jH} {x : Nat × Nat × vp_A} (e : jaE r i h = some x) : r = some x.1 ∧ h.1 x.1 = some (.inr x.2) ∧ vp_in i x.2.2.1 := by
  unfold jaE at e
  split at e
  · cases e
  · rename_i a
    split at e
    · rename_i o ho
      split at e
      · rename_i hc
        cases e
        exact ⟨rfl, ho, hc⟩
      · cases e
    · cases e
def jaI (kd : Nat) (r : Option Nat) (i : Int32) : jM Int32 := jO fun h => match jaE r i h with
  | some (_, k, _, .inl f) => if k = kd then some (f i.toNatClampNeg) else none
  | _ => none
def jaL (kd : Nat) (r : Option Nat) (i : Int32) : jM Int64 := jO fun h => match jaE r i h with
  | some (_, k, _, .inr (.inl f)) => if k = kd then some (f i.toNatClampNeg) else none
  | _ => none
def jaR (kd : Nat) (r : Option Nat) (i : Int32) : jM (Option Nat) := jO fun h => match jaE r i h with
  | some (_, k, _, .inr (.inr (.inr (.inr f)))) => if k = kd then some (f i.toNatClampNeg) else none
  | _ => none
def jln (r : Option Nat) : jM Int32 := jO fun h => match r with
  | none => none
  | some a => match h.1 a with
    | some (.inr e) => some (nI e.2.1)
    | _ => none
def jsIg (kd : Nat) (r : Option Nat) (i : Int32) (x : Int32) (h : jH) : Option jH := match jaE r i h with
  | some (a, k, n, .inl f) => if k = kd ∧ h.2.2.2.2 0 ≤ a then some (jset h a (.inr (k, n, .inl (upd f i.toNatClampNeg x)))) else none
  | _ => none
def jsLg (kd : Nat) (r : Option Nat) (i : Int32) (x : Int64) (h : jH) : Option jH := match jaE r i h with
  | some (a, k, n, .inr (.inl f)) => if k = kd ∧ h.2.2.2.2 0 ≤ a then some (jset h a (.inr (k, n, .inr (.inl (vp_updL f i.toNatClampNeg x))))) else none
  | _ => none
def jokR (h : jH) (ok : List Nat) (v : Option Nat) : Bool := match v with
  | none => true
  | some b => match jcd h b with
    | some c => decide (c ∈ ok)
    | none => false
def jsRg (kd : Nat) (ok : List Nat) (r : Option Nat) (i : Int32) (x : Option Nat) (h : jH) : Option jH := match jaE r i h with
  | some (a, k, n, .inr (.inr (.inr (.inr f)))) => if (k = kd ∧ h.2.2.2.2 0 ≤ a) ∧ jokR h ok x = true then some (jset h a (.inr (k, n, .inr (.inr (.inr (.inr (va_up f i.toNatClampNeg x))))))) else none
  | _ => none
theorem jsIg_spec {kd : Nat} {r : Option Nat} {i x : Int32} {h h' : jH} (e : jsIg kd r i x h = some h') : ∃ (a n : Nat) (f : Nat → Int32), r = some a ∧ h.1 a = some (.inr (kd, n, .inl f)) ∧ vp_in i n ∧ h.2.2.2.2 0 ≤ a ∧ h' = jset h a (.inr (kd, n, .inl (upd f i.toNatClampNeg x))) := by
  unfold jsIg at e
  split at e
  · rename_i a k n f hx
    obtain ⟨e1, e2, e3⟩ := jaE_spec hx
    split at e
    · rename_i hc
      obtain ⟨rfl, hb⟩ := hc
      cases e
      exact ⟨a, n, f, e1, e2, e3, hb, rfl⟩
    · cases e
  · cases e
theorem jsLg_spec {kd : Nat} {r : Option Nat} {i : Int32} {x : Int64} {h h' : jH} (e : jsLg kd r i x h = some h') : ∃ (a n : Nat) (f : Nat → Int64), r = some a ∧ h.1 a = some (.inr (kd, n, .inr (.inl f))) ∧ vp_in i n ∧ h.2.2.2.2 0 ≤ a ∧ h' = jset h a (.inr (kd, n, .inr (.inl (vp_updL f i.toNatClampNeg x)))) := by
  unfold jsLg at e
  split at e
  · rename_i a k n f hx
    obtain ⟨e1, e2, e3⟩ := jaE_spec hx
    split at e
    · rename_i hc
      obtain ⟨rfl, hb⟩ := hc
      cases e
      exact ⟨a, n, f, e1, e2, e3, hb, rfl⟩
    · cases e
  · cases e
theorem jsRg_spec {kd : Nat} {ok : List Nat} {r : Option Nat} {i : Int32} {x : Option Nat} {h h' : jH} (e : jsRg kd ok r i x h = some h') : ∃ (a n : Nat) (f : Nat → Option Nat), r = some a ∧ h.1 a = some (.inr (kd, n, .inr (.inr (.inr (.inr f))))) ∧ vp_in i n ∧ h.2.2.2.2 0 ≤ a ∧ jokR h ok x = true ∧ h' = jset h a (.inr (kd, n, .inr (.inr (.inr (.inr (va_up f i.toNatClampNeg x)))))) := by
  unfold jsRg at e
  split at e
  · rename_i a k n f hx
    obtain ⟨e1, e2, e3⟩ := jaE_spec hx
    split at e
    · rename_i hc
      obtain ⟨⟨rfl, hb⟩, ho⟩ := hc
      cases e
      exact ⟨a, n, f, e1, e2, e3, hb, ho, rfl⟩
    · cases e
  · cases e
def jsI (kd : Nat) (r : Option Nat) (i : Int32) (x : Int32) : jM Unit := jW (jsIg kd r i x) fun h h' e => by
  obtain ⟨a, n, f, -, ha, -, -, rfl⟩ := jsIg_spec e
  exact jsetA_le ha
def jsL (kd : Nat) (r : Option Nat) (i : Int32) (x : Int64) : jM Unit := jW (jsLg kd r i x) fun h h' e => by
  obtain ⟨a, n, f, -, ha, -, -, rfl⟩ := jsLg_spec e
  exact jsetA_le ha
def jsR (kd : Nat) (ok : List Nat) (r : Option Nat) (i : Int32) (x : Option Nat) : jM Unit := jW (jsRg kd ok r i x) fun h h' e => by
  obtain ⟨a, n, f, -, ha, -, -, -, rfl⟩ := jsRg_spec e
  exact jsetA_le ha
def jsZ (kd : Nat) (r : Option Nat) (i : Int32) (x : Int32) : jM Unit := if x = 0 ∨ x = 1 then jsI kd r i x else jE
/-! what is made -/
def jnw (c n : Nat) (fs : List Value) : jM Nat := ⟨fun h => some (h.2.1, jnew h (.inl (c, fs)) n), fun h r h' e => by cases e; exact jnew_le _ _ _⟩
def jnaG (kd : Nat) (x : jX) (n : Int32) : jM Nat := ⟨fun h => if ¬ n < 0 ∧ n.toNatClampNeg ≤ 1000000 then some (h.2.1, jnew h (.inr (kd, n.toNatClampNeg, x)) n.toNatClampNeg) else none, fun h r h' e => by
  split at e
  · cases e; exact jnew_le _ _ _
  · cases e⟩
def jnaI (kd : Nat) (n : Int32) : jM Nat := jnaG kd (.inl fun _ => 0) n
def jnaL (kd : Nat) (n : Int32) : jM Nat := jnaG kd (.inr (.inl fun _ => 0)) n
def jnaR (kd : Nat) (n : Int32) : jM Nat := jnaG kd (.inr (.inr (.inr (.inr fun _ => none)))) n
/-! constants, kinds, numbers that aren't 0 -/
def jK (k : Nat) : jM (Option Nat) := jO fun h => some (some (h.2.2.2.2 k))
def jck (ok : List Nat) (r : Option Nat) : jM Unit := jO fun h => if jokR h ok r = true then some () else none
def jcls (r : Option Nat) : jM Nat := jO fun h => match r with
  | none => none
  | some a => jcd h a
def jnz (y : Int32) : jM Unit := if y = 0 then jE else jR ()
def jnzL (y : Int64) : jM Unit := if y = 0 then jE else jR ()
/-! arraycopy -/
def jcpOk (sp n len : Int32) (L : Nat) : Prop := ¬ sp < 0 ∧ ¬ n < 0 ∧ sp.toNatClampNeg + n.toNatClampNeg ≤ L
def jcpIg (kd : Nat) (src : Option Nat) (sp : Int32) (dst : Option Nat) (dp n : Int32) (h : jH) : Option jH := match src, dst with
  | some a, some b => match h.1 a, h.1 b with
    | some (.inr (k1, n1, .inl f)), some (.inr (k2, n2, .inl g)) =>
      if (k1 = kd ∧ k2 = kd ∧ h.2.2.2.2 0 ≤ b) ∧ (¬ sp < 0 ∧ ¬ dp < 0 ∧ ¬ n < 0) ∧ sp.toNatClampNeg + n.toNatClampNeg ≤ n1 ∧ dp.toNatClampNeg + n.toNatClampNeg ≤ n2 then
        some (jset h b (.inr (kd, n2, .inl (va_cpy f g sp.toNatClampNeg dp.toNatClampNeg n.toNatClampNeg)))) else none
    | _, _ => none
  | _, _ => none
theorem jcpIg_spec {kd : Nat} {src : Option Nat} {sp : Int32} {dst : Option Nat} {dp n : Int32} {h h' : jH} (e : jcpIg kd src sp dst dp n h = some h') : ∃ (a b n1 n2 : Nat) (f g : Nat → Int32), src = some a ∧ dst = some b ∧ h.1 a = some (.inr (kd, n1, .inl f)) ∧ h.1 b = some (.inr (kd, n2, .inl g)) ∧ h.2.2.2.2 0 ≤ b ∧ (¬ sp < 0 ∧ ¬ dp < 0 ∧ ¬ n < 0) ∧ sp.toNatClampNeg + n.toNatClampNeg ≤ n1 ∧ dp.toNatClampNeg + n.toNatClampNeg ≤ n2 ∧ h' = jset h b (.inr (kd, n2, .inl (va_cpy f g sp.toNatClampNeg dp.toNatClampNeg n.toNatClampNeg))) := by
  unfold jcpIg at e
  split at e
  · rename_i a b
    split at e
    · rename_i k1 n1 f k2 n2 g h1 h2
      split at e
      · rename_i hc
        obtain ⟨⟨rfl, rfl, hb⟩, hs, h3, h4⟩ := hc
        cases e
        exact ⟨a, b, n1, n2, f, g, rfl, rfl, h1, h2, hb, hs, h3, h4, rfl⟩
      · cases e
    · cases e
  · cases e
def jcpI (kd : Nat) (src : Option Nat) (sp : Int32) (dst : Option Nat) (dp n : Int32) : jM Unit := jW (jcpIg kd src sp dst dp n) fun h h' e => by
  obtain ⟨a, b, n1, n2, f, g, -, -, -, hb, -, -, -, -, rfl⟩ := jcpIg_spec e
  exact jsetA_le hb
def jcpRg (kd : Nat) (ok : List Nat) (src : Option Nat) (sp : Int32) (dst : Option Nat) (dp n : Int32) (h : jH) : Option jH := match src, dst with
  | some a, some b => match h.1 a, h.1 b with
    | some (.inr (k1, n1, .inr (.inr (.inr (.inr f))))), some (.inr (k2, n2, .inr (.inr (.inr (.inr g))))) =>
      if (k1 = kd ∧ k2 = kd ∧ h.2.2.2.2 0 ≤ b) ∧ (¬ sp < 0 ∧ ¬ dp < 0 ∧ ¬ n < 0) ∧ sp.toNatClampNeg + n.toNatClampNeg ≤ n1 ∧ dp.toNatClampNeg + n.toNatClampNeg ≤ n2 ∧ (List.range n.toNatClampNeg).all (fun i => jokR h ok (f (sp.toNatClampNeg + i))) = true then
        some (jset h b (.inr (kd, n2, .inr (.inr (.inr (.inr (va_cpy f g sp.toNatClampNeg dp.toNatClampNeg n.toNatClampNeg))))))) else none
    | _, _ => none
  | _, _ => none
theorem jcpRg_spec {kd : Nat} {ok : List Nat} {src : Option Nat} {sp : Int32} {dst : Option Nat} {dp n : Int32} {h h' : jH} (e : jcpRg kd ok src sp dst dp n h = some h') : ∃ (a b n1 n2 : Nat) (f g : Nat → Option Nat), src = some a ∧ dst = some b ∧ h.1 a = some (.inr (kd, n1, .inr (.inr (.inr (.inr f))))) ∧ h.1 b = some (.inr (kd, n2, .inr (.inr (.inr (.inr g))))) ∧ h.2.2.2.2 0 ≤ b ∧ (¬ sp < 0 ∧ ¬ dp < 0 ∧ ¬ n < 0) ∧ sp.toNatClampNeg + n.toNatClampNeg ≤ n1 ∧ dp.toNatClampNeg + n.toNatClampNeg ≤ n2 ∧ (List.range n.toNatClampNeg).all (fun i => jokR h ok (f (sp.toNatClampNeg + i))) = true ∧ h' = jset h b (.inr (kd, n2, .inr (.inr (.inr (.inr (va_cpy f g sp.toNatClampNeg dp.toNatClampNeg n.toNatClampNeg)))))) := by
  unfold jcpRg at e
  split at e
  · rename_i a b
    split at e
    · rename_i k1 n1 f k2 n2 g h1 h2
      split at e
      · rename_i hc
        obtain ⟨⟨rfl, rfl, hb⟩, hs, h3, h4, h5⟩ := hc
        cases e
        exact ⟨a, b, n1, n2, f, g, rfl, rfl, h1, h2, hb, hs, h3, h4, h5, rfl⟩
      · cases e
    · cases e
  · cases e
def jcpR (kd : Nat) (ok : List Nat) (src : Option Nat) (sp : Int32) (dst : Option Nat) (dp n : Int32) : jM Unit := jW (jcpRg kd ok src sp dst dp n) fun h h' e => by
  obtain ⟨a, b, n1, n2, f, g, -, -, -, hb, -, -, -, -, -, rfl⟩ := jcpRg_spec e
  exact jsetA_le hb
