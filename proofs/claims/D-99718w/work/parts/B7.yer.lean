/-! PURE 44: the lines of a year, in plain words; the reference's year() -/
set_option maxRecDepth 100000
/-- what it is (0 writes, 1 scrapes, 2 thirds, 3 a week), text, skin, line -/
abbrev zLine : Type := Nat × Nat × Nat × Nat
abbrev zYy : Type := Nat × (Nat → zLine)
abbrev zYR : Type := (Nat × Nat) ⊕ (Nat × zYy)
def zAct (u : zTau) (i : Nat) : Option Nat := if zisw u i 12584543 = true then some 0 else if zisw u i 274579016 = true then some 1 else if zisw u i 10793335 = true then some 2 else if zisw u i 456500 = true then some 3 else none
def zYad (Y : zYy) (x : zLine) : zYy := (Y.1 + 1, fun k => if k = Y.1 then x else Y.2 k)
def zYcl (u : zTau) (i : Nat) (Y : zYy) : zYR := if ziss u i 59 = true then .inr (i + 1, Y) else .inl (1, i)
def zYnm (u : zTau) (i : Nat) (nm : Nat → Nat) (c : Nat) (k : Nat → zYR) : zYR := if zNm u i = true then (match zFnd nm c (u.2.1 i) with
  | none => .inl (2, i)
  | some x => k x) else .inl (1, i)
def zYln (u : zTau) (nS : Nat → Nat) (cS : Nat) (nT : Nat → Nat) (cT i : Nat) (Y : zYy) (w : Nat) : zYR :=
  if w = 3 then zYcl u (i + 1) (zYad Y (3, 0, 0, 0))
  else if w = 0 then zYnm u (i + 1) nT cT fun x => zYnm u (i + 2) nS cS fun b => (match zNu u (i + 3) 0 5 with
    | .inl e => .inl (e, i + 3)
    | .inr l => zYcl u (i + 4) (zYad Y (0, x, b, l)))
  else zYnm u (i + 1) nS cS fun b => zYcl u (i + 2) (zYad Y (w, 0, b, 0))
def zYst (u : zTau) (nS : Nat → Nat) (cS : Nat) (nT : Nat → Nat) (cT i : Nat) (Y : zYy) : zYR := match zAct u i with
  | none => .inl (1, i)
  | some w => if Y.1 = 40 then .inl (5, i) else zYln u nS cS nT cT i Y w
def zYrs (u : zTau) (nS : Nat → Nat) (cS : Nat) (nT : Nat → Nat) (cT : Nat) : Nat → Nat → zYy → (Nat × Nat) ⊕ zYy
  | 0, _, _ => .inl (0, 0)
  | m + 1, i, Y => if u.1 i = 0 then .inr Y else match zYst u nS cS nT cT i Y with
    | .inl e => .inl e
    | .inr x => zYrs u nS cS nT cT m x.1 x.2
def zYok (cS cT : Nat) (Y : zYy) : Prop := Y.1 ≤ 40 ∧ ∀ k, k < Y.1 → (Y.2 k).1 ≤ 3 ∧ ((Y.2 k).1 = 0 → (Y.2 k).2.1 < cT ∧ (Y.2 k).2.2.2 ≤ 5) ∧ ((Y.2 k).1 ≠ 3 → (Y.2 k).2.2.1 < cS)
def zYg (cS cT n i : Nat) (r : zYR) : Prop := (∃ e, r = .inl e ∧ e.1 ≠ 0 ∧ e.2 ≤ n) ∨ ∃ x, r = .inr x ∧ i < x.1 ∧ x.1 ≤ n ∧ zYok cS cT x.2
section
variable {u : zTau} {n cS cT : Nat}
theorem zYg.er {i e j : Nat} (he : e ≠ 0) (hj : j ≤ n) : zYg cS cT n i (.inl (e, j)) := Or.inl ⟨_, rfl, he, hj⟩
theorem zYg.mo {i j : Nat} {r : zYR} (h : zYg cS cT n j r) (hi : i ≤ j) : zYg cS cT n i r := by
  rcases h with h | ⟨x, h1, h2, h3⟩
  · exact Or.inl h
  · exact Or.inr ⟨x, h1, by omega, h3⟩
theorem zYc_g (hu : zUn u n) {i : Nat} {Y : zYy} (hi : i ≤ n) (hY : zYok cS cT Y) : zYg cS cT n i (zYcl u i Y) := by
  unfold zYcl
  by_cases h : ziss u i 59 = true
  · rw [if_pos h]; exact Or.inr ⟨_, rfl, Nat.lt_succ_self _, ziss_lt hu h, hY⟩
  · rw [if_neg h]; exact zYg.er (by decide) hi
theorem zYn_g (hu : zUn u n) {i c : Nat} {nm : Nat → Nat} {k : Nat → zYR} (hi : i ≤ n) (hk : ∀ x, x < c → i < n → zYg cS cT n (i + 1) (k x)) : zYg cS cT n i (zYnm u i nm c k) := by
  unfold zYnm
  by_cases h : zNm u i = true
  · rw [if_pos h]
    cases hf : zFnd nm c (u.2.1 i) with
    | none => exact zYg.er (by decide) hi
    | some x => exact (hk x (zFnd_lt hf) (zNm_lt hu h)).mo (by omega)
  · rw [if_neg h]; exact zYg.er (by decide) hi
theorem zYok_a {Y : zYy} {w x b l : Nat} (hY : zYok cS cT Y) (h40 : Y.1 ≠ 40) (h1 : w ≤ 3) (h2 : w = 0 → x < cT ∧ l ≤ 5) (h3 : w ≠ 3 → b < cS) : zYok cS cT (zYad Y (w, x, b, l)) := by
  refine ⟨?_, fun k hk => ?_⟩
  · show Y.1 + 1 ≤ 40
    have := hY.1
    omega
  · have hk : k < Y.1 + 1 := hk
    show (if k = Y.1 then (w, x, b, l) else Y.2 k).1 ≤ 3 ∧ ((if k = Y.1 then (w, x, b, l) else Y.2 k).1 = 0 → (if k = Y.1 then (w, x, b, l) else Y.2 k).2.1 < cT ∧ (if k = Y.1 then (w, x, b, l) else Y.2 k).2.2.2 ≤ 5) ∧ ((if k = Y.1 then (w, x, b, l) else Y.2 k).1 ≠ 3 → (if k = Y.1 then (w, x, b, l) else Y.2 k).2.2.1 < cS)
    by_cases e : k = Y.1
    · rw [if_pos e]; exact ⟨h1, h2, h3⟩
    · rw [if_neg e]; exact hY.2 k (by omega)
theorem zAct_lt (hu : zUn u n) {i w : Nat} (h : zAct u i = some w) : w ≤ 3 ∧ i < n := by
  unfold zAct at h
  by_cases c : zisw u i 12584543 = true
  · rw [if_pos c] at h; cases h; exact ⟨by decide, zisw_lt hu c⟩
  · rw [if_neg c] at h
    by_cases c : zisw u i 274579016 = true
    · rw [if_pos c] at h; cases h; exact ⟨by decide, zisw_lt hu c⟩
    · rw [if_neg c] at h
      by_cases c : zisw u i 10793335 = true
      · rw [if_pos c] at h; cases h; exact ⟨by decide, zisw_lt hu c⟩
      · rw [if_neg c] at h
        by_cases c : zisw u i 456500 = true
        · rw [if_pos c] at h; cases h; exact ⟨by decide, zisw_lt hu c⟩
        · rw [if_neg c] at h; cases h
theorem zYst_g (hu : zUn u n) {i : Nat} {nS nT : Nat → Nat} {Y : zYy} (hi : i ≤ n) (hY : zYok cS cT Y) : zYg cS cT n i (zYst u nS cS nT cT i Y) := by
  unfold zYst
  cases ha : zAct u i with
  | none => exact zYg.er (by decide) hi
  | some w =>
    obtain ⟨hw, hin⟩ := zAct_lt hu ha
    dsimp only
    by_cases h40 : Y.1 = 40
    · rw [if_pos h40]; exact zYg.er (by decide) hi
    · rw [if_neg h40]
      unfold zYln
      by_cases c3 : w = 3
      · rw [if_pos c3]
        exact (zYc_g hu hin (zYok_a hY h40 (by decide) (fun q => (by cases q)) (fun q => absurd rfl q))).mo (by omega)
      · rw [if_neg c3]
        by_cases c0 : w = 0
        · rw [if_pos c0]
          refine (zYn_g hu hin (fun x hx a1 => zYn_g hu (by omega) (fun b hb a2 => ?_))).mo (by omega)
          rcases zNu_c u (i + 3) 0 5 with ⟨e, he, e2⟩ | ⟨a1, a3, a4, a5⟩
          · rw [e2]; exact zYg.er he (by omega)
          · rw [a5]
            have := hu (i + 3) (by omega)
            exact (zYc_g hu (by omega) (zYok_a hY h40 (by decide) (fun _ => ⟨hx, a4⟩) (fun _ => hb))).mo (by omega)
        · rw [if_neg c0]
          exact (zYn_g hu hin (fun b hb a1 => zYc_g hu (by omega) (zYok_a hY h40 hw (fun q => absurd q c0) (fun _ => hb)))).mo (by omega)
end
/-- lines as the reference keeps them in a slot -/
def zRln (s : Nat) (A : Nat → Nat → Int32) (Y : zYy) : Prop := A 38 s = nI Y.1 ∧ ∀ k, k < Y.1 → A 39 (40 * s + k) = nI (Y.2 k).1 ∧ ((Y.2 k).1 = 0 → A 40 (40 * s + k) = nI (Y.2 k).2.1 ∧ A 42 (40 * s + k) = nI (Y.2 k).2.2.2) ∧ ((Y.2 k).1 ≠ 3 → A 41 (40 * s + k) = nI (Y.2 k).2.2.1)
def zKy (F : Nat → Int32) (A : Nat → Nat → Int32) (F' : Nat → Int32) (A' : Nat → Nat → Int32) : Prop := (∀ k, k ≠ 9 → k ≠ 36 → F' k = F k) ∧ ∀ j q, (j = 38 → q < 5) → (39 ≤ j → j ≤ 42 → q < 200) → A' j q = A j q
theorem zKy.rf (F : Nat → Int32) (A : Nat → Nat → Int32) : zKy F A F A := ⟨fun _ _ _ => rfl, fun _ _ _ _ => rfl⟩
section
variable {F F1 F' : Nat → Int32} {A A1 A' : Nat → Nat → Int32}
theorem zKy.tr (h1 : zKy F A F1 A1) (h2 : zKy F1 A1 F' A') : zKy F A F' A' := ⟨fun k a b => (h2.1 k a b).trans (h1.1 k a b), fun j q a b => (h2.2 j q a b).trans (h1.2 j q a b)⟩
theorem zKy.f (h1 : zKy F A F' A') {k : Nat} (x : Int32) (hk : k = 9 ∨ k = 36) : zKy F A (upd F' k x) A' := ⟨fun j a b => by rw [zu_ne _ _ (by omega)]; exact h1.1 j a b, h1.2⟩
theorem zKy.a (h1 : zKy F A F' A') {j d : Nat} (x : Int32) (hj : (j = 38 ∧ 5 ≤ d) ∨ (39 ≤ j ∧ j ≤ 42 ∧ 200 ≤ d)) : zKy F A F' (zst A' j d x) := ⟨h1.1, fun j' q a b => by
  by_cases e : j' = j
  · rw [zst_q _ _ (show q ≠ d by omega)]; exact h1.2 j' q a b
  · rw [zst_j _ _ e]; exact h1.2 j' q a b⟩
theorem zKy.tp (h1 : zKy F A F' A') {t : Nat → Nat} {n : Nat} (hT : zTp F A t n) : zTp F' A' t n := by
  refine ⟨(h1.1 3 (by decide) (by decide)).trans hT.1, hT.2.1, fun k hk => ?_⟩
  rw [h1.2 2 k (by omega) (by omega)]
  exact hT.2.2 k hk
theorem zKy.ns (h1 : zKy F A F' A') {M : Nat → Nat → Int64} {nm : Nat → Nat} {c : Nat} (h : zNS 0 A M nm c) : zNS 0 A' M nm c := ⟨h.1, h.2.1, by rw [h1.2 10 (3 * 0) (by omega) (by omega)]; exact h.2.2.1, h.2.2.2⟩
theorem zKy.nt (h1 : zKy F A F' A') {M : Nat → Nat → Int64} {nm : Nat → Nat} {c : Nat} (h : zNT 0 A M nm c) : zNT 0 A' M nm c := ⟨h.1, h.2.1, by rw [h1.2 10 (3 * 0 + 1) (by omega) (by omega)]; exact h.2.2.1, h.2.2.2⟩
end
