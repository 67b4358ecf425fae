/-! PURE 67: chains as they are built -/
set_option maxRecDepth 100000
theorem zAL.up {H H1 : jH} {p arr cap n : Nat} {f : Nat → Option Nat} (h : zAL H p arr cap n f) (h1 : H1.1 p = H.1 p) (h2 : H1.1 arr = H.1 arr) (hl : jLe H H1) : zAL H1 p arr cap n f := by
  obtain ⟨⟨mc, a1⟩, a2, a3, a4, a5, ⟨a6, a7⟩, a8, a9, a10, a11⟩ := h
  exact ⟨⟨mc, h1.trans a1⟩, h2.trans a2, a3, a4, a5, ⟨Nat.lt_of_lt_of_le a6 hl.1, Nat.lt_of_lt_of_le a7 hl.1⟩, by rw [hl.2.2.2.1]; exact a8, fun c => by rw [hl.2.2.2.1]; exact a9 c, fun c => by rw [hl.2.2.2.1]; exact a10 c, fun i hi => (a11 i hi).le hl⟩
theorem zBu (m : jM Unit) : (jB m fun _ => jR ()) = m := Subtype.ext (funext fun h => by
  rw [jB_run]
  cases m.1 h with
  | none => rfl
  | some x => rfl)
/-- a new list -/
theorem zal_mk {H : jH} (hb : H.2.2.2.2 0 ≤ H.2.1) {m : Nat} (hm : 0 < m) (hm2 : m < 1000) : ∃ H', (∀ {α : Type} (K : Nat → jM α), (jB (jnw 4 3 [.int 0, .null, .int 0]) fun q => jB (fJ2_init q (nI m)) fun _ => K q).1 H = (K H.2.1).1 H') ∧ zAL H' H.2.1 (H.2.1 + 1) m 0 (fun _ => none) ∧ zFm (fun _ => False) H H' ∧ H'.2.1 = H.2.1 + 2 ∧ H'.2.2.2.1 = H.2.2.2.1 + 3 + m ∧ jLe H H' := by
  obtain ⟨H1, hH1⟩ : ∃ H1, H1 = jnew H (.inl (4, [.int 0, .null, .int 0])) 3 := ⟨_, rfl⟩
  have e1 : H1.1 H.2.1 = some (.inl (4, [.int 0, .null, .int 0])) := by rw [hH1]; exact znw_e _ _ _
  have s1 : H1.2.1 = H.2.1 + 1 := by rw [hH1]; rfl
  obtain ⟨H2, hH2⟩ : ∃ H2, H2 = jset H1 H.2.1 (.inl (4, [.int 0, .null, .int 0])) := ⟨_, rfl⟩
  have e2 : H2.1 H.2.1 = some (.inl (4, [.int 0, .null, .int 0])) := by rw [hH2]; exact zse_e _ _ _
  have s2 : H2.2 = H1.2 := by rw [hH2]; rfl
  obtain ⟨H3, hH3⟩ : ∃ H3, H3 = jnew H2 (.inr (4, m, zRf fun _ => none)) m := ⟨_, rfl⟩
  have e3 : H3.1 H.2.1 = some (.inl (4, [.int 0, .null, .int 0])) := by rw [hH3]; exact (znw_n _ _ _ (by rw [s2]; omega)).trans e2
  have e4 : H3.1 (H.2.1 + 1) = some (.inr (4, m, zRf fun _ => none)) := by
    rw [hH3, show H.2.1 + 1 = H2.2.1 by rw [s2, s1]]
    exact znw_e _ _ _
  have s3 : H3.2.1 = H.2.1 + 2 := by rw [hH3]; show H2.2.1 + 1 = _; rw [s2, s1]
  have s4 : H3.2.2.2.2 = H.2.2.2.2 := by rw [hH3]; show H2.2.2.2.2 = _; rw [s2, hH1]; rfl
  obtain ⟨H4, hH4⟩ : ∃ H4, H4 = jset H3 H.2.1 (.inl (4, [.int 0, .ref (H.2.1 + 1), .int 0])) := ⟨_, rfl⟩
  have s5 : H4.2 = H3.2 := by rw [hH4]; rfl
  have l4 : jLe H H4 := by
    rw [hH4, hH3, hH2, hH1]
    refine jLe.tr (jnew_le _ _ _) (jLe.tr (jsetO_le (fs := [.int 0, .null, .int 0]) (by rw [← hH1]; exact e1)) (jLe.tr (jnew_le _ _ _) (jsetO_le (fs := [.int 0, .null, .int 0]) (by rw [← hH1, ← hH2, ← hH3]; exact e3))))
  refine ⟨H4, fun K => ?_, ⟨⟨0, by rw [hH4]; exact zse_e _ _ _⟩, by rw [hH4]; exact (zse_n _ _ (by omega)).trans e4, by omega, Nat.zero_le _, by omega, by rw [s5, s3]; exact ⟨by omega, by omega⟩, by rw [s5, s4]; exact hb, fun c => by omega, fun _ => by rw [s5, s4]; omega, fun i hi => absurd hi (Nat.not_lt_zero i)⟩, ?_, by rw [s5, s3], ?_, l4⟩
  · unfold fJ2_init fJ1_init fJ0_init fJ2_init_60
    rw [znwB, ← hH1, zA, zA, zR, zA]
    unfold jpI
    rw [zpV e1 (by decide) (by rw [hH1]; exact hb) (by show 0 < 3; decide), show jset H1 H.2.1 (.inl (4, List.set [.int 0, .null, .int 0] 0 (.int 0))) = H2 from hH2.symm, zR, zIB, if_neg (show ¬ nI m ≤ 0 from fun q => by have := (zc0_ge (by omega)).mp q; omega), zA, znaRB (by omega), ← hH3, show H2.2.1 = H.2.1 + 1 by rw [s2, s1], zA, zl_p1 (mc := 0) (m := 0) e3 (by rw [s4]; exact hb), ← hH4]
    rfl
  · rw [hH4, hH3, hH2, hH1]
    exact (((zFm.rf _ _).nw.set (Or.inl (Nat.le_refl _))).nw).set (Or.inl (Nat.le_refl _))
  · rw [s5, hH3]
    show H2.2.2.2.1 + m = _
    rw [s2, hH1]
    rfl
/-- a chain as it is built: none yet, or one with links; T tokens were read -/
def zCq (N : Nat) (H : jH) (bd lo D q0 S0 T : Nat) (ch : Option Nat) (v : zVV) : Prop := match ch with
  | none => zXe N H (fun q => lo ≤ q ∧ q < H.2.1) D q0 v ∧ H.2.1 ≤ lo + 20 * T ∧ H.2.2.2.1 ≤ S0 + 200 * T
  | some cq => ∃ p arr cap k v0 cl ww t, zCn N H (fun q => lo ≤ q ∧ q < H.2.1 ∧ q ≠ p ∧ q ≠ arr) D q0 cq p arr cap k v0 cl ww ∧ v = zCvv v0 cl ww k ∧ (1 ≤ k ∧ k ≤ T) ∧ (lo ≤ cq ∧ cq < H.2.1 ∧ cq ≠ p ∧ cq ≠ arr) ∧ (lo ≤ p ∧ lo ≤ arr ∧ 0 < cap) ∧ (t ≤ 4 * cap ∧ cap ≤ 2 * k) ∧ (p < bd ∧ arr < bd) ∧ H.2.1 + 20 * k ≤ lo + 20 * T + 3 + 2 * k ∧ H.2.2.2.1 + 200 * k ≤ S0 + 200 * T + 5 + k + t
section
variable {N bd lo D q0 S0 T w : Nat} {H H1 : jH} {ch : Option Nat} {v : zVV}
theorem zCq.up (h : zCq N H bd lo D q0 S0 T ch v) (hf : zFm (fun q => q = w + 1) H H1) (hl : jLe H H1) (hw : w + 1 < lo) {d : Nat} (h1 : H1.2.1 ≤ H.2.1 + 20 * d) (h2 : H1.2.2.2.1 ≤ H.2.2.2.1 + 200 * d) : zCq N H1 bd lo D q0 S0 (T + d) ch v := by
  have at_ : ∀ q, lo ≤ q → q < H.2.1 → H1.1 q = H.1 q := fun q a b => hf.1 q b (by omega)
  have hle := hl.1
  cases ch with
  | none =>
    obtain ⟨a1, a2, a3⟩ := h
    exact ⟨a1.mo (fun q hq => ⟨⟨hq.1, by omega⟩, at_ q hq.1 hq.2⟩) (Nat.le_refl _), by omega, by omega⟩
  | some cq =>
    obtain ⟨p, arr, cap, k, v0, cl, ww, t, ⟨b1, b2, f, b3, b4⟩, a2, a3, a4, a5, a6, a9, a7, a8⟩ := h
    have hp := b3.2.2.2.2.2.1
    have mo : ∀ {e : Nat} {x : zVV}, zXe N H (fun q => lo ≤ q ∧ q < H.2.1 ∧ q ≠ p ∧ q ≠ arr) D e x → zXe N H1 (fun q => lo ≤ q ∧ q < H1.2.1 ∧ q ≠ p ∧ q ≠ arr) D e x := fun hx => hx.mo (fun q hq => ⟨⟨hq.1, by omega, hq.2.2⟩, at_ q hq.1 hq.2.1⟩) (Nat.le_refl _)
    refine ⟨p, arr, cap, k, v0, cl, ww, t, ⟨(at_ cq a4.1 a4.2.1).trans b1, mo b2, f, b3.up (at_ p a5.1 hp.1) (at_ arr a5.2.1 hp.2) hl, fun j hj => ?_⟩, a2, ⟨a3.1, by omega⟩, ⟨a4.1, by omega, a4.2.2⟩, a5, a6, a9, by omega, by omega⟩
    obtain ⟨l, e, c1, c2, c3, c4, c5, c6⟩ := b4 j hj
    exact ⟨l, e, c1, ⟨c2.1, by omega, c2.2.2⟩, (at_ l c2.1 c2.2.1).trans c3, c4, c5, mo c6⟩
/-- a link is added to a chain that is there -/
theorem zlk_add {cq p arr cap k e cls : Nat} {v0 w' : zVV} {cl : Nat → Nat} {ww : Nat → zVV} (hb : H.2.2.2.2 0 ≤ lo) (h : zCn N H (fun q => lo ≤ q ∧ q < H.2.1 ∧ q ≠ p ∧ q ≠ arr) D q0 cq p arr cap k v0 cl ww) (hcq : lo ≤ cq ∧ cq < H.2.1 ∧ cq ≠ p ∧ cq ≠ arr) (hp : lo ≤ p ∧ lo ≤ arr ∧ 0 < cap) (hk : k < 5000) (he : zXe N H (fun q => lo ≤ q ∧ q < H.2.1 ∧ q ≠ p ∧ q ≠ arr) D e w') (h21 : 21 ≤ cls) (h27 : cls ≤ 27) :
    ∃ H' arr' cap', (∀ {α : Type} (K : jM α), (jB (jgR [20] 1 (some cq)) fun y4 => jB (jnw cls 1 [.null]) fun q5 => jB (fX19_init q5 (some e)) fun _ => jB (jrc 4 y4) fun b8 => jB (fJ2_add b8 (some q5)) fun _ => K).1 H = K.1 H') ∧ zCn N H' (fun q => lo ≤ q ∧ q < H'.2.1 ∧ q ≠ p ∧ q ≠ arr') D q0 cq p arr' cap' (k + 1) v0 (fun j => if j = k then cls else cl j) (fun j => if j = k then w' else ww j) ∧ (lo ≤ cq ∧ cq < H'.2.1 ∧ cq ≠ p ∧ cq ≠ arr') ∧ (lo ≤ p ∧ lo ≤ arr' ∧ 0 < cap') ∧ zFm (fun q => lo ≤ q) H H' ∧ ((cap' = cap ∧ k < cap ∧ H'.2.1 = H.2.1 + 1 ∧ H'.2.2.2.1 = H.2.2.2.1 + 1) ∨ (k = cap ∧ cap' = zNc cap ∧ H'.2.1 = H.2.1 + 2 ∧ H'.2.2.2.1 = H.2.2.2.1 + 1 + cap')) ∧ jLe H H' := by
  obtain ⟨b1, b2, f, b3, b4⟩ := h
  obtain ⟨hp1, ha1⟩ := b3.2.2.2.2.2.1
  obtain ⟨H1, hH1⟩ : ∃ H1, H1 = jnew H (.inl (cls, [.null])) 1 := ⟨_, rfl⟩
  have e1 : H1.1 H.2.1 = some (.inl (cls, [.null])) := by rw [hH1]; exact znw_e _ _ _
  have s1 : H1.2.1 = H.2.1 + 1 := by rw [hH1]; rfl
  have s1' : H1.2.2.2.2 = H.2.2.2.2 := by rw [hH1]; rfl
  obtain ⟨H2, hH2⟩ : ∃ H2, H2 = jset H1 H.2.1 (.inl (cls, [.ref e])) := ⟨_, rfl⟩
  have s2 : H2.2 = H1.2 := by rw [hH2]; rfl
  have s2' : H2.2.1 = H.2.1 + 1 := by rw [s2, s1]
  have l2 : jLe H H2 := by rw [hH2, hH1]; exact jLe.tr (jnew_le _ _ _) (jsetO_le (by rw [← hH1]; exact e1))
  have at2 : ∀ q, q < H.2.1 → H2.1 q = H.1 q := fun q hq => by rw [hH2, hH1]; exact (zse_n _ _ (by omega)).trans (znw_n _ _ _ (by omega))
  have e2 : H2.1 H.2.1 = some (.inl (cls, [.ref e])) := by rw [hH2]; exact zse_e _ _ _
  have f2 : zFm (fun q => lo ≤ q) H H2 := by rw [hH2, hH1]; exact (zFm.rf _ _).nw.set (Or.inl (Nat.le_refl _))
  have hcls : cls = 21 ∨ cls = 22 ∨ cls = 23 ∨ cls = 24 ∨ cls = 25 ∨ cls = 26 ∨ cls = 27 := by omega
  have hmem : cls ∈ [21, 22, 23, 24, 25, 26, 27] := by rcases hcls with e | e | e | e | e | e | e <;> rw [e] <;> decide
  have hx : zOk H2 (some H.2.1) := ⟨H.2.1, cls, rfl, by omega, by unfold jcd; rw [e2]; rfl, by rcases hcls with e | e | e | e | e | e | e <;> rw [e] <;> decide⟩
  have b32 := b3.up (at2 p hp1) (at2 arr ha1) l2
  obtain ⟨H3, arr', cap', f', g1, g2, g3, g4, g5, g6⟩ := zAL_add b32 hx (by omega)
  have l3 : jLe H2 H3 := (fJ2_add p (some H.2.1)).2 _ _ _ g1
  have at3 : ∀ q, q < H2.2.1 → q ≠ p → q ≠ arr → H3.1 q = H2.1 q := fun q a b c => g5.1 q a (fun z => by rcases z with z | z; exact b z; exact c z.1)
  have hsz : H2.2.1 ≤ H3.2.1 := l3.1
  have harr : arr' = arr ∨ arr' = H2.2.1 := by
    rcases g6 with ⟨x1, -⟩ | ⟨-, x1, -⟩
    · exact Or.inl x1
    · exact Or.inr x1
  have mo : ∀ {e : Nat} {x : zVV}, zXe N H (fun q => lo ≤ q ∧ q < H.2.1 ∧ q ≠ p ∧ q ≠ arr) D e x → zXe N H3 (fun q => lo ≤ q ∧ q < H3.2.1 ∧ q ≠ p ∧ q ≠ arr') D e x := fun hx => hx.mo (fun q hq => ⟨⟨hq.1, by omega, hq.2.2.1, by omega⟩, (at3 q (by omega) hq.2.2.1 hq.2.2.2).trans (at2 q hq.2.1)⟩) (Nat.le_refl _)
  refine ⟨H3, arr', cap', fun K => ?_, ⟨(at3 cq (by omega) hcq.2.2.1 hcq.2.2.2).trans ((at2 cq hcq.2.1).trans b1), mo b2, f', g2, fun j hj => ?_⟩, ⟨hcq.1, by omega, hcq.2.2.1, by omega⟩, ⟨hp.1, by omega, ?_⟩, f2.tr g5 (fun q _ hq => by rcases hq with hq | hq; show lo ≤ q; omega; show lo ≤ q; omega), ?_, jLe.tr l2 l3⟩
  · rw [zgRs b1 (by decide) rfl, znwB, ← hH1]
    unfold fX19_init jpR
    rw [zA, zpV e1 hmem (by rw [s1']; omega) (by show 0 < 1; decide)]
    rw [show jset H1 H.2.1 (.inl (cls, List.set [.null] 0 (va_rf (some e)))) = H2 from hH2.symm, zR]
    obtain ⟨mc, m1⟩ := b32.1
    rw [zrc (c := 4) (by unfold jcd; rw [m1]; rfl), jB_eq g1]
  · by_cases ej : j = k
    · dsimp only
      rw [if_pos ej, if_pos ej, ej]
      refine ⟨H.2.1, e, g4, ⟨by omega, by omega, by omega, by omega⟩, (at3 _ (by omega) (by omega) (by omega)).trans e2, h21, h27, mo he⟩
    · dsimp only
      rw [if_neg ej, if_neg ej]
      obtain ⟨l, e', c1, c2, c3, c4, c5, c6⟩ := b4 j (by omega)
      exact ⟨l, e', (g3 j (by omega)).trans c1, ⟨c2.1, by omega, c2.2.2.1, by omega⟩, (at3 l (by omega) c2.2.2.1 c2.2.2.2).trans ((at2 l c2.2.1).trans c3), c4, c5, mo c6⟩
  · rcases g6 with ⟨-, x2, x3, -⟩ | ⟨x1, -, -, x4, -⟩
    · omega
    · rw [x4]
      split
      · decide
      · unfold zNc; omega
  · have sl : H2.2.2.2.1 = H.2.2.2.1 + 1 := by rw [s2, hH1]; rfl
    rcases g6 with ⟨-, x2, x3, x4⟩ | ⟨x1, -, x3, x4, x5⟩
    · exact Or.inl ⟨x2, x3, by rw [x4, s2'], by rw [x4, sl]⟩
    · rw [if_neg (by omega)] at x4
      exact Or.inr ⟨x1, x4, by omega, by omega⟩
theorem zCvv_up {v0 : zVV} {cl cl' : Nat → Nat} {ww ww' : Nat → zVV} : ∀ {k : Nat}, (∀ j, j < k → cl' j = cl j ∧ ww' j = ww j) → zCvv v0 cl' ww' k = zCvv v0 cl ww k
  | 0, _ => rfl
  | k + 1, h => by
    rw [zCvv, zCvv, zCvv_up (fun j hj => h j (by omega)), (h k (by omega)).1, (h k (by omega)).2]
/-- one more link: a chain is begun, or the one there goes on -/
theorem zCq.stp {e cls : Nat} {w' : zVV} (hb : H.2.2.2.2 0 ≤ lo) (hlo : lo ≤ H.2.1) (h : zCq N H bd lo D q0 S0 T ch v) (hT : T < 3000) {a : Nat} (ha : lo ≤ a) (hbd : bd ≤ a) (he : zXe N H (fun q => a ≤ q ∧ q < H.2.1) D e w') (h21 : 21 ≤ cls) (h27 : cls ≤ 27) :
    ∃ H' cq, (∀ {α : Type} (K : Option Nat → jM α), (jB (fX2_chain (some q0) ch) fun y3 => jB (jgR [20] 1 y3) fun y4 => jB (jnw cls 1 [.null]) fun q5 => jB (fX19_init q5 (some e)) fun _ => jB (jrc 4 y4) fun b8 => jB (fJ2_add b8 (some q5)) fun _ => K y3).1 H = (K (some cq)).1 H') ∧ zCq N H' H'.2.1 lo D q0 S0 (T + 1) (some cq) (zv2 (zOpf cls) v w') ∧ zFm (fun q => lo ≤ q) H H' ∧ jLe H H' := by
  cases ch with
  | some cq =>
    obtain ⟨p, arr, cap, k, v0, cl, ww, t, hc, a2, a3, a4, a5, a6, ⟨pa1, pa2⟩, a7, a8⟩ := h
    obtain ⟨H', arr', cap', e1, e2, e3, e4, e5, e6, e7⟩ := zlk_add (e := e) (cls := cls) (w' := w') hb hc a4 a5 (by omega) (he.mo (fun q hq => ⟨⟨by omega, hq.2, by omega, by omega⟩, rfl⟩) (Nat.le_refl _)) h21 h27
    obtain ⟨_, _, f9, al9, _⟩ := id e2
    have e8 : p < H'.2.1 ∧ arr' < H'.2.1 := al9.2.2.2.2.2.1
    refine ⟨H', cq, fun K => ?_, ?_, e5, e7⟩
    · unfold fX2_chain fX2_chain_16
      rw [zIB, if_neg (fun q => by cases q), zR]
      exact e1 (K (some cq))
    · have ev : zv2 (zOpf cls) v w' = zCvv v0 (fun j => if j = k then cls else cl j) (fun j => if j = k then w' else ww j) (k + 1) := by
        rw [zCvv, if_pos rfl, if_pos rfl, zCvv_up (cl := cl) (ww := ww) (fun j hj => ⟨if_neg (by omega), if_neg (by omega)⟩), a2]
      rcases e6 with ⟨x1, x2, x3, x4⟩ | ⟨x1, x2, x3, x4⟩
      · exact ⟨p, arr', cap', k + 1, v0, _, _, t, e2, ev, ⟨by omega, by omega⟩, e3, e4, ⟨by omega, by omega⟩, e8, by omega, by omega⟩
      · have hz : zNc cap = cap + max 1 (cap / 2) := rfl
        exact ⟨p, arr', cap', k + 1, v0, _, _, t + cap', e2, ev, ⟨by omega, by omega⟩, e3, e4, ⟨by omega, by omega⟩, e8, by omega, by omega⟩
  | none =>
    obtain ⟨a1, a2, a3⟩ := h
    obtain ⟨H1, hH1⟩ : ∃ H1, H1 = jnew H (.inl (20, [.null, .null])) 2 := ⟨_, rfl⟩
    have e1 : H1.1 H.2.1 = some (.inl (20, [.null, .null])) := by rw [hH1]; exact znw_e _ _ _
    have s1 : H1.2.1 = H.2.1 + 1 := by rw [hH1]; rfl
    have s1' : H1.2.2.2.2 = H.2.2.2.2 := by rw [hH1]; rfl
    obtain ⟨H2, g1, g2, g3, g4, g5, g6⟩ := zal_mk (H := H1) (m := 1) (by rw [s1']; omega) (by decide) (by decide)
    have s2 : H2.2.2.2.2 = H.2.2.2.2 := g3.2.2.2.2.trans s1'
    have e2 : H2.1 H.2.1 = some (.inl (20, [.null, .null])) := g3.at e1 (by omega) (fun q => q)
    obtain ⟨H3, hH3⟩ : ∃ H3, H3 = jset H2 H.2.1 (.inl (20, [.null, .ref H1.2.1])) := ⟨_, rfl⟩
    have e3 : H3.1 H.2.1 = some (.inl (20, [.null, .ref H1.2.1])) := by rw [hH3]; exact zse_e _ _ _
    have s3 : H3.2 = H2.2 := by rw [hH3]; rfl
    obtain ⟨H4, hH4⟩ : ∃ H4, H4 = jset H3 H.2.1 (.inl (20, [.ref q0, .ref H1.2.1])) := ⟨_, rfl⟩
    have e4 : H4.1 H.2.1 = some (.inl (20, [.ref q0, .ref H1.2.1])) := by rw [hH4]; exact zse_e _ _ _
    have s4 : H4.2 = H2.2 := by rw [hH4]; exact s3
    have f4 : zFm (fun q => lo ≤ q) H H4 := by
      rw [hH4, hH3]
      refine ((zFm.tr ?_ g3 (fun q _ hq => hq.elim)).set (Or.inl (Nat.le_refl _))).set (Or.inl (Nat.le_refl _))
      rw [hH1]
      exact (zFm.rf _ _).nw
    have l4 : jLe H H4 := by
      rw [hH4, hH3]
      refine jLe.tr ?_ (jLe.tr (jLe.tr g6 (jsetO_le e2)) (jsetO_le (by rw [← hH3]; exact e3)))
      rw [hH1]
      exact jnew_le _ _ _
    have at4 : ∀ q, q < H.2.1 → H4.1 q = H.1 q := fun q hq => by
      rw [hH4, hH3]
      refine (zse_n _ _ (by omega)).trans ((zse_n _ _ (by omega)).trans ((g3.1 q (by omega) (fun z => z)).trans ?_))
      rw [hH1]
      exact znw_n _ _ _ (by omega)
    have z4 : H4.2.1 = H.2.1 + 3 := by rw [s4, g4, s1]
    have q4 : H4.2.2.2.1 = H.2.2.2.1 + 6 := by rw [s4, g5, hH1]; rfl
    have al : zAL H4 H1.2.1 (H1.2.1 + 1) 1 0 (fun _ => none) := by
      refine g2.up ?_ ?_ (by rw [hH4, hH3]; exact jLe.tr (jsetO_le e2) (jsetO_le (by rw [← hH3]; exact e3)))
      · rw [hH4, hH3]; exact (zse_n _ _ (by omega)).trans (zse_n _ _ (by omega))
      · rw [hH4, hH3]; exact (zse_n _ _ (by omega)).trans (zse_n _ _ (by omega))
    have hc : zCn N H4 (fun q => lo ≤ q ∧ q < H4.2.1 ∧ q ≠ H1.2.1 ∧ q ≠ H1.2.1 + 1) D q0 H.2.1 H1.2.1 (H1.2.1 + 1) 1 0 v (fun _ => 0) (fun _ => v) := ⟨e4, a1.mo (fun q hq => ⟨⟨hq.1, by omega, by omega, by omega⟩, at4 q hq.2⟩) (Nat.le_refl _), _, al, fun j hj => absurd hj (Nat.not_lt_zero j)⟩
    obtain ⟨H', arr', cap', k1, k2, k3, k4, k5, k6, k7⟩ := zlk_add (e := e) (cls := cls) (w' := w') (by rw [s4, s2]; exact hb) hc ⟨by omega, by omega, by omega, by omega⟩ ⟨by omega, by omega, by decide⟩ (by decide) (he.mo (fun q hq => ⟨⟨by omega, by omega, by omega, by omega⟩, at4 q hq.2⟩) (Nat.le_refl _)) h21 h27
    obtain ⟨_, _, f9, al9, _⟩ := id k2
    have k8 : H1.2.1 < H'.2.1 ∧ arr' < H'.2.1 := al9.2.2.2.2.2.1
    refine ⟨H', H.2.1, fun K => ?_, ?_, f4.tr k5 (fun q _ hq => hq), jLe.tr l4 k7⟩
    · unfold fX2_chain fX2_chain_16 fX18_init fX14_init
      have g1' : (fJ2_init H1.2.1 1).1 (jnew H1 (.inl (4, [.int 0, .null, .int 0])) 3) = some ((), H2) := by
        have := g1 (fun _ => jR ())
        rw [znwB, zBu] at this
        exact this
      rw [zIB, if_pos rfl, zA, znwB, ← hH1, zA, zA, zR, zA, znwB, zA, jB_eq g1', zA]
      unfold jpR
      rw [zpV e2 (by decide) (by rw [s2]; omega) (by show 1 < 2; decide), show jset H2 H.2.1 (.inl (20, List.set [.null, .null] 1 (va_rf (some H1.2.1)))) = H3 from hH3.symm, zA, zpV e3 (by decide) (by rw [s3, s2]; omega) (by show 0 < 2; decide), show jset H3 H.2.1 (.inl (20, List.set [.null, .ref H1.2.1] 0 (va_rf (some q0)))) = H4 from hH4.symm, zR, zR]
      exact k1 (K (some H.2.1))
    · have ev : zv2 (zOpf cls) v w' = zCvv v (fun j => if j = 0 then cls else 0) (fun j => if j = 0 then w' else v) 1 := rfl
      rcases k6 with ⟨x1, x2, x3, x4⟩ | ⟨x1, x2, x3, x4⟩
      · exact ⟨_, arr', cap', 1, v, _, _, 1, k2, ev, ⟨by omega, by omega⟩, k3, k4, ⟨by omega, by omega⟩, k8, by omega, by omega⟩
      · omega
end
