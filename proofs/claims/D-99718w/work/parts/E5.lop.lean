/-! PURE 68: the component's parser of expressions: sequences -/
set_option maxRecDepth 100000
theorem zin20 : fX20_init = fX19_init := funext fun a => funext fun x => zBu _
theorem zin21 : fX21_init = fX19_init := funext fun a => funext fun x => zBu _
theorem zin22 : fX22_init = fX19_init := funext fun a => funext fun x => zBu _
theorem zin23 : fX23_init = fX19_init := funext fun a => funext fun x => zBu _
theorem zin24 : fX24_init = fX19_init := funext fun a => funext fun x => zBu _
theorem zin25 : fX25_init = fX19_init := funext fun a => funext fun x => zBu _
theorem zin26 : fX26_init = fX19_init := funext fun a => funext fun x => zBu _
/-- what a parser came to: what is wrong, or an expression -/
def zOc (N w : Nat) (u : zTau) (c : Nat) (dr : Value) (n : Int32) (i d D : Nat) (H : jH) (p : zPR) (r : Option ((Option Nat ⊕ Nat) × jH)) : Prop :=
  (∃ e, p = .inl e ∧ i ≤ e.2 ∧ e.2 ≤ c ∧ zBd w u n e H (20 * (e.2 + 1 - i)) (200 * (e.2 + 1 - i)) r) ∨
  ∃ x H' q, p = .inr x ∧ r = some (.inl (some q), H') ∧ i < x.1 ∧ zRdS w u c dr n x.1 d H' ∧ zFm (fun y => y = w + 1) H H' ∧ zXe N H' (fun y => H.2.1 ≤ y ∧ y < H'.2.1) D q x.2.1 ∧ H'.2.1 ≤ H.2.1 + 20 * (x.1 - i) ∧ H'.2.2.2.1 ≤ H.2.2.2.1 + 200 * (x.1 - i) ∧ jLe H H'
/-- the rest of a round: the chain goes on -/
def zRst1 (L : Option Nat → Option Nat → jM (Option Nat ⊕ Nat)) (cls : Nat) (x1 x2 y : Option Nat) : jM (Option Nat ⊕ Nat) := jB (fX2_chain x1 x2) fun y3 => jB (jgR [20] 1 y3) fun y4 => jB (jnw cls 1 [.null]) fun q5 => jB (fX19_init q5 y) fun _ => jB (jrc 4 y4) fun b8 => jB (fJ2_add b8 (some q5)) fun _ => L x1 y3
section
variable {N w c d D : Nat} {u : zTau} {dr : Value} {n : Int32}
theorem zLoop (hu : zUg u c) (hN : 3000 ≤ N) {sub : jM (Option Nat ⊕ Nat)} {subp : Nat → zPR} {op : Nat → Option zOp2} {L : Nat → Option Nat → Option Nat → jM (Option Nat ⊕ Nat)}
    (hsub : ∀ i H, zRdS w u c dr n i d H → zOc N w u c dr n i d D H (subp i) (sub.1 H))
    (hL : ∀ f i x1 x2 H, zRdS w u c dr n i d H → (op i = none ∧ (L (f + 1) x1 x2).1 H = some (.inl (if x2 = none then x1 else x2), H)) ∨ ∃ g cls H1, op i = some g ∧ zOpf cls = g.2 ∧ (21 ≤ cls ∧ cls ≤ 27) ∧ zRdS w u c dr n (i + 1) d H1 ∧ zFm (fun q => q = w + 1) H H1 ∧ H1.2 = H.2 ∧ jLe H H1 ∧ (L (f + 1) x1 x2).1 H = (jBT sub fun y => zRst1 (L f) cls x1 x2 y).1 H1)
    {H0 : jH} {i0 q0 : Nat} (hw : w + 11 ≤ H0.2.1) (hb : H0.2.2.2.2 0 ≤ w) : ∀ (m f i : Nat) (v : zVV) (cs : List Nat) (ch : Option Nat) (H : jH) (bd : Nat), c < m + i → m ≤ f → i0 < i → zRdS w u c dr n i d H → zFm (fun q => q = w + 1) H0 H → jLe H0 H → bd ≤ H.2.1 → zCq N H bd H0.2.1 D q0 H0.2.2.2.1 (i - i0) ch v →
    zOc N w u c dr n i0 d (D + 1) H0 (zChn subp op m i v cs) ((L f (some q0) ch).1 H)
  | 0, f, i, v, cs, ch, H, bd, hm, hf, hi, hR, hF, hl, hbd, hq => by
    have := hR.2.2.2.2.1
    omega
  | m + 1, 0, i, v, cs, ch, H, bd, hm, hf, hi, hR, hF, hl, hbd, hq => by omega
  | m + 1, f + 1, i, v, cs, ch, H, bd, hm, hf, hi, hR, hF, hl, hbd, hq => by
    have hic := hR.2.2.2.2.1
    have hc1 := hu.1
    have hle := hl.1
    rw [zChn]
    rcases hL f i (some q0) ch H hR with ⟨e1, e2⟩ | ⟨g, cls, H1, e1, e2, ⟨h21, h27⟩, e3, e4, e5, e6, e7⟩
    · rw [e1, e2]
      cases ch with
      | none =>
        obtain ⟨a1, a2, a3⟩ := hq
        exact Or.inr ⟨(i, v, cs), H, q0, rfl, rfl, hi, hR, hF, a1.mo (fun q hq => ⟨hq, rfl⟩) (Nat.le_succ _), a2, a3, hl⟩
      | some cq =>
        obtain ⟨p, arr, cap, k, v0, cl, ww, t, hc, a2, a3, a4, a5, a6, a9, a7, a8⟩ := hq
        have hx := zXe_c (P' := fun y => H0.2.1 ≤ y ∧ y < H.2.1) (by omega) hc (fun q hq => ⟨hq.1, hq.2.1⟩) ⟨a4.1, a4.2.1⟩ ⟨a5.1, by omega⟩ ⟨a5.2.1, by omega⟩
        rw [← a2] at hx
        exact Or.inr ⟨(i, v, cs), H, cq, rfl, rfl, hi, hR, hF, hx, by show H.2.1 ≤ H0.2.1 + 20 * (i - i0); omega, by show H.2.2.2.1 ≤ H0.2.2.2.1 + 200 * (i - i0); omega, hl⟩
    · rw [e1, e7]
      have s1 : H1.2.1 = H.2.1 := by rw [e5]
      have s2 : H1.2.2.2.1 = H.2.2.2.1 := by rw [e5]
      have hq1 := hq.up (d := 0) e4 e6 (by omega) (by omega) (by omega)
      have f1 := hF.tr e4 (fun q _ hq => hq)
      have cost : H.2.1 ≤ H0.2.1 + 20 * (i - i0) ∧ H.2.2.2.1 ≤ H0.2.2.2.1 + 200 * (i - i0) := by
        cases ch with
        | none => exact ⟨hq.2.1, hq.2.2⟩
        | some cq =>
          obtain ⟨p, arr, cap, k, v0, cl, ww, t, hc, a2, a3, a4, a5, a6, a9, a7, a8⟩ := hq
          omega
      rcases hsub (i + 1) H1 e3 with ⟨e, k1, k2, k3, k4⟩ | ⟨x, H2, q, k1, k2, k3, k4, k5, k6, k7, k8, k9⟩
      · rw [k1]
        exact Or.inl ⟨e, rfl, by omega, k3, (k4.bt _).pre f1 (by omega) (by omega)⟩
      · rw [k1, zBTl k2]
        dsimp only
        have hq2 := hq1.up k5 k9 (by omega) (d := x.1 - (i + 1)) k7 k8
        have hx1 := k4.2.2.2.2.1
        have kb : H2.2.2.2.2 = H0.2.2.2.2 := k5.2.2.2.2.trans f1.2.2.2.2
        have f2 := f1.tr k5 (fun q _ hq => hq)
        have l2 := jLe.tr hl (jLe.tr e6 k9)
        obtain ⟨H3, cq, g1, g2, g3, g4⟩ := hq2.stp (cls := cls) (by rw [kb]; omega) l2.1 (by omega) (a := H1.2.1) (by omega) (by omega) k6 h21 h27
        have f3 : zFm (fun q => q = w + 1) H0 H3 := f2.tr g3 (fun q hq hh => by omega)
        have r3 := k4.hi hw g3
        unfold zRst1
        rw [g1 (fun y3 => L f (some q0) y3), show zv2 g.2 v x.2.1 = zv2 (zOpf cls) v x.2.1 by rw [e2]]
        refine zLoop hu hN hsub hL hw hb m f x.1 _ _ (some cq) H3 H3.2.1 (by omega) (by omega) (by omega) r3 f3 (jLe.tr l2 g4) (Nat.le_refl _) ?_
        rw [show x.1 - i0 = i - i0 + 0 + (x.1 - (i + 1)) + 1 by omega]
        exact g2
theorem zSeqO (hu : zUg u c) (hN : 3000 ≤ N) {sub : jM (Option Nat ⊕ Nat)} {subp : Nat → zPR} {op : Nat → Option zOp2} {L : Nat → Option Nat → Option Nat → jM (Option Nat ⊕ Nat)}
    (hsub : ∀ i H, zRdS w u c dr n i d H → zOc N w u c dr n i d D H (subp i) (sub.1 H))
    (hL : ∀ f i x1 x2 H, zRdS w u c dr n i d H → (op i = none ∧ (L (f + 1) x1 x2).1 H = some (.inl (if x2 = none then x1 else x2), H)) ∨ ∃ g cls H1, op i = some g ∧ zOpf cls = g.2 ∧ (21 ≤ cls ∧ cls ≤ 27) ∧ zRdS w u c dr n (i + 1) d H1 ∧ zFm (fun q => q = w + 1) H H1 ∧ H1.2 = H.2 ∧ jLe H H1 ∧ (L (f + 1) x1 x2).1 H = (jBT sub fun y => zRst1 (L f) cls x1 x2 y).1 H1)
    {m : Nat} (hm : c < m) (hm2 : m ≤ N) (i : Nat) (H : jH) (hR : zRdS w u c dr n i d H) : zOc N w u c dr n i d (D + 1) H (zSeq subp op m i) ((jBT sub fun y1 => L N y1 none).1 H) := by
  unfold zSeq
  rcases hsub i H hR with ⟨e, k1, k2, k3, k4⟩ | ⟨x, H2, q, k1, k2, k3, k4, k5, k6, k7, k8, k9⟩
  · rw [k1]
    exact Or.inl ⟨e, rfl, k2, k3, k4.bt _⟩
  · rw [k1, zBTl k2]
    exact zLoop hu hN hsub hL hR.2.2.2.2.2.2 hR.2.2.2.2.2.1 m N x.1 _ _ none H2 H2.2.1 (by omega) hm2 k3 k4 k5 k9 (Nat.le_refl _) ⟨k6, k7, k8⟩
end
