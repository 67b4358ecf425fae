/-! PURE 69: the component's parser of expressions: terms, sums, tests, parts -/
set_option maxRecDepth 100000
section
variable {N w c d D m : Nat} {u : zTau} {dr : Value} {n : Int32} {sub : jM (Option Nat ⊕ Nat)} {subp : Nat → zPR}
theorem zTermO (hu : zUg u c) (hN : 3000 ≤ N) (hm : c < m) (hm2 : m ≤ N) (hsub : ∀ i H, zRdS w u c dr n i d H → zOc N w u c dr n i d D H (subp i) (sub.1 H)) (i : Nat) (H : jH) (hR : zRdS w u c dr n i d H) : zOc N w u c dr n i d (D + 1) H (zTerm u m subp i) ((gX2_term N sub (w + 1)).1 H) := by
  refine zSeqO (L := fX2_term_7 N sub (w + 1)) (op := zoT u) hu hN hsub (fun f i x1 x2 H hR => ?_) hm hm2 i H hR
  rw [fX2_term_7, show (42 : Int32) = nI 42 from rfl]
  rcases zrs_hs (α := Option Nat ⊕ Nat) hu hR (x := 42) (by decide) with ⟨z, k⟩ | ⟨z, H1, k1, k2, k3, k4, k5⟩
  · refine Or.inl ⟨by unfold zoT; rw [if_neg (by rw [z]; exact zff)], ?_⟩
    rw [k, zI, if_pos z00p]
    unfold fX2_term_46 fX2_term_55
    cases x2 <;> rfl
  · refine Or.inr ⟨_, 21, H1, by unfold zoT; rw [if_pos z], rfl, ⟨by decide, by decide⟩, k2, k3, k4, k5, ?_⟩
    rw [k1, zI, if_neg z10n, zin20]
    rfl
theorem zSumO (hu : zUg u c) (hN : 3000 ≤ N) (hm : c < m) (hm2 : m ≤ N) (hsub : ∀ i H, zRdS w u c dr n i d H → zOc N w u c dr n i d D H (subp i) (sub.1 H)) (i : Nat) (H : jH) (hR : zRdS w u c dr n i d H) : zOc N w u c dr n i d (D + 2) H (zSum u m subp i) ((gX2_sum N sub (w + 1)).1 H) := by
  refine zSeqO (L := fX2_sum_7 N sub (w + 1)) (op := zoS u) hu hN (zTermO hu hN hm hm2 hsub) (fun f i x1 x2 H hR => ?_) hm hm2 i H hR
  rw [fX2_sum_7, show (43 : Int32) = nI 43 from rfl, zrs_isS hu hR (by decide), zI, show (45 : Int32) = nI 45 from rfl]
  cases z : ziss u i 43 with
  | true =>
    have hi := zne_lt hu hR.2.2.2.2.1 (ziss_n0 z)
    obtain ⟨a1, a2, a3⟩ := zrs_to (α := Option Nat ⊕ Nat) hR (i + 1) hi
    refine Or.inr ⟨_, 22, _, by unfold zoS; rw [if_pos z], rfl, ⟨by decide, by decide⟩, a1, a3, rfl, zrs_le hR _ _ _ _, ?_⟩
    rw [if_neg zb1n]
    unfold fX2_sum_25
    rw [show (43 : Int32) = nI 43 from rfl, zrs_isS hu hR (by decide), z, zrs_11 hR, zc1_da, a2]
    refine congrArg (fun K => (jBT (gX2_term N sub (w + 1)) K).1 _) (funext fun y3 => ?_)
    unfold zRst1
    refine congrArg (jB _) (funext fun y4 => congrArg (jB _) (funext fun y5 => ?_))
    rw [if_neg zb1n, zin21]
    rfl
  | false =>
    rw [if_pos zb_f, zrs_isS hu hR (by decide), zI]
    cases z2 : ziss u i 45 with
    | true =>
      have hi := zne_lt hu hR.2.2.2.2.1 (ziss_n0 z2)
      obtain ⟨a1, a2, a3⟩ := zrs_to (α := Option Nat ⊕ Nat) hR (i + 1) hi
      refine Or.inr ⟨_, 23, _, by unfold zoS; rw [if_neg (by rw [z]; exact zff), if_pos z2], rfl, ⟨by decide, by decide⟩, a1, a3, rfl, zrs_le hR _ _ _ _, ?_⟩
      rw [if_neg zb1n]
      unfold fX2_sum_25
      rw [show (43 : Int32) = nI 43 from rfl, zrs_isS hu hR (by decide), z, zrs_11 hR, zc1_da, a2]
      refine congrArg (fun K => (jBT (gX2_term N sub (w + 1)) K).1 _) (funext fun y3 => ?_)
      unfold zRst1
      refine congrArg (jB _) (funext fun y4 => congrArg (jB _) (funext fun y5 => ?_))
      rw [if_pos zb_f, zin22]
      rfl
    | false =>
      refine Or.inl ⟨by unfold zoS; rw [if_neg (by rw [z]; exact zff), if_neg (by rw [z2]; exact zff)], ?_⟩
      rw [if_pos zb_f]
      unfold fX2_sum_90 fX2_sum_99
      cases x2 <;> rfl
theorem zTestO (hu : zUg u c) (hN : 3000 ≤ N) (hm : c < m) (hm2 : m ≤ N) (hsub : ∀ i H, zRdS w u c dr n i d H → zOc N w u c dr n i d D H (subp i) (sub.1 H)) (i : Nat) (H : jH) (hR : zRdS w u c dr n i d H) : zOc N w u c dr n i d (D + 3) H (zTest u m subp i) ((gX2_test N sub (w + 1)).1 H) := by
  have hS := zSumO hu hN hm hm2 hsub
  have hw := hR.2.2.2.2.2.2
  have hb := hR.2.2.2.2.2.1
  have hc1 := hu.1
  unfold zTest zTes gX2_test
  rcases hS i H hR with ⟨e, k1, k2, k3, k4⟩ | ⟨x, H2, q, k1, k2, k3, k4, k5, k6, k7, k8, k9⟩
  · rw [k1]
    exact Or.inl ⟨e, rfl, k2, k3, k4.bt _⟩
  · rw [k1, zBTl k2, show (60 : Int32) = nI 60 from rfl, zrs_isS hu k4 (by decide), zI, show (61 : Int32) = nI 61 from rfl]
    dsimp only
    have hx1 := k4.2.2.2.2.1
    have key : ∀ (g : zOp2) (cls : Nat) (b : Bool), zoC u x.1 = some g → zOpf cls = g.2 → (21 ≤ cls ∧ cls ≤ 27) → ziss u x.1 60 = b → u.1 x.1 ≠ 0 → (∀ (q4 : Nat) (y3 : Option Nat) (y6 : Option Nat), (if zb b = 0 then (jB (jnw 25 1 [.null]) fun q7 => jB (fX24_init q7 y3) fun _ => fX2_test_85 N sub (w + 1) (some q4) y6 (some q7)) else (jB (jnw 24 1 [.null]) fun q9 => jB (fX23_init q9 y3) fun _ => fX2_test_85 N sub (w + 1) (some q4) y6 (some q9))) = (jB (jnw cls 1 [.null]) fun q5 => jB (fX19_init q5 y3) fun _ => jB (jrc 4 y6) fun b8 => jB (fJ2_add b8 (some q5)) fun _ => jR (.inl (some q4)))) →
        zOc N w u c dr n i d (D + 3) H (match (some g : Option zOp2) with
          | none => .inr x
          | some g => match zSum u m subp (x.1 + 1) with
            | .inl e => .inl e
            | .inr y => .inr (y.1, zv2 g.2 x.2.1 y.2.1, x.2.2 ++ g.1 :: y.2.2)) ((fX2_test_25 N sub (w + 1) (some q)).1 H2) := by
      intro g cls b z1 z2 ⟨h21, h27⟩ z3 z4 z5
      dsimp only
      have hi := zne_lt hu hx1 z4
      obtain ⟨a1, a2, a3⟩ := zrs_to (α := Option Nat ⊕ Nat) k4 (x.1 + 1) hi
      have l1 := zrs_le k4 dr n (nI (x.1 + 1)) (nI d)
      unfold fX2_test_25
      rw [show (60 : Int32) = nI 60 from rfl, zrs_isS hu k4 (by decide), z3, zrs_11 k4, zc1_da, a2]
      obtain ⟨H3, hH3⟩ : ∃ H3, H3 = jset H2 (w + 1) (zRc w dr n (nI (x.1 + 1)) (nI d)) := ⟨_, rfl⟩
      rw [← hH3] at a1 a3 l1 ⊢
      have s3 : H3.2 = H2.2 := by rw [hH3]; rfl
      have s31 : H3.2.1 = H2.2.1 := by rw [s3]
      have s32 : H3.2.2.2.1 = H2.2.2.2.1 := by rw [s3]
      have f3 := k5.tr a3 (fun q _ hq => hq)
      rcases hS (x.1 + 1) H3 a1 with ⟨e, j1, j2, j3, j4⟩ | ⟨y, H4, q4, j1, j2, j3, j4, j5, j6, j7, j8, j9⟩
      · rw [j1]
        exact Or.inl ⟨e, rfl, by omega, j3, (j4.bt _).pre f3 (by omega) (by omega)⟩
      · rw [j1, zBTl j2]
        have hy1 := j4.2.2.2.2.1
        have hk9 := k9.1
        have hj9 := j9.1
        have f4 := f3.tr j5 (fun q _ hq => hq)
        have l4 := jLe.tr k9 (jLe.tr l1 j9)
        have kb : H4.2.2.2.2 = H.2.2.2.2 := f4.2.2.2.2
        have hq : zCq N H4 H3.2.1 H.2.1 (D + 2) q H.2.2.2.1 (y.1 - i - 1) none x.2.1 := ⟨k6.mo (fun q hq => ⟨⟨hq.1, by have := j9.1; omega⟩, (j5.1 q (by omega) (by omega)).trans (a3.1 q hq.2 (by omega))⟩) (Nat.le_refl _), by omega, by omega⟩
        obtain ⟨H5, cq, g1, g2, g3, g4⟩ := hq.stp (cls := cls) (by rw [kb]; omega) l4.1 (by omega) (a := H3.2.1) (by omega) (Nat.le_refl _) j6 h21 h27
        have f5 : zFm (fun q => q = w + 1) H H5 := f4.tr g3 (fun q hq hh => by omega)
        have r5 := j4.hi hw g3
        obtain ⟨p, arr, cap, k, v0, cl, ww, t, hc, b2, b3, b4, b5, b6, b9, b7, b8⟩ := g2
        have hx := zXe_c (P' := fun y => H.2.1 ≤ y ∧ y < H5.2.1) (by omega) hc (fun q hq => ⟨hq.1, hq.2.1⟩) ⟨b4.1, b4.2.1⟩ ⟨b5.1, by omega⟩ ⟨b5.2.1, by omega⟩
        rw [← b2] at hx
        refine Or.inr ⟨(y.1, zv2 g.2 x.2.1 y.2.1, x.2.2 ++ g.1 :: y.2.2), H5, cq, rfl, ?_, by show i < y.1; omega, r5, f5, by show zXe N H5 _ _ cq (zv2 g.2 x.2.1 y.2.1); rw [← z2]; exact hx, by show H5.2.1 ≤ H.2.1 + 20 * (y.1 - i); omega, by show H5.2.2.2.1 ≤ H.2.2.2.1 + 200 * (y.1 - i); omega, jLe.tr l4 g4⟩
        have := g1 (α := Option Nat ⊕ Nat) (fun y3 => jR (.inl y3))
        refine Eq.trans ?_ this
        unfold fX2_chain fX2_chain_16
        rw [zIB, if_pos rfl, zA]
        refine congrArg (fun K => (jB (jnw 20 2 [.null, .null]) K).1 H4) (funext fun q1 => ?_)
        refine Subtype.ext (funext fun h => ?_)
        rw [zA]
        refine congrArg (fun K => (jB (fX18_init q1 (some q)) K).1 h) (funext fun _ => ?_)
        refine Subtype.ext (funext fun h => ?_)
        rw [zR]
        refine congrArg (fun K => (jB (jgR [20] 1 (some q1)) K).1 h) (funext fun y6 => ?_)
        exact z5 q1 (some q4) y6
    cases z : ziss u x.1 60 with
    | true =>
      have z1 : zoC u x.1 = some (24, fun x y => if x < y then 1 else 0) := by unfold zoC; rw [if_pos z]
      rw [if_neg zb1n, z1]
      refine key _ 24 true z1 rfl ⟨by decide, by decide⟩ z (ziss_n0 z) (fun q4 y3 y6 => ?_)
      rw [if_neg zb1n, zin23]
      rfl
    | false =>
      rw [if_pos zb_f, zrs_isS hu k4 (by decide), zI]
      cases z2 : ziss u x.1 61 with
      | true =>
        have z1 : zoC u x.1 = some (25, fun x y => if x = y then 1 else 0) := by unfold zoC; rw [if_neg (by rw [z]; exact zff), if_pos z2]
        rw [if_neg zb1n, z1]
        refine key _ 25 false z1 rfl ⟨by decide, by decide⟩ z (ziss_n0 z2) (fun q4 y3 y6 => ?_)
        rw [if_pos zb_f, zin24]
        rfl
      | false =>
        have z1 : zoC u x.1 = none := by unfold zoC; rw [if_neg (by rw [z]; exact zff), if_neg (by rw [z2]; exact zff)]
        rw [if_pos zb_f, z1]
        exact Or.inr ⟨x, H2, q, rfl, rfl, k3, k4, k5, k6.mo (fun q hq => ⟨hq, rfl⟩) (by omega), k7, k8, k9⟩
theorem zAllO (hu : zUg u c) (hN : 3000 ≤ N) (hm : c < m) (hm2 : m ≤ N) (hsub : ∀ i H, zRdS w u c dr n i d H → zOc N w u c dr n i d D H (subp i) (sub.1 H)) (i : Nat) (H : jH) (hR : zRdS w u c dr n i d H) : zOc N w u c dr n i d (D + 4) H (zAll u m subp i) ((gX2_all N sub (w + 1)).1 H) := by
  refine zSeqO (L := fX2_all_7 N sub (w + 1)) (op := zoA u) hu hN (zTestO hu hN hm hm2 hsub) (fun f i x1 x2 H hR => ?_) hm hm2 i H hR
  rw [fX2_all_7, zK, zrs_isW (j := 22) hu hN hR (by decide), zI, show zWd 22 = 1111 from rfl]
  cases z : zisw u i 1111 with
  | true =>
    have hi := zne_lt hu hR.2.2.2.2.1 (zisw_n0 z)
    obtain ⟨a1, a2, a3⟩ := zrs_to (α := Option Nat ⊕ Nat) hR (i + 1) hi
    refine Or.inr ⟨_, 26, _, by unfold zoA; rw [if_pos z], rfl, ⟨by decide, by decide⟩, a1, a3, rfl, zrs_le hR _ _ _ _, ?_⟩
    rw [if_neg zb1n]
    unfold fX2_all_25
    rw [zK, zrs_isW (j := 22) hu hN hR (by decide), show zWd 22 = 1111 from rfl, z, zrs_11 hR, zc1_da, a2]
    refine congrArg (fun K => (jBT (gX2_test N sub (w + 1)) K).1 _) (funext fun y3 => ?_)
    unfold zRst1
    refine congrArg (jB _) (funext fun y4 => congrArg (jB _) (funext fun y5 => ?_))
    rw [if_neg zb1n, zin25]
    rfl
  | false =>
    rw [if_pos zb_f, zK, zrs_isW (j := 23) hu hN hR (by decide), zI, show zWd 23 = 423 from rfl]
    cases z2 : zisw u i 423 with
    | true =>
      have hi := zne_lt hu hR.2.2.2.2.1 (zisw_n0 z2)
      obtain ⟨a1, a2, a3⟩ := zrs_to (α := Option Nat ⊕ Nat) hR (i + 1) hi
      refine Or.inr ⟨_, 27, _, by unfold zoA; rw [if_neg (by rw [z]; exact zff), if_pos z2], rfl, ⟨by decide, by decide⟩, a1, a3, rfl, zrs_le hR _ _ _ _, ?_⟩
      rw [if_neg zb1n]
      unfold fX2_all_25
      rw [zK, zrs_isW (j := 22) hu hN hR (by decide), show zWd 22 = 1111 from rfl, z, zrs_11 hR, zc1_da, a2]
      refine congrArg (fun K => (jBT (gX2_test N sub (w + 1)) K).1 _) (funext fun y3 => ?_)
      unfold zRst1
      refine congrArg (jB _) (funext fun y4 => congrArg (jB _) (funext fun y5 => ?_))
      rw [if_pos zb_f, zin26]
      rfl
    | false =>
      refine Or.inl ⟨by unfold zoA; rw [if_neg (by rw [z]; exact zff), if_neg (by rw [z2]; exact zff)], ?_⟩
      rw [if_pos zb_f]
      unfold fX2_all_90 fX2_all_99
      cases x2 <;> rfl
end
