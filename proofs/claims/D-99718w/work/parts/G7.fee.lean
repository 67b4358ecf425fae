/-! PURE 91: feed: the component -/
set_option maxRecDepth 100000
def zsg (k : Nat) : Int32 := if k < 8 then nI (56 - 8 * k) else -8
theorem zsg_s : ∀ k, k < 8 → zsg k + (-8) = zsg (k + 1) ∧ ¬ zsg k < 0 := by decide +kernel
section
variable {N w : Nat} {B : zLB} {S : zMS} {H : jH} {nm : (Nat → Nat) × (Nat → Nat)} {T : (Nat → Nat) × Nat} {Y : zYy} {E : zEy} {U : zUy} {Mk : Nat → Option (zMS × zYy × zEy)} {dr : Value} {i d : Int32}
def zFrm (w : Nat) (H H' : jH) : Prop := (∀ q, q ≠ w + 1 → q ≠ w + 7 → H'.1 q = H.1 q) ∧ H'.2 = H.2 ∧ jLe H H'
theorem zfe_36 (hT : zRt w T.1 T.2 dr (nI T.2) i d H) (K : Int64 → Int32 → jM Unit) (x : Int64) {k : Nat} (hk : k < 8) {c : Nat} (hc : c = 10 ∨ 32 ≤ c ∧ c ≤ 126) : ∃ H', (fX2_feed_36 N K (w + 1) x (zsg k) (nI c)).1 H = (K x (zsg (k + 1))).1 H' ∧ zRt w (zFd1 T c).1 (zFd1 T c).2 dr (nI (zFd1 T c).2) i d H' ∧ zFrm w H H' := by
  obtain ⟨k1, k2, ⟨tp, k3, k4⟩, ⟨k5, k6⟩, k7, k8⟩ := id hT
  unfold fX2_feed_36 fX2_feed_67
  have k2' : H.1 (w + 1) = some (.inl (1, [.ref (w + 2), .ref (w + 3), .ref (w + 4), .ref (w + 5), .ref (w + 6), dr, .ref (w + 7), .int (nI T.2), .ref (w + 8), .ref (w + 9), .ref (w + 10), .int i, .int d])) := k2
  rw [zgI k2' (by decide) rfl, zI, (zsg_s k hk).1]
  unfold zFd1
  by_cases c0 : 1000 ≤ T.2
  · rw [if_pos (show 1000 ≤ nI T.2 from (nI_le c0 (by omega) : nI 1000 ≤ nI T.2)), if_neg (by omega)]
    exact ⟨H, rfl, hT, fun _ _ _ => rfl, rfl, jLe.rf _⟩
  · rw [if_neg (show ¬ 1000 ≤ nI T.2 from (nI_ge (by omega) (by omega) : ¬ nI 1000 ≤ nI T.2)), if_pos ⟨hc, by omega⟩]
    obtain ⟨H1, hH1⟩ : ∃ H1, H1 = jset H (w + 7) (.inr (0, 1000, .inl (upd tp T.2 (nI c)))) := ⟨_, rfl⟩
    have q1 := (show H1.1 (w + 1) = H.1 (w + 1) by rw [hH1]; exact zse_n _ _ (by omega)).trans k2'
    obtain ⟨H2, hH2⟩ : ∃ H2, H2 = jset H1 (w + 1) (zRc w dr (nI (T.2 + 1)) i d) := ⟨_, rfl⟩
    have o2 : ∀ q, q ≠ w + 1 → q ≠ w + 7 → H2.1 q = H.1 q := fun q h1 h7 => by rw [hH2, zse_n _ _ h1, hH1, zse_n _ _ h7]
    have s2 : H2.2 = H.2 := by rw [hH2, hH1]; rfl
    have l2 : jLe H H2 := by rw [hH2, hH1]; exact jLe.tr (jsetA_le k3) (jsetO_le (by rw [← hH1]; exact q1))
    refine ⟨H2, ?_, ⟨k1.fr (fun q hq => o2 q (by omega) (by omega)) (by rw [s2]), by rw [hH2]; exact zse_e _ _ _, ⟨upd tp T.2 (nI c), ?_, fun q hq => ?_⟩, ⟨by show T.2 + 1 ≤ 1000; omega, fun q hq => ?_⟩, by rw [s2]; exact k7, by rw [s2]; exact k8⟩, o2, s2, l2⟩
    · rw [zgRs k2' (by decide) rfl, zgI k2' (by decide) rfl, zsI k3 (by omega) (by omega) (by decide), ← hH1, zgI q1 (by decide) rfl, zc1_da]
      have pp : ∀ K : Unit → jM Unit, (jB (jpI [1] 7 (some (w + 1)) (nI (T.2 + 1))) K).1 H1 = (K ()).1 H2 := fun K => by
        rw [hH2]
        exact zpV q1 (by decide) (by rw [hH1]; show H.2.2.2.2 0 ≤ _; omega) (by show 7 < 13; decide) K
      rw [pp]
    · rw [hH2, zse_n _ _ (by omega), hH1]; exact zse_e _ _ _
    · have hq : q < T.2 + 1 := hq
      show upd tp T.2 (nI c) q = nI (zup T.1 T.2 c q)
      by_cases e : q = T.2
      · rw [e, zup_e, zu_eq]
      · rw [zup_n _ _ e, zu_ne _ _ e]; exact k4 q (by omega)
    · have hq : q < T.2 + 1 := hq
      show zup T.1 T.2 c q < 128
      by_cases e : q = T.2
      · rw [e, zup_e]; omega
      · rw [zup_n _ _ e]; exact k6 q (by omega)
theorem zFrm.tr {H H1 H2 : jH} (h1 : zFrm w H H1) (h2 : zFrm w H1 H2) : zFrm w H H2 := ⟨fun q a b => (h2.1 q a b).trans (h1.1 q a b), h2.2.1.trans h1.2.1, jLe.tr h1.2.2 h2.2.2⟩
theorem zfe_lp (x : Int64) : ∀ (j k m : Nat) (T : (Nat → Nat) × Nat) (H : jH), k + j = 8 → j < m → zRt w T.1 T.2 dr (nI T.2) i d H → ∃ H', (fX2_feed_3 N (w + 1) m x (zsg k)).1 H = some ((), H') ∧ zRt w (zFdw x j k T).1 (zFdw x j k T).2 dr (nI (zFdw x j k T).2) i d H' ∧ zFrm w H H'
  | 0, k, m + 1, T, H, hk, hm, hT => by
    refine ⟨H, ?_, hT, fun _ _ _ => rfl, rfl, jLe.rf _⟩
    rw [fX2_feed_3, zI, show k = 8 by omega, if_pos (show zsg 8 < 0 by decide)]
    rfl
  | j + 1, k, m + 1, T, H, hk, hm, hT => by
    obtain ⟨z1, z2⟩ := zby_n x (nI (56 - 8 * k))
    have ek : zsg k = nI (56 - 8 * k) := if_pos (by omega)
    have z1' : ((((x.toUInt64 >>> ((zsg k).toInt64.toUInt64 &&& Int64.toUInt64 63)).toInt64) &&& 255).toInt32) = nI (zbc x (nI (56 - 8 * k))) := by
      rw [ek]; exact z1
    rw [fX2_feed_3, zI, if_neg (zsg_s k (by omega)).2, z1', zFdw]
    generalize zbc x (nI (56 - 8 * k)) = c at z2
    have stp : ∀ H1, zRt w (zFd1 T c).1 (zFd1 T c).2 dr (nI (zFd1 T c).2) i d H1 → zFrm w H H1 → ∃ H', (fX2_feed_3 N (w + 1) m x (zsg (k + 1))).1 H1 = some ((), H') ∧ zRt w (zFdw x j (k + 1) (zFd1 T c)).1 (zFdw x j (k + 1) (zFd1 T c)).2 dr (nI (zFdw x j (k + 1) (zFd1 T c)).2) i d H' ∧ zFrm w H H' := fun H1 h1 h2 => by
      obtain ⟨H', e1, e2, e3⟩ := zfe_lp x j (k + 1) m (zFd1 T c) H1 (by omega) (by omega) h1
      exact ⟨H', e1, e2, h2.tr e3⟩
    have big : (c = 10 ∨ 32 ≤ c ∧ c ≤ 126) → ∃ H', (fX2_feed_36 N (fX2_feed_3 N (w + 1) m) (w + 1) x (zsg k) (nI c)).1 H = some ((), H') ∧ zRt w (zFdw x j (k + 1) (zFd1 T c)).1 (zFdw x j (k + 1) (zFd1 T c)).2 dr (nI (zFdw x j (k + 1) (zFd1 T c)).2) i d H' ∧ zFrm w H H' := fun hc => by
      obtain ⟨H1, e1, e2, e3⟩ := zfe_36 (N := N) hT (fX2_feed_3 N (w + 1) m) x (show k < 8 by omega) hc
      rw [e1]
      exact stp H1 e2 e3
    rw [zI]
    by_cases c1 : c = 10
    · rw [if_pos (show nI c = 10 by rw [c1]; rfl)]
      exact big (Or.inl c1)
    · rw [if_neg (show ¬ nI c = 10 from fun q => c1 ((nI_eq (b := 10) (by omega) (by decide)).mp q)), jB_eq (zw_in _), zI]
      by_cases c2 : 32 ≤ c ∧ c ≤ 126
      · rw [decide_eq_false (show ¬ nI c < 32 from fun q => by have := (nI_ltI (b := 32) (by omega) (by decide)).mp q; omega), decide_eq_false (show ¬ 126 < nI c from fun q => by have := (nI_ltI (a := 126) (by decide) (by omega)).mp q; omega), if_neg (show ¬ zb (!false && !false) = 0 by decide)]
        exact big (Or.inr c2)
      · have e : zb (!decide (nI c < 32) && !decide (126 < nI c)) = 0 := by
          by_cases c3 : c < 32
          · rw [decide_eq_true (show nI c < 32 from (nI_ltI (b := 32) (by omega) (by decide)).mpr c3)]; rfl
          · rw [decide_eq_true (show 126 < nI c from (nI_ltI (a := 126) (by decide) (by omega)).mpr (by omega)), Bool.not_true, Bool.and_false]; rfl
        have eF : zFd1 T c = T := by unfold zFd1; rw [if_neg (fun q => by rcases q.1 with a | a <;> omega)]
        rw [if_pos e]
        unfold fX2_feed_67
        rw [(zsg_s k (by omega)).1]
        exact stp H (by rw [eF]; exact hT) ⟨fun _ _ _ => rfl, rfl, jLe.rf _⟩
theorem zfe_one (hN : 3000 ≤ N) (hT : zRt w T.1 T.2 dr (nI T.2) i d H) (x : Int64) : ∃ H', (fX2_feed N (w + 1) x).1 H = some ((), H') ∧ zRt w (zFdw x 8 0 T).1 (zFdw x 8 0 T).2 dr (nI (zFdw x 8 0 T).2) i d H' ∧ zFrm w H H' := zfe_lp x 8 0 N T H rfl (by omega) hT
theorem zCG_feed (hG : zCG N w ((B, S), nm, T, Y, E, U, Mk) H) (x y z : Int64) : zCal N w ((B, S), nm, zFed x y z T, Y, E, U, Mk) (fX1_feed N w x y z) (nI (zFed x y z T).2) 0 0 H := by
  obtain ⟨k, X, f, R, Z, τ, h1, h2, hY, h3, h4, h5, h6, h7⟩ := id hG
  obtain ⟨a1, a2, a3, a4, aH, aS, a7, a8, a9⟩ := id h1
  have hw := h1.wc
  have h7 : zG7 w T H := h7
  obtain ⟨⟨dr, i, d, hT⟩, hRa, so, pl, va, s1, s2, s3⟩ := id h7
  obtain ⟨H1, e1, t1, F1⟩ := zfe_one a1 hT x
  obtain ⟨H2, e2, t2, F2⟩ := zfe_one a1 t1 y
  obtain ⟨H3, e3, t3, F3⟩ := zfe_one a1 t2 z
  have hF := F1.tr (F2.tr F3)
  obtain ⟨old, s3', l3⟩ := hF
  have F12 := F1.tr F2
  have run : (fX1_feed N w x y z).1 H = some (nI (zFed x y z T).2, H3) := by
    unfold fX1_feed
    have hw1 := (F1.1 w (by omega) (by omega)).trans hw
    have hw2 := (F12.1 w (by omega) (by omega)).trans hw
    have hw3 := (old w (by omega) (by omega)).trans hw
    have cd : ∀ {H : jH} {t n dr nn i d}, zRt w t n dr nn i d H → jcd H (w + 1) = some 1 := fun h => by unfold jcd; rw [h.2.1]; rfl
    rw [zgRs hw (by decide) rfl, zrc (c := 1) (cd hT), jB_eq e1, zgRs hw1 (by decide) rfl, zrc (c := 1) (cd t1), jB_eq e2, zgRs hw2 (by decide) rfl, zrc (c := 1) (cd t2), jB_eq e3, zgRs hw3 (by decide) rfl, zgI t3.2.1 (by decide) rfl]
    rfl
  have t1' := a7 1 (by decide) (Or.inl (by decide))
  have t7' := a7 7 (by decide) (Or.inl (by decide))
  have oT : ∀ {q t : Nat}, zOw w τ H q t → t ≠ 6 → H3.1 q = H.1 q := fun {q t} h e => old q (fun c => by rw [c] at h; exact e (h.1.symm.trans t1')) (fun c => by rw [c] at h; exact e (h.1.symm.trans t7'))
  have hc : ∀ q, q < H.2.2.2.2 0 → H3.1 q = H.1 q := fun q hq => old q (by omega) (by omega)
  refine ⟨H3, run, ⟨k, X, f, R, Z, τ, h1.fr (fun q hq => ?_) (fun _ _ _ => rfl) l3, h2, hY, h3.fr (fun q hq => ?_) (fun _ _ _ => rfl) l3, h4.fr (fun q hq => oT hq (by decide)) (fun _ _ _ => rfl) l3 (fun _ _ h => h), h5.fr hc hT.1.2.1.1 (old _ (by omega) (by omega)) (fun q hq => by rcases hq with hq | hq <;> exact oT hq (by decide)) (fun _ _ => rfl) l3, h6.fr (old _ (by omega) (by omega)) (fun _ _ h => h), ⟨dr, i, d, t3⟩, ?_, so, pl, va, (old _ (by omega) (by omega)).trans s1, (old _ (by omega) (by omega)).trans s2, (old _ (by omega) (by omega)).trans s3⟩, ⟨fun q hq hW => old q (fun c => hW ⟨by omega, by omega⟩) (fun c => hW ⟨by omega, by omega⟩), by rw [s3']; exact Nat.le_refl _, by rw [s3'], by rw [s3']; exact Nat.le_refl _, by rw [s3']⟩, by rw [s3']; omega, by rw [s3']; omega⟩
  · obtain ⟨y1, y2, y3⟩ := h1.tg hq
    refine old q (fun c => ?_) (fun c => ?_)
    · rw [c, t1'] at y3; omega
    · rw [c, t7'] at y3; omega
  · rcases hq with hq | hq
    · exact hc q hq
    · exact oT hq (by decide)
  · have hK : H3.2.2.2.2 = H.2.2.2.2 := by rw [s3']
    unfold zRa at hRa ⊢
    rw [hK, old (w + 2) (by omega) (by omega), old (w + 3) (by omega) (by omega), old (w + 4) (by omega) (by omega), old (w + 5) (by omega) (by omega), old (w + 6) (by omega) (by omega)]
    exact hRa
end
