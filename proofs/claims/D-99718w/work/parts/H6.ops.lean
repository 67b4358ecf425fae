/-! PURE A0: each call of both -/
set_option maxRecDepth 100000
section
variable {N w b n C0 S0 c : Nat} {s : Nat → Int32} {B : zLB} {S : zMS} {H : jH} {nm : (Nat → Nat) × (Nat → Nat)} {T : (Nat → Nat) × Nat} {Y : zYy} {E : zEy} {U : zUy} {Mk : Nat → Option (zMS × zYy × zEy)}
theorem zFed_le (x y z : Int64) (T : (Nat → Nat) × Nat) : (zFed x y z T).2 ≤ T.2 + 24 := by
  have h1 := zFdw_le x 8 0 T
  have h2 := zFdw_le y 8 0 (zFdw x 8 0 T)
  have h3 := zFdw_le z 8 0 (zFdw y 8 0 (zFdw x 8 0 T))
  unfold zFed
  omega
theorem zO_lib_T (G : zGS) : (zO_lib G).2.2.2.1.2 = 0 := by
  unfold zO_lib
  split <;> rfl
theorem zO_year_T (G : zGS) : (zO_year G).2.2.2.1.2 = 0 := by
  unfold zO_year
  split <;> rfl
theorem zG_mark_T (G : zGS) (b : Bool) (o : Option Nat) : (zG_mark G b o).2.2.1 = G.2.2.1 := by
  unfold zG_mark
  split
  · rfl
  · split
    · split <;> rfl
    · rfl
theorem zBot_feed (hG : zCG N w ((B, S), nm, T, Y, E, U, Mk) H) (hok : zHok c ((B, S), nm, T, Y, E, U, Mk)) (x y z : Int64) : zBot N w c ((B, S), nm, T, Y, E, U, Mk) H (fX1_feed N w x y z) (fX7_feed N (w + 40) x y z) := by
  refine ⟨_, _, _, _, zCG_feed hG x y z, fun h F L A M hb hR => ?_, zHok_feed hok x y z, ?_, ?_⟩
  · obtain ⟨F', A', e1, e2⟩ := zRG_feed (L := L) hb hR x y z
    exact ⟨F', L, A', M, e1, e2⟩
  · show 0 + 40 * (zFed x y z T).2 ≤ 1200 + 40 * T.2
    have := zFed_le x y z T
    omega
  · show 0 + 400 * (zFed x y z T).2 ≤ 12000 + 400 * T.2
    have := zFed_le x y z T
    omega
theorem zBot_library (hG : zCG N w ((B, S), nm, T, Y, E, U, Mk) H) (hok : zHok c ((B, S), nm, T, Y, E, U, Mk)) : zBot N w c ((B, S), nm, T, Y, E, U, Mk) H (fX1_library N w) (fX7_library N (w + 40)) := by
  refine ⟨_, _, _, _, zCG_library hok.1.2.2.2.2.2.1.1 hG, zRal_library hok.1, zHok_lib hok, ?_, ?_⟩
  · rw [zO_lib_T]
    show 120 + 40 * (T.2 + 1) + 40 * 0 ≤ 1200 + 40 * T.2
    omega
  · rw [zO_lib_T]
    show 1100 + 400 * (T.2 + 1) + 400 * 0 ≤ 12000 + 400 * T.2
    omega
theorem zBot_year (hG : zCG N w ((B, S), nm, T, Y, E, U, Mk) H) (hok : zHok c ((B, S), nm, T, Y, E, U, Mk)) : zBot N w c ((B, S), nm, T, Y, E, U, Mk) H (fX1_year N w) (fX7_year N (w + 40)) := by
  refine ⟨_, _, _, _, zCG_year hG, zRal_year hok.1, zHok_year hok, ?_, ?_⟩
  · rw [zO_year_T]
    show 100 + 40 * (T.2 + 1) + 40 * 0 ≤ 1200 + 40 * T.2
    omega
  · rw [zO_year_T]
    show 1000 + 400 * (T.2 + 1) + 400 * 0 ≤ 12000 + 400 * T.2
    omega
theorem zBot_write (hG : zCG N w ((B, S), nm, T, Y, E, U, Mk) H) (hok : zHok c ((B, S), nm, T, Y, E, U, Mk)) (x y z : Int32) : zBot N w c ((B, S), nm, T, Y, E, U, Mk) H (fX1_write N w x y z) (fX7_write N (w + 40) x y z) := by
  refine ⟨_, _, _, _, zCG_write hok.1.2.1.1 hok.1.1 hok.1.2.2.2.2.2.1.1 hG x y z, fun h F L A M hb hR => ?_, zHok_write hok x y z, ?_, ?_⟩
  · obtain ⟨F', L', A', e1, e2⟩ := zRG_write (L := L) hb hok.1 hR x y z
    exact ⟨F', L', A', M, e1, e2⟩
  · show 5 + 40 * T.2 ≤ 1200 + 40 * T.2
    omega
  · show 85 + 400 * T.2 ≤ 12000 + 400 * T.2
    omega
theorem zBot_scrape (hG : zCG N w ((B, S), nm, T, Y, E, U, Mk) H) (hok : zHok c ((B, S), nm, T, Y, E, U, Mk)) (x : Int32) : zBot N w c ((B, S), nm, T, Y, E, U, Mk) H (fX1_scrape N w x) (fX7_scrape N (w + 40) x) := by
  refine ⟨_, _, _, _, zCG_scrape hok.1.2.1.1 hok.1.1 hok.1.2.2.2.2.2.1.1 hG x, fun h F L A M hb hR => ?_, zHok_scr hok 63 x, ?_, ?_⟩
  · obtain ⟨F', L', A', e1, e2⟩ := zRG_scrape (L := L) hb hok.1 hR x
    exact ⟨F', L', A', M, e1, e2⟩
  · show 5 + 40 * T.2 ≤ 1200 + 40 * T.2
    omega
  · show 85 + 400 * T.2 ≤ 12000 + 400 * T.2
    omega
theorem zBot_third (hG : zCG N w ((B, S), nm, T, Y, E, U, Mk) H) (hok : zHok c ((B, S), nm, T, Y, E, U, Mk)) (x : Int32) : zBot N w c ((B, S), nm, T, Y, E, U, Mk) H (fX1_third N w x) (fX7_third N (w + 40) x) := by
  refine ⟨_, _, _, _, zCG_third hok.1.2.1.1 hok.1.1 hok.1.2.2.2.2.2.1.1 hG x, fun h F L A M hb hR => ?_, zHok_scr hok 9 x, ?_, ?_⟩
  · obtain ⟨F', L', A', e1, e2⟩ := zRG_third (L := L) hb hok.1 hR x
    exact ⟨F', L', A', M, e1, e2⟩
  · show 5 + 40 * T.2 ≤ 1200 + 40 * T.2
    omega
  · show 85 + 400 * T.2 ≤ 12000 + 400 * T.2
    omega
theorem zBot_week (hc : c < 1000) (hG : zCG N w ((B, S), nm, T, Y, E, U, Mk) H) (hok : zHok c ((B, S), nm, T, Y, E, U, Mk)) : zBot N w c ((B, S), nm, T, Y, E, U, Mk) H (fX1_week w) (fX7_week N (w + 40)) := by
  have hwk : zWk S ≤ c := hok.1.2.1.2
  refine ⟨_, _, _, _, zCG_week hok.1.2.1.1 hok.1.2.2.2.2.2.1.1 (show zWk S + 1 < 1000000 by omega) hG, fun h F L A M hb hR => ?_, zHok_week hc hok, ?_, ?_⟩
  · obtain ⟨F', L', A', e1, e2⟩ := zRG_week (L := L) hc hb hok.1 hR
    exact ⟨F', L', A', M, e1, e2⟩
  · show 5 + 40 * T.2 ≤ 1200 + 40 * T.2
    omega
  · show 85 + 400 * T.2 ≤ 12000 + 400 * T.2
    omega
theorem zBot_undo (hG : zCG N w ((B, S), nm, T, Y, E, U, Mk) H) (hok : zHok c ((B, S), nm, T, Y, E, U, Mk)) : zBot N w c ((B, S), nm, T, Y, E, U, Mk) H (fX1_undo w) (fX7_undo N (w + 40)) := by
  refine ⟨_, _, _, _, zCG_undo hG hok.1.2.2.2.2.2.1.1, fun h F L A M hb hR => ?_, zHok_undo hok, ?_, ?_⟩
  · obtain ⟨F', A', e1, e2⟩ := zRG_undo (L := L) hb hok.1 hR
    exact ⟨F', L, A', M, e1, e2⟩
  · show 0 + 40 * T.2 ≤ 1200 + 40 * T.2
    omega
  · show 0 + 400 * T.2 ≤ 12000 + 400 * T.2
    omega
theorem zBot_see (hG : zCG N w ((B, S), nm, T, Y, E, U, Mk) H) (hok : zHok c ((B, S), nm, T, Y, E, U, Mk)) (x y z : Int32) (d : Bool) : zBot N w c ((B, S), nm, T, Y, E, U, Mk) H (fX1_see w x y z (zb d)) (fX7_see (w + 40) x y z (zb d)) := by
  refine ⟨_, _, _, _, zCG_see hok.1.2.1.1 hok.1.1 hok.1.2.2.2.2.1 hG x y z d, fun h F L A M hb hR => ?_, zHok_see hok x y z d, ?_, ?_⟩
  · obtain ⟨F', A', e1, e2⟩ := zRG_see (L := L) hb hok.1 hR x y z d
    exact ⟨F', L, A', M, e1, e2⟩
  · show 2 + 40 * T.2 ≤ 1200 + 40 * T.2
    omega
  · show 44 + 400 * T.2 ≤ 12000 + 400 * T.2
    omega
theorem zBot_mark (hG : zCG N w ((B, S), nm, T, Y, E, U, Mk) H) (hok : zHok c ((B, S), nm, T, Y, E, U, Mk)) (x : Int32) (d : Bool) : zBot N w c ((B, S), nm, T, Y, E, U, Mk) H (fX1_mark N w x (zb d)) (fX7_mark N (w + 40) x (zb d)) := by
  refine ⟨_, _, _, _, zCG_mark hok.1.2.2.2.2.2.1.1 hok.1.2.2.2.2.1.1 (fun j hj x hx => (hok.1.2.2.2.2.2.2 j hj x hx).2.2.1) hok.1.2.1.1 hG x d, fun h F L A M hb hR => ?_, zHok_mark hok x d, ?_, ?_⟩
  · obtain ⟨F', A', e1, e2⟩ := zRG_mark (L := L) hb hok.1 hR x d
    exact ⟨F', L, A', M, e1, e2⟩
  · rw [zG_mark_T]
    show 15 + 40 * T.2 ≤ 1200 + 40 * T.2
    omega
  · rw [zG_mark_T]
    show 213 + 400 * T.2 ≤ 12000 + 400 * T.2
    omega
theorem zBot_who (hG : zCG N w ((B, S), nm, T, Y, E, U, Mk) H) (hok : zHok c ((B, S), nm, T, Y, E, U, Mk)) : zBot N w c ((B, S), nm, T, Y, E, U, Mk) H (fX1_who N w) (fX7_who N (w + 40)) := by
  refine ⟨_, _, _, _, zCG_who hok.1.2.1.1 hok.1.2.2.2.2.1 hG, fun h F L A M hb hR => ?_, hok.mo, ?_, ?_⟩
  · obtain ⟨F', A', e1, e2⟩ := zRG_who (L := L) hb hok.1 hR
    exact ⟨F', L, A', M, e1, e2⟩
  · show 0 + 40 * T.2 ≤ 1200 + 40 * T.2
    omega
  · show 0 + 400 * T.2 ≤ 12000 + 400 * T.2
    omega
theorem zBot_ask (hG : zCG N w ((B, S), nm, T, Y, E, U, Mk) H) (hok : zHok c ((B, S), nm, T, Y, E, U, Mk)) (x : Int32) : zBot N w c ((B, S), nm, T, Y, E, U, Mk) H (fX1_ask N w x) (fX7_ask N (w + 40) x) := by
  refine ⟨_, _, _, _, zCG_ask hok.1.2.1.1 hok.1.2.2.2.2.1 hG x, fun h F L A M hb hR => ?_, hok.mo, ?_, ?_⟩
  · obtain ⟨F', A', e1, e2⟩ := zRG_ask (L := L) hb hok.1 hR x
    exact ⟨F', L, A', M, e1, e2⟩
  · show 0 + 40 * T.2 ≤ 1200 + 40 * T.2
    omega
  · show 0 + 400 * T.2 ≤ 12000 + 400 * T.2
    omega
theorem zBot_judged (hG : zCG N w ((B, S), nm, T, Y, E, U, Mk) H) (hok : zHok c ((B, S), nm, T, Y, E, U, Mk)) (x : Int32) : zBot N w c ((B, S), nm, T, Y, E, U, Mk) H (fX1_judged N w x) (fX7_judged N (w + 40) x) := by
  refine ⟨_, _, _, _, zCG_judged hok.1.2.1.1 hok.1.2.2.2.1 hG x, fun h F L A M hb hR => ?_, hok.mo, ?_, ?_⟩
  · obtain ⟨F', L', A', e1, e2⟩ := zRG_judged (L := L) hb hok.1 hR x
    exact ⟨F', L', A', M, e1, e2⟩
  · show 0 + 40 * T.2 ≤ 1200 + 40 * T.2
    omega
  · show 0 + 400 * T.2 ≤ 12000 + 400 * T.2
    omega
theorem zBot_count (hG : zCG N w ((B, S), nm, T, Y, E, U, Mk) H) (hok : zHok c ((B, S), nm, T, Y, E, U, Mk)) (x : Int32) : zBot N w c ((B, S), nm, T, Y, E, U, Mk) H (fX1_count N w x) (fX7_count N (w + 40) x) := by
  refine ⟨_, _, _, _, zCG_count hok.1.2.1.1 hG x, fun h F L A M hb hR => ?_, hok.mo, ?_, ?_⟩
  · obtain ⟨F', L', A', e1, e2⟩ := zRG_count (L := L) hok.2.1 hb hR x
    exact ⟨F', L', A', M, e1, e2⟩
  · show 0 + 40 * T.2 ≤ 1200 + 40 * T.2
    omega
  · show 0 + 400 * T.2 ≤ 12000 + 400 * T.2
    omega
end
