/-! PURE A1: the law, call by call (printed by tools/lawops.py) -/
set_option maxRecDepth 100000
section
variable {N w b n C0 S0 D0 c i : Nat} {s : Nat → Int32} {B : zLB} {S : zMS} {H : jH} {nm : (Nat → Nat) × (Nat → Nat)} {T : (Nat → Nat) × Nat} {Y : zYy} {E : zEy} {U : zUy} {Mk : Nat → Option (zMS × zYy × zEy)} {K : Option Nat → Option Nat → Option Nat → Int32 → jM Int32}
/-- what a case comes to -/
def zCase (N w b n C0 S0 D0 c i : Nat) (s : Nat → Int32) (K : Option Nat → Option Nat → Option Nat → Int32 → jM Int32) (m : jM Int32) (H : jH) : Prop := ∃ G' H', m.1 H = (fL_law_1477 N K b (some w) (some (w + 40)) (some (w + 85)) (nI i)).1 H' ∧ zLst N w b n C0 S0 D0 s G' (c + 1) H'
theorem zop_1 (hL : zLst N w b n C0 S0 D0 s ((B, S), nm, T, Y, E, U, Mk) c H) : zCase N w b n C0 S0 D0 c i s K (fL_law_347 N K b (some w) (some (w + 40)) (some (w + 85)) (nI i)) H := by
  unfold fL_law_347
  exact zst0 (m1 := fX1_library N) (m2 := fX7_library N) hL (zBot_library hL.1 hL.2.2.2.2.1)
theorem zop_2 (hL : zLst N w b n C0 S0 D0 s ((B, S), nm, T, Y, E, U, Mk) c H) : zCase N w b n C0 S0 D0 c i s K (fL_law_360 N K b (some w) (some (w + 40)) (some (w + 85)) (nI i)) H := by
  unfold fL_law_360
  exact zst0 (m1 := fX1_year N) (m2 := fX7_year N) hL (zBot_year hL.1 hL.2.2.2.2.1)
theorem zop_3 (hn : n < 2 ^ 31) (hi : i + 7 ≤ n) (hL : zLst N w b n C0 S0 D0 s ((B, S), nm, T, Y, E, U, Mk) c H) : zCase N w b n C0 S0 D0 c i s K (fL_law_373 N K b (some w) (some (w + 40)) (some (w + 85)) (nI i)) H := by
  unfold fL_law_373
  exact zst2 (m1 := fX1_skin N) (m2 := fX7_skin N) hn hi hL (zBot.lo hL.1 hL.2.2.2.2.1 (fun k hk => by rw [← hk]; exact (zC_op_skin _ _).w) (zR_op_skin _ _))
theorem zop_4 (hn : n < 2 ^ 31) (hi : i + 7 ≤ n) (hL : zLst N w b n C0 S0 D0 s ((B, S), nm, T, Y, E, U, Mk) c H) : zCase N w b n C0 S0 D0 c i s K (fL_law_410 N K b (some w) (some (w + 40)) (some (w + 85)) (nI i)) H := by
  unfold fL_law_410
  exact zst2 (m1 := fX1_text N) (m2 := fX7_text N) hn hi hL (zBot.lo hL.1 hL.2.2.2.2.1 (fun k hk => by rw [← hk]; exact (zC_op_text _ _).w) (zR_op_text _ _))
theorem zop_5 (hn : n < 2 ^ 31) (hi : i + 7 ≤ n) (hL : zLst N w b n C0 S0 D0 s ((B, S), nm, T, Y, E, U, Mk) c H) : zCase N w b n C0 S0 D0 c i s K (fL_law_447 N K b (some w) (some (w + 40)) (some (w + 85)) (nI i)) H := by
  unfold fL_law_447
  exact zst2 (m1 := fX1_layers) (m2 := fX7_layers N) hn hi hL (zBot.lo hL.1 hL.2.2.2.2.1 (fun k hk => by rw [← hk]; exact (zC_op_layers _ _).w) (zR_op_layers _ _))
theorem zop_6 (hn : n < 2 ^ 31) (hi : i + 7 ≤ n) (hL : zLst N w b n C0 S0 D0 s ((B, S), nm, T, Y, E, U, Mk) c H) : zCase N w b n C0 S0 D0 c i s K (fL_law_484 N K b (some w) (some (w + 40)) (some (w + 85)) (nI i)) H := by
  unfold fL_law_484
  exact zst3 (m1 := fX1_layer) (m2 := fX7_layer N) hn hi hL (zBot.lo hL.1 hL.2.2.2.2.1 (fun k hk => by rw [← hk]; exact (zC_op_layer _ _ _).w) (zR_op_layer _ _ _))
theorem zop_7 (hn : n < 2 ^ 31) (hi : i + 7 ≤ n) (hL : zLst N w b n C0 S0 D0 s ((B, S), nm, T, Y, E, U, Mk) c H) : zCase N w b n C0 S0 D0 c i s K (fL_law_533 N K b (some w) (some (w + 40)) (some (w + 85)) (nI i)) H := by
  unfold fL_law_533
  exact zst2 (m1 := fX1_read N) (m2 := fX7_read N) hn hi hL (zBot.lo hL.1 hL.2.2.2.2.1 (fun k hk => by rw [← hk]; exact (zC_op_read _ _).w) (zR_op_read _ _))
theorem zop_8 (hn : n < 2 ^ 31) (hi : i + 7 ≤ n) (hL : zLst N w b n C0 S0 D0 s ((B, S), nm, T, Y, E, U, Mk) c H) : zCase N w b n C0 S0 D0 c i s K (fL_law_570 N K b (some w) (some (w + 40)) (some (w + 85)) (nI i)) H := by
  unfold fL_law_570
  exact zst3 (m1 := fX1_write N) (m2 := fX7_write N) hn hi hL (zBot_write hL.1 hL.2.2.2.2.1 _ _ _)
theorem zop_9 (hn : n < 2 ^ 31) (hi : i + 7 ≤ n) (hL : zLst N w b n C0 S0 D0 s ((B, S), nm, T, Y, E, U, Mk) c H) : zCase N w b n C0 S0 D0 c i s K (fL_law_619 N K b (some w) (some (w + 40)) (some (w + 85)) (nI i)) H := by
  unfold fL_law_619
  exact zst1 (m1 := fX1_scrape N) (m2 := fX7_scrape N) hn hi hL (zBot_scrape hL.1 hL.2.2.2.2.1 _)
theorem zop_10 (hn : n < 2 ^ 31) (hi : i + 7 ≤ n) (hL : zLst N w b n C0 S0 D0 s ((B, S), nm, T, Y, E, U, Mk) c H) : zCase N w b n C0 S0 D0 c i s K (fL_law_644 N K b (some w) (some (w + 40)) (some (w + 85)) (nI i)) H := by
  unfold fL_law_644
  exact zst1 (m1 := fX1_third N) (m2 := fX7_third N) hn hi hL (zBot_third hL.1 hL.2.2.2.2.1 _)
theorem zop_11 (hc : c < 1000) (hL : zLst N w b n C0 S0 D0 s ((B, S), nm, T, Y, E, U, Mk) c H) : zCase N w b n C0 S0 D0 c i s K (fL_law_669 N K b (some w) (some (w + 40)) (some (w + 85)) (nI i)) H := by
  unfold fL_law_669
  exact zst0 (m1 := fX1_week) (m2 := fX7_week N) hL (zBot_week hc hL.1 hL.2.2.2.2.1)
theorem zop_12 (hL : zLst N w b n C0 S0 D0 s ((B, S), nm, T, Y, E, U, Mk) c H) : zCase N w b n C0 S0 D0 c i s K (fL_law_682 N K b (some w) (some (w + 40)) (some (w + 85)) (nI i)) H := by
  unfold fL_law_682
  exact zst0 (m1 := fX1_undo) (m2 := fX7_undo N) hL (zBot_undo hL.1 hL.2.2.2.2.1)
theorem zop_13 (hn : n < 2 ^ 31) (hi : i + 7 ≤ n) (hL : zLst N w b n C0 S0 D0 s ((B, S), nm, T, Y, E, U, Mk) c H) : zCase N w b n C0 S0 D0 c i s K (fL_law_695 N K b (some w) (some (w + 40)) (some (w + 85)) (nI i)) H := by
  unfold fL_law_695
  exact zst1 (m1 := fX1_judged N) (m2 := fX7_judged N) hn hi hL (zBot_judged hL.1 hL.2.2.2.2.1 _)
theorem zop_14 (hn : n < 2 ^ 31) (hi : i + 7 ≤ n) (hL : zLst N w b n C0 S0 D0 s ((B, S), nm, T, Y, E, U, Mk) c H) : zCase N w b n C0 S0 D0 c i s K (fL_law_720 N K b (some w) (some (w + 40)) (some (w + 85)) (nI i)) H := by
  unfold fL_law_720
  exact zst3 (m1 := fX1_later N) (m2 := fX7_later N) hn hi hL (zBot.lo hL.1 hL.2.2.2.2.1 (fun k hk => by rw [← hk]; exact (zC_op_later _ _ _).w) (zR_op_later _ _ _))
theorem zop_15 (hn : n < 2 ^ 31) (hi : i + 7 ≤ n) (hL : zLst N w b n C0 S0 D0 s ((B, S), nm, T, Y, E, U, Mk) c H) : zCase N w b n C0 S0 D0 c i s K (fL_law_769 N K b (some w) (some (w + 40)) (some (w + 85)) (nI i)) H := by
  unfold fL_law_769
  exact zst1 (m1 := fX1_when N) (m2 := fX7_when N) hn hi hL (zBot.lo hL.1 hL.2.2.2.2.1 (fun k hk => by rw [← hk]; exact (zC_op_when _).w) (zR_op_when _))
theorem zop_16 (hn : n < 2 ^ 31) (hi : i + 7 ≤ n) (hL : zLst N w b n C0 S0 D0 s ((B, S), nm, T, Y, E, U, Mk) c H) : zCase N w b n C0 S0 D0 c i s K (fL_law_794 N K b (some w) (some (w + 40)) (some (w + 85)) (nI i)) H := by
  unfold fL_law_794
  exact zst1 (m1 := fX1_need N) (m2 := fX7_need N) hn hi hL (zBot.lo hL.1 hL.2.2.2.2.1 (fun k hk => by rw [← hk]; exact (zC_op_need _).w) (zR_op_need _))
theorem zop_17 (hL : zLst N w b n C0 S0 D0 s ((B, S), nm, T, Y, E, U, Mk) c H) : zCase N w b n C0 S0 D0 c i s K (fL_law_819 N K b (some w) (some (w + 40)) (some (w + 85)) (nI i)) H := by
  unfold fL_law_819
  exact zst0 (m1 := fX1_lost N) (m2 := fX7_lost N) hL (zBot.lo hL.1 hL.2.2.2.2.1 (fun k hk => by rw [← hk]; exact (zC_op_lost).w) (zR_op_lost))
theorem zop_18 (hn : n < 2 ^ 31) (hi : i + 7 ≤ n) (hL : zLst N w b n C0 S0 D0 s ((B, S), nm, T, Y, E, U, Mk) c H) : zCase N w b n C0 S0 D0 c i s K (fL_law_832 N K b (some w) (some (w + 40)) (some (w + 85)) (nI i)) H := by
  unfold fL_law_832
  exact zst2 (m1 := fX1_place N) (m2 := fX7_place N) hn hi hL (zBot.lo hL.1 hL.2.2.2.2.1 (fun k hk => by rw [← hk]; exact (zC_op_place _ _).w) (zR_op_place _ _))
theorem zop_19 (hn : n < 2 ^ 31) (hi : i + 7 ≤ n) (hL : zLst N w b n C0 S0 D0 s ((B, S), nm, T, Y, E, U, Mk) c H) : zCase N w b n C0 S0 D0 c i s K (fL_law_869 N K b (some w) (some (w + 40)) (some (w + 85)) (nI i)) H := by
  unfold fL_law_869
  exact zst2 (m1 := fX1_cost N) (m2 := fX7_cost N) hn hi hL (zBot.lo hL.1 hL.2.2.2.2.1 (fun k hk => by rw [← hk]; exact (zC_op_cost _ _)) (zR_op_cost _ _))
theorem zop_20 (hn : n < 2 ^ 31) (hi : i + 7 ≤ n) (hL : zLst N w b n C0 S0 D0 s ((B, S), nm, T, Y, E, U, Mk) c H) : zCase N w b n C0 S0 D0 c i s K (fL_law_906 N K b (some w) (some (w + 40)) (some (w + 85)) (nI i)) H := by
  unfold fL_law_906
  exact zst1 (m1 := fX1_lay N) (m2 := fX7_lay N) hn hi hL (zBot.lo hL.1 hL.2.2.2.2.1 (fun k hk => by rw [← hk]; exact (zC_op_lay _)) (zR_op_lay _))
theorem zop_21 (hn : n < 2 ^ 31) (hi : i + 7 ≤ n) (hL : zLst N w b n C0 S0 D0 s ((B, S), nm, T, Y, E, U, Mk) c H) : zCase N w b n C0 S0 D0 c i s K (fL_law_931 N K b (some w) (some (w + 40)) (some (w + 85)) (nI i)) H := by
  unfold fL_law_931
  exact zst2 (m1 := fX1_bears N) (m2 := fX7_bears N) hn hi hL (zBot.lo hL.1 hL.2.2.2.2.1 (fun k hk => by rw [← hk]; exact (zC_op_bears _ _)) (zR_op_bears _ _))
theorem zop_22 (hn : n < 2 ^ 31) (hi : i + 7 ≤ n) (hL : zLst N w b n C0 S0 D0 s ((B, S), nm, T, Y, E, U, Mk) c H) : zCase N w b n C0 S0 D0 c i s K (fL_law_968 N K b (some w) (some (w + 40)) (some (w + 85)) (nI i)) H := by
  unfold fL_law_968
  exact zst1 (m1 := fX1_over N) (m2 := fX7_over N) hn hi hL (zBot.lo hL.1 hL.2.2.2.2.1 (fun k hk => by rw [← hk]; exact (zC_op_over _).w) (zR_op_over _))
theorem zop_23 (hn : n < 2 ^ 31) (hi : i + 7 ≤ n) (hL : zLst N w b n C0 S0 D0 s ((B, S), nm, T, Y, E, U, Mk) c H) : zCase N w b n C0 S0 D0 c i s K (fL_law_993 N K b (some w) (some (w + 40)) (some (w + 85)) (nI i)) H := by
  unfold fL_law_993
  exact zst1 (m1 := fX1_deepest N) (m2 := fX7_deepest N) hn hi hL (zBot.lo hL.1 hL.2.2.2.2.1 (fun k hk => by rw [← hk]; exact (zC_op_deepest _).w) (zR_op_deepest _))
theorem zop_24 (hn : n < 2 ^ 31) (hi : i + 7 ≤ n) (hL : zLst N w b n C0 S0 D0 s ((B, S), nm, T, Y, E, U, Mk) c H) : zCase N w b n C0 S0 D0 c i s K (fL_law_1018 N K b (some w) (some (w + 40)) (some (w + 85)) (nI i)) H := by
  unfold fL_law_1018
  exact zst1 (m1 := fX1_bare N) (m2 := fX7_bare N) hn hi hL (zBot.lo hL.1 hL.2.2.2.2.1 (fun k hk => by rw [← hk]; exact (zC_op_bare _).w) (zR_op_bare _))
theorem zop_25 (hL : zLst N w b n C0 S0 D0 s ((B, S), nm, T, Y, E, U, Mk) c H) : zCase N w b n C0 S0 D0 c i s K (fL_law_1043 N K b (some w) (some (w + 40)) (some (w + 85)) (nI i)) H := by
  unfold fL_law_1043
  exact zst0 (m1 := fX1_same N) (m2 := fX7_same N) hL (zBot.lo hL.1 hL.2.2.2.2.1 (fun k hk => by rw [← hk]; exact (zC_op_same).w) (zR_op_same))
theorem zop_26 (hL : zLst N w b n C0 S0 D0 s ((B, S), nm, T, Y, E, U, Mk) c H) : zCase N w b n C0 S0 D0 c i s K (fL_law_1056 N K b (some w) (some (w + 40)) (some (w + 85)) (nI i)) H := by
  unfold fL_law_1056
  exact zst0 (m1 := fX1_giveup N) (m2 := fX7_giveup N) hL (zBot.lo hL.1 hL.2.2.2.2.1 (fun k hk => by rw [← hk]; exact (zC_op_giveup)) (zR_op_giveup))
theorem zop_27 (hn : n < 2 ^ 31) (hi : i + 7 ≤ n) (hL : zLst N w b n C0 S0 D0 s ((B, S), nm, T, Y, E, U, Mk) c H) : zCase N w b n C0 S0 D0 c i s K (fL_law_1069 N K b (some w) (some (w + 40)) (some (w + 85)) (nI i)) H := by
  unfold fL_law_1069
  exact zst1 (m1 := fX1_psalter N) (m2 := fX7_psalter N) hn hi hL (zBot.lo hL.1 hL.2.2.2.2.1 (fun k hk => by rw [← hk]; exact (zC_op_psalter _).w) (zR_op_psalter _))
theorem zop_29 (hL : zLst N w b n C0 S0 D0 s ((B, S), nm, T, Y, E, U, Mk) c H) : zCase N w b n C0 S0 D0 c i s K (fL_law_1171 N K b (some w) (some (w + 40)) (some (w + 85)) (nI i)) H := by
  unfold fL_law_1171
  exact zst0 (m1 := fX1_who N) (m2 := fX7_who N) hL (zBot_who hL.1 hL.2.2.2.2.1)
theorem zop_30 (hn : n < 2 ^ 31) (hi : i + 7 ≤ n) (hL : zLst N w b n C0 S0 D0 s ((B, S), nm, T, Y, E, U, Mk) c H) : zCase N w b n C0 S0 D0 c i s K (fL_law_1184 N K b (some w) (some (w + 40)) (some (w + 85)) (nI i)) H := by
  unfold fL_law_1184
  exact zst1 (m1 := fX1_ask N) (m2 := fX7_ask N) hn hi hL (zBot_ask hL.1 hL.2.2.2.2.1 _)
theorem zop_31 (hn : n < 2 ^ 31) (hi : i + 7 ≤ n) (hL : zLst N w b n C0 S0 D0 s ((B, S), nm, T, Y, E, U, Mk) c H) : zCase N w b n C0 S0 D0 c i s K (fL_law_1209 N K b (some w) (some (w + 40)) (some (w + 85)) (nI i)) H := by
  unfold fL_law_1209
  exact zst3 (m1 := fX1_chance N) (m2 := fX7_chance N) hn hi hL (zBot.lo hL.1 hL.2.2.2.2.1 (fun k hk => by rw [← hk]; exact (zC_op_chance _ _ _).w) (zR_op_chance _ _ _))
theorem zop_33 (hn : n < 2 ^ 31) (hi : i + 7 ≤ n) (hc : c < 1000) (hL : zLst N w b n C0 S0 D0 s ((B, S), nm, T, Y, E, U, Mk) c H) : zCase N w b n C0 S0 D0 c i s K (fL_law_1350 N K b (some w) (some (w + 40)) (some (w + 85)) (nI i)) H := by
  unfold fL_law_1350
  exact zst3 (m1 := fX1_years N) (m2 := fX7_years N) hn hi hL (zBot.lo hL.1 hL.2.2.2.2.1 (fun k hk => by rw [← hk]; exact (zC_op_years (by show zWk S < 900000; have : zWk S ≤ c := hL.2.2.2.2.1.1.2.1.2; omega) _ _ _)) (zR_op_years hL.2.2.2.2.1.2.1 (by show zWk S < 900000; have : zWk S ≤ c := hL.2.2.2.2.1.1.2.1.2; omega) _ _ _))
theorem zop_35 (hn : n < 2 ^ 31) (hi : i + 7 ≤ n) (hL : zLst N w b n C0 S0 D0 s ((B, S), nm, T, Y, E, U, Mk) c H) : zCase N w b n C0 S0 D0 c i s K (fL_law_1452 N K b (some w) (some (w + 40)) (some (w + 85)) (nI i)) H := by
  unfold fL_law_1452
  exact zst1 (m1 := fX1_count N) (m2 := fX7_count N) hn hi hL (zBot_count hL.1 hL.2.2.2.2.1 _)
end
