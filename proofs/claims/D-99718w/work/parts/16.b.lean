set_option maxRecDepth 100000
abbrev okl_java_lang_Object : List Nat := [0, 1, 2, 3, 4, 5, 6, 7, 8, 9, 10, 11, 12, 13, 14, 15, 16, 17, 18, 19, 20, 21, 22, 23, 24, 25, 26, 27, 28, 29, 30, 31, 32, 33, 1000, 1001, 1002, 1003, 1004, 1005, 1006]
abbrev okl_WornSkin_Link : List Nat := [21, 22, 23, 24, 25, 26, 27]
theorem cf_J2 : jCf 4 "java/util/ArrayList" TJ2 3 tyJ2 := ⟨rfl, by decide, in_J2, tyJ2_ok, nmJ2⟩
theorem cf_J13 : jCf 10 "java/lang/Long" TJ13 1 tyJ13 := ⟨rfl, by decide, in_J13, tyJ13_ok, nmJ13⟩
theorem cf_J16 : jCf 11 "java/lang/Integer" TJ16 1 tyJ16 := ⟨rfl, by decide, in_J16, tyJ16_ok, nmJ16⟩
theorem cf_X5 : jCf 5 "WornSkin$Facts" TX5 1 tyX5 := ⟨rfl, by decide, in_X5, tyX5_ok, nmX5⟩
theorem cf_X16 : jCf 18 "WornSkin$Plain" TX16 1 tyX16 := ⟨rfl, by decide, in_X16, tyX16_ok, nmX16⟩
theorem cf_X15 : jCf 17 "WornSkin$Fact" TX15 1 tyX15 := ⟨rfl, by decide, in_X15, tyX15_ok, nmX15⟩
theorem cf_X17 : jCf 19 "WornSkin$Not" TX17 1 tyX17 := ⟨rfl, by decide, in_X17, tyX17_ok, nmX17⟩
theorem cf_X20 : jCf 21 "WornSkin$Times" TX20 1 tyX20 := ⟨rfl, by decide, in_X20, tyX20_ok, nmX20⟩
theorem cf_X21 : jCf 22 "WornSkin$Plus" TX21 1 tyX21 := ⟨rfl, by decide, in_X21, tyX21_ok, nmX21⟩
theorem cf_X22 : jCf 23 "WornSkin$Minus" TX22 1 tyX22 := ⟨rfl, by decide, in_X22, tyX22_ok, nmX22⟩
theorem cf_X23 : jCf 24 "WornSkin$Less" TX23 1 tyX23 := ⟨rfl, by decide, in_X23, tyX23_ok, nmX23⟩
theorem cf_X24 : jCf 25 "WornSkin$Same" TX24 1 tyX24 := ⟨rfl, by decide, in_X24, tyX24_ok, nmX24⟩
theorem cf_X25 : jCf 26 "WornSkin$And" TX25 1 tyX25 := ⟨rfl, by decide, in_X25, tyX25_ok, nmX25⟩
theorem cf_X26 : jCf 27 "WornSkin$Or" TX26 1 tyX26 := ⟨rfl, by decide, in_X26, tyX26_ok, nmX26⟩
theorem cf_X18 : jCf 20 "WornSkin$Chain" TX18 2 tyX18 := ⟨rfl, by decide, in_X18, tyX18_ok, nmX18⟩
theorem cf_X10 : jCf 13 "WornSkin$Text" TX10 2 tyX10 := ⟨rfl, by decide, in_X10, tyX10_ok, nmX10⟩
theorem cf_X11 : jCf 14 "WornSkin$Psalm" TX11 2 tyX11 := ⟨rfl, by decide, in_X11, tyX11_ok, nmX11⟩
theorem cf_X12 : jCf 15 "WornSkin$Recipe" TX12 2 tyX12 := ⟨rfl, by decide, in_X12, tyX12_ok, nmX12⟩
theorem cf_X13 : jCf 16 "WornSkin$Oath" TX13 2 tyX13 := ⟨rfl, by decide, in_X13, tyX13_ok, nmX13⟩
theorem cf_X9 : jCf 12 "WornSkin$Skin" TX9 3 tyX9 := ⟨rfl, by decide, in_X9, tyX9_ok, nmX9⟩
theorem cf_X4 : jCf 3 "WornSkin$Library" TX4 8 tyX4 := ⟨rfl, by decide, in_X4, tyX4_ok, nmX4⟩
theorem cf_X31 : jCf 32 "WornSkin$Mark" TX31 3 tyX31 := ⟨rfl, by decide, in_X31, tyX31_ok, nmX31⟩
theorem cf_X29 : jCf 29 "WornSkin$Scrapes" TX29 2 tyX29 := ⟨rfl, by decide, in_X29, tyX29_ok, nmX29⟩
theorem cf_X30 : jCf 30 "WornSkin$Writes" TX30 3 tyX30 := ⟨rfl, by decide, in_X30, tyX30_ok, nmX30⟩
theorem cf_X3 : jCf 2 "WornSkin$Shelf" TX3 6 tyX3 := ⟨rfl, by decide, in_X3, tyX3_ok, nmX3⟩
theorem cf_X8 : jCf 9 "WornSkin$Wrong" TX8 7 tyX8 := ⟨rfl, by decide, in_X8, tyX8_ok, nmX8⟩
theorem cf_X2 : jCf 1 "WornSkin$Reader" TX2 13 tyX2 := ⟨rfl, by decide, in_X2, tyX2_ok, nmX2⟩
theorem cf_X28 : jCf 28 "WornSkin$Weeks" TX28 0 (fun _ => .int) := ⟨rfl, by decide, (fun w h => by cases h), fun k h => absurd h (Nat.not_lt_zero _), fun a h => absurd h (Nat.not_lt_zero _)⟩
theorem cf_X1 : jCf 0 "WornSkin" TX1 9 tyX1 := ⟨rfl, by decide, in_X1, tyX1_ok, nmX1⟩
theorem cf_J18 : jCf 31 "java/util/NoSuchElementException" TJ18 6 tyJ18 := ⟨rfl, by decide, in_J18, tyJ18_ok, nmJ18⟩
theorem cf_X6 : jCf 6 "WornSkin$Lays" TX6 4 tyX6 := ⟨rfl, by decide, in_X6, tyX6_ok, nmX6⟩
theorem cf_X7 : jCf 7 "WornSkinModel" TX7 59 tyX7 := ⟨rfl, by decide, in_X7, tyX7_ok, nmX7⟩
theorem fd_java_util_ArrayList_size : jFd [4] 2 "java/util/ArrayList" "size" "I" := (jFd1 (ci := 4) (k := 2) rfl (Nat.le_of_ble_eq_true rfl) rfl rfl rfl)
theorem fd_java_util_ArrayList_elementData : jFd [4] 1 "java/util/ArrayList" "elementData" "[Ljava/lang/Object;" := (jFd1 (ci := 4) (k := 1) rfl (Nat.le_of_ble_eq_true rfl) rfl rfl rfl)
theorem fd_java_util_ArrayList_modCount : jFd [4] 0 "java/util/AbstractList" "modCount" "I" := (jFd1 (ci := 4) (k := 0) rfl (Nat.le_of_ble_eq_true rfl) rfl rfl rfl)
theorem fd_java_lang_String_coder : jFd [33] 1 "java/lang/String" "coder" "B" := (jFd1 (ci := 33) (k := 1) rfl (Nat.le_of_ble_eq_true rfl) rfl rfl rfl)
theorem fd_java_lang_String_value : jFd [33] 0 "java/lang/String" "value" "[B" := (jFd1 (ci := 33) (k := 0) rfl (Nat.le_of_ble_eq_true rfl) rfl rfl rfl)
theorem fd_java_lang_Long_value : jFd [10] 0 "java/lang/Long" "value" "J" := (jFd1 (ci := 10) (k := 0) rfl (Nat.le_of_ble_eq_true rfl) rfl rfl rfl)
theorem fd_java_lang_Integer_value : jFd [11] 0 "java/lang/Integer" "value" "I" := (jFd1 (ci := 11) (k := 0) rfl (Nat.le_of_ble_eq_true rfl) rfl rfl rfl)
theorem fd_WornSkin_Link_e : jFd [21, 22, 23, 24, 25, 26, 27] 0 "WornSkin$Link" "e" "LWornSkin$Expression;" := (jFdc (jFd1 (ci := 21) (k := 0) rfl (Nat.le_of_ble_eq_true rfl) rfl rfl rfl) (jFdc (jFd1 (ci := 22) (k := 0) rfl (Nat.le_of_ble_eq_true rfl) rfl rfl rfl) (jFdc (jFd1 (ci := 23) (k := 0) rfl (Nat.le_of_ble_eq_true rfl) rfl rfl rfl) (jFdc (jFd1 (ci := 24) (k := 0) rfl (Nat.le_of_ble_eq_true rfl) rfl rfl rfl) (jFdc (jFd1 (ci := 25) (k := 0) rfl (Nat.le_of_ble_eq_true rfl) rfl rfl rfl) (jFdc (jFd1 (ci := 26) (k := 0) rfl (Nat.le_of_ble_eq_true rfl) rfl rfl rfl) (jFd1 (ci := 27) (k := 0) rfl (Nat.le_of_ble_eq_true rfl) rfl rfl rfl)))))))
theorem fd_WornSkin_Facts_of : jFd [5] 0 "WornSkin$Facts" "of" "[I" := (jFd1 (ci := 5) (k := 0) rfl (Nat.le_of_ble_eq_true rfl) rfl rfl rfl)
theorem fd_WornSkin_Fact_which : jFd [17] 0 "WornSkin$Fact" "which" "I" := (jFd1 (ci := 17) (k := 0) rfl (Nat.le_of_ble_eq_true rfl) rfl rfl rfl)
theorem fd_WornSkin_Plain_n : jFd [18] 0 "WornSkin$Plain" "n" "I" := (jFd1 (ci := 18) (k := 0) rfl (Nat.le_of_ble_eq_true rfl) rfl rfl rfl)
theorem fd_WornSkin_Not_e : jFd [19] 0 "WornSkin$Not" "e" "LWornSkin$Expression;" := (jFd1 (ci := 19) (k := 0) rfl (Nat.le_of_ble_eq_true rfl) rfl rfl rfl)
theorem fd_WornSkin_Chain_links : jFd [20] 1 "WornSkin$Chain" "links" "Ljava/util/ArrayList;" := (jFd1 (ci := 20) (k := 1) rfl (Nat.le_of_ble_eq_true rfl) rfl rfl rfl)
theorem fd_WornSkin_Chain_first : jFd [20] 0 "WornSkin$Chain" "first" "LWornSkin$Expression;" := (jFd1 (ci := 20) (k := 0) rfl (Nat.le_of_ble_eq_true rfl) rfl rfl rfl)
theorem fd_WornSkin_Library_nameOf : jFd [3] 1 "WornSkin$Library" "nameOf" "Ljava/util/ArrayList;" := (jFd1 (ci := 3) (k := 1) rfl (Nat.le_of_ble_eq_true rfl) rfl rfl rfl)
theorem fd_WornSkin_Library_names : jFd [3] 0 "WornSkin$Library" "names" "Ljava/util/ArrayList;" := (jFd1 (ci := 3) (k := 0) rfl (Nat.le_of_ble_eq_true rfl) rfl rfl rfl)
theorem fd_WornSkin_Library_damp : jFd [3] 4 "WornSkin$Library" "damp" "[I" := (jFd1 (ci := 3) (k := 4) rfl (Nat.le_of_ble_eq_true rfl) rfl rfl rfl)
theorem fd_WornSkin_Library_damps : jFd [3] 5 "WornSkin$Library" "damps" "I" := (jFd1 (ci := 3) (k := 5) rfl (Nat.le_of_ble_eq_true rfl) rfl rfl rfl)
theorem fd_WornSkin_Library_shows : jFd [3] 6 "WornSkin$Library" "shows" "LWornSkin$Expression;" := (jFd1 (ci := 3) (k := 6) rfl (Nat.le_of_ble_eq_true rfl) rfl rfl rfl)
theorem fd_WornSkin_Library_facts : jFd [3] 7 "WornSkin$Library" "facts" "LWornSkin$Facts;" := (jFd1 (ci := 3) (k := 7) rfl (Nat.le_of_ble_eq_true rfl) rfl rfl rfl)
theorem fd_WornSkin_Text_gall : jFd [13, 14, 15, 16] 0 "WornSkin$Text" "gall" "Z" := (jFdc (jFd1 (ci := 13) (k := 0) rfl (Nat.le_of_ble_eq_true rfl) rfl rfl rfl) (jFdc (jFd1 (ci := 14) (k := 0) rfl (Nat.le_of_ble_eq_true rfl) rfl rfl rfl) (jFdc (jFd1 (ci := 15) (k := 0) rfl (Nat.le_of_ble_eq_true rfl) rfl rfl rfl) (jFd1 (ci := 16) (k := 0) rfl (Nat.le_of_ble_eq_true rfl) rfl rfl rfl))))
theorem fd_WornSkin_Shelf_of : jFd [2] 4 "WornSkin$Shelf" "of" "[I" := (jFd1 (ci := 2) (k := 4) rfl (Nat.le_of_ble_eq_true rfl) rfl rfl rfl)
theorem fd_WornSkin_Shelf_many : jFd [2] 5 "WornSkin$Shelf" "many" "[I" := (jFd1 (ci := 2) (k := 5) rfl (Nat.le_of_ble_eq_true rfl) rfl rfl rfl)
theorem fd_WornSkin_Shelf_open : jFd [2] 2 "WornSkin$Shelf" "open" "I" := (jFd1 (ci := 2) (k := 2) rfl (Nat.le_of_ble_eq_true rfl) rfl rfl rfl)
theorem fd_WornSkin_Shelf_library : jFd [2] 0 "WornSkin$Shelf" "library" "LWornSkin$Library;" := (jFd1 (ci := 2) (k := 0) rfl (Nat.le_of_ble_eq_true rfl) rfl rfl rfl)
theorem fd_WornSkin_Library_skins : jFd [3] 2 "WornSkin$Library" "skins" "Ljava/util/ArrayList;" := (jFd1 (ci := 3) (k := 2) rfl (Nat.le_of_ble_eq_true rfl) rfl rfl rfl)
theorem fd_WornSkin_Shelf_thick : jFd [2] 3 "WornSkin$Shelf" "thick" "[I" := (jFd1 (ci := 2) (k := 3) rfl (Nat.le_of_ble_eq_true rfl) rfl rfl rfl)
theorem fd_WornSkin_Skin_thick : jFd [12] 1 "WornSkin$Skin" "thick" "I" := (jFd1 (ci := 12) (k := 1) rfl (Nat.le_of_ble_eq_true rfl) rfl rfl rfl)
theorem fd_WornSkin_Shelf_week : jFd [2] 1 "WornSkin$Shelf" "week" "I" := (jFd1 (ci := 2) (k := 1) rfl (Nat.le_of_ble_eq_true rfl) rfl rfl rfl)
theorem fd_WornSkin_Library_texts : jFd [3] 3 "WornSkin$Library" "texts" "Ljava/util/ArrayList;" := (jFd1 (ci := 3) (k := 3) rfl (Nat.le_of_ble_eq_true rfl) rfl rfl rfl)
theorem fd_WornSkin_Text_lines : jFd [13, 14, 15, 16] 1 "WornSkin$Text" "lines" "I" := (jFdc (jFd1 (ci := 13) (k := 1) rfl (Nat.le_of_ble_eq_true rfl) rfl rfl rfl) (jFdc (jFd1 (ci := 14) (k := 1) rfl (Nat.le_of_ble_eq_true rfl) rfl rfl rfl) (jFdc (jFd1 (ci := 15) (k := 1) rfl (Nat.le_of_ble_eq_true rfl) rfl rfl rfl) (jFd1 (ci := 16) (k := 1) rfl (Nat.le_of_ble_eq_true rfl) rfl rfl rfl))))
theorem fd_WornSkin_Skin_lines : jFd [12] 0 "WornSkin$Skin" "lines" "I" := (jFd1 (ci := 12) (k := 0) rfl (Nat.le_of_ble_eq_true rfl) rfl rfl rfl)
theorem fd_WornSkin_Skin_holes : jFd [12] 2 "WornSkin$Skin" "holes" "I" := (jFd1 (ci := 12) (k := 2) rfl (Nat.le_of_ble_eq_true rfl) rfl rfl rfl)
theorem fd_WornSkin_Scrapes_skin : jFd [29] 0 "WornSkin$Scrapes" "skin" "I" := (jFd1 (ci := 29) (k := 0) rfl (Nat.le_of_ble_eq_true rfl) rfl rfl rfl)
theorem fd_WornSkin_Scrapes_third : jFd [29] 1 "WornSkin$Scrapes" "third" "Z" := (jFd1 (ci := 29) (k := 1) rfl (Nat.le_of_ble_eq_true rfl) rfl rfl rfl)
theorem fd_WornSkin_Writes_text : jFd [30] 0 "WornSkin$Writes" "text" "I" := (jFd1 (ci := 30) (k := 0) rfl (Nat.le_of_ble_eq_true rfl) rfl rfl rfl)
theorem fd_WornSkin_Writes_skin : jFd [30] 1 "WornSkin$Writes" "skin" "I" := (jFd1 (ci := 30) (k := 1) rfl (Nat.le_of_ble_eq_true rfl) rfl rfl rfl)
theorem fd_WornSkin_Writes_line : jFd [30] 2 "WornSkin$Writes" "line" "I" := (jFd1 (ci := 30) (k := 2) rfl (Nat.le_of_ble_eq_true rfl) rfl rfl rfl)
theorem fd_WornSkin_Reader_taped : jFd [1] 7 "WornSkin$Reader" "taped" "I" := (jFd1 (ci := 1) (k := 7) rfl (Nat.le_of_ble_eq_true rfl) rfl rfl rfl)
theorem fd_WornSkin_Reader_tape : jFd [1] 6 "WornSkin$Reader" "tape" "[I" := (jFd1 (ci := 1) (k := 6) rfl (Nat.le_of_ble_eq_true rfl) rfl rfl rfl)
theorem fd_WornSkin_Reader_sort : jFd [1] 8 "WornSkin$Reader" "sort" "[I" := (jFd1 (ci := 1) (k := 8) rfl (Nat.le_of_ble_eq_true rfl) rfl rfl rfl)
theorem fd_WornSkin_Reader_place : jFd [1] 10 "WornSkin$Reader" "place" "[I" := (jFd1 (ci := 1) (k := 10) rfl (Nat.le_of_ble_eq_true rfl) rfl rfl rfl)
theorem fd_WornSkin_Reader_value : jFd [1] 9 "WornSkin$Reader" "value" "[J" := (jFd1 (ci := 1) (k := 9) rfl (Nat.le_of_ble_eq_true rfl) rfl rfl rfl)
theorem fd_WornSkin_Reader_at : jFd [1] 11 "WornSkin$Reader" "at" "I" := (jFd1 (ci := 1) (k := 11) rfl (Nat.le_of_ble_eq_true rfl) rfl rfl rfl)
theorem fd_WornSkin_Reader_kept : jFd [1] 2 "WornSkin$Reader" "kept" "[Ljava/lang/String;" := (jFd1 (ci := 1) (k := 2) rfl (Nat.le_of_ble_eq_true rfl) rfl rfl rfl)
theorem fd_WornSkin_Reader_kinds : jFd [1] 1 "WornSkin$Reader" "kinds" "[Ljava/lang/String;" := (jFd1 (ci := 1) (k := 1) rfl (Nat.le_of_ble_eq_true rfl) rfl rfl rfl)
theorem fd_WornSkin_Reader_draft : jFd [1] 5 "WornSkin$Reader" "draft" "LWornSkin$Library;" := (jFd1 (ci := 1) (k := 5) rfl (Nat.le_of_ble_eq_true rfl) rfl rfl rfl)
theorem fd_WornSkin_Reader_inks : jFd [1] 3 "WornSkin$Reader" "inks" "[Ljava/lang/String;" := (jFd1 (ci := 1) (k := 3) rfl (Nat.le_of_ble_eq_true rfl) rfl rfl rfl)
theorem fd_WornSkin_Reader_acts : jFd [1] 4 "WornSkin$Reader" "acts" "[Ljava/lang/String;" := (jFd1 (ci := 1) (k := 4) rfl (Nat.le_of_ble_eq_true rfl) rfl rfl rfl)
theorem fd_WornSkin_Reader_deep : jFd [1] 12 "WornSkin$Reader" "deep" "I" := (jFd1 (ci := 1) (k := 12) rfl (Nat.le_of_ble_eq_true rfl) rfl rfl rfl)
theorem fd_WornSkin_Reader_facts : jFd [1] 0 "WornSkin$Reader" "facts" "[Ljava/lang/String;" := (jFd1 (ci := 1) (k := 0) rfl (Nat.le_of_ble_eq_true rfl) rfl rfl rfl)
theorem fd_WornSkin_reader : jFd [0] 0 "WornSkin" "reader" "LWornSkin$Reader;" := (jFd1 (ci := 0) (k := 0) rfl (Nat.le_of_ble_eq_true rfl) rfl rfl rfl)
theorem fd_WornSkin_Wrong_fault : jFd [9] 6 "WornSkin$Wrong" "fault" "I" := (jFd1 (ci := 9) (k := 6) rfl (Nat.le_of_ble_eq_true rfl) rfl rfl rfl)
theorem fd_WornSkin_marks : jFd [0] 8 "WornSkin" "marks" "[LWornSkin$Mark;" := (jFd1 (ci := 0) (k := 8) rfl (Nat.le_of_ble_eq_true rfl) rfl rfl rfl)
theorem fd_WornSkin_behind : jFd [0] 5 "WornSkin" "behind" "Ljava/util/ArrayList;" := (jFd1 (ci := 0) (k := 5) rfl (Nat.le_of_ble_eq_true rfl) rfl rfl rfl)
theorem fd_WornSkin_shelf : jFd [0] 1 "WornSkin" "shelf" "LWornSkin$Shelf;" := (jFd1 (ci := 0) (k := 1) rfl (Nat.le_of_ble_eq_true rfl) rfl rfl rfl)
theorem fd_WornSkin_trial : jFd [0] 2 "WornSkin" "trial" "LWornSkin$Shelf;" := (jFd1 (ci := 0) (k := 2) rfl (Nat.le_of_ble_eq_true rfl) rfl rfl rfl)
theorem fd_WornSkin_lines : jFd [0] 3 "WornSkin" "lines" "Ljava/util/ArrayList;" := (jFd1 (ci := 0) (k := 3) rfl (Nat.le_of_ble_eq_true rfl) rfl rfl rfl)
theorem fd_WornSkin_seen : jFd [0] 4 "WornSkin" "seen" "Ljava/util/ArrayList;" := (jFd1 (ci := 0) (k := 4) rfl (Nat.le_of_ble_eq_true rfl) rfl rfl rfl)
theorem fd_WornSkin_g : jFd [0] 7 "WornSkin" "g" "J" := (jFd1 (ci := 0) (k := 7) rfl (Nat.le_of_ble_eq_true rfl) rfl rfl rfl)
theorem fd_WornSkin_Mark_shelf : jFd [32] 0 "WornSkin$Mark" "shelf" "LWornSkin$Shelf;" := (jFd1 (ci := 32) (k := 0) rfl (Nat.le_of_ble_eq_true rfl) rfl rfl rfl)
theorem fd_WornSkin_Mark_lines : jFd [32] 1 "WornSkin$Mark" "lines" "Ljava/util/ArrayList;" := (jFd1 (ci := 32) (k := 1) rfl (Nat.le_of_ble_eq_true rfl) rfl rfl rfl)
theorem fd_WornSkin_Mark_seen : jFd [32] 2 "WornSkin$Mark" "seen" "Ljava/util/ArrayList;" := (jFd1 (ci := 32) (k := 2) rfl (Nat.le_of_ble_eq_true rfl) rfl rfl rfl)
theorem fd_WornSkin_Lays_this_0 : jFd [6] 3 "WornSkin$Lays" "this$0" "LWornSkin;" := (jFd1 (ci := 6) (k := 3) rfl (Nat.le_of_ble_eq_true rfl) rfl rfl rfl)
theorem fd_WornSkin_Lays_row : jFd [6] 0 "WornSkin$Lays" "row" "[I" := (jFd1 (ci := 6) (k := 0) rfl (Nat.le_of_ble_eq_true rfl) rfl rfl rfl)
theorem fd_WornSkin_Lays_most : jFd [6] 2 "WornSkin$Lays" "most" "I" := (jFd1 (ci := 6) (k := 2) rfl (Nat.le_of_ble_eq_true rfl) rfl rfl rfl)
theorem fd_WornSkin_Lays_best : jFd [6] 1 "WornSkin$Lays" "best" "[I" := (jFd1 (ci := 6) (k := 1) rfl (Nat.le_of_ble_eq_true rfl) rfl rfl rfl)
theorem fd_WornSkin_lays : jFd [0] 6 "WornSkin" "lays" "LWornSkin$Lays;" := (jFd1 (ci := 0) (k := 6) rfl (Nat.le_of_ble_eq_true rfl) rfl rfl rfl)
theorem fd_WornSkinModel_thrown : jFd [7] 0 "WornSkinModel" "thrown" "I" := (jFd1 (ci := 7) (k := 0) rfl (Nat.le_of_ble_eq_true rfl) rfl rfl rfl)
theorem fd_WornSkinModel_taped : jFd [7] 1 "WornSkinModel" "taped" "I" := (jFd1 (ci := 7) (k := 1) rfl (Nat.le_of_ble_eq_true rfl) rfl rfl rfl)
theorem fd_WornSkinModel_tape : jFd [7] 2 "WornSkinModel" "tape" "[I" := (jFd1 (ci := 7) (k := 2) rfl (Nat.le_of_ble_eq_true rfl) rfl rfl rfl)
theorem fd_WornSkinModel_size : jFd [7] 3 "WornSkinModel" "size" "I" := (jFd1 (ci := 7) (k := 3) rfl (Nat.le_of_ble_eq_true rfl) rfl rfl rfl)
theorem fd_WornSkinModel_place : jFd [7] 4 "WornSkinModel" "place" "I" := (jFd1 (ci := 7) (k := 4) rfl (Nat.le_of_ble_eq_true rfl) rfl rfl rfl)
theorem fd_WornSkinModel_begin : jFd [7] 5 "WornSkinModel" "begin" "I" := (jFd1 (ci := 7) (k := 5) rfl (Nat.le_of_ble_eq_true rfl) rfl rfl rfl)
theorem fd_WornSkinModel_told : jFd [7] 8 "WornSkinModel" "told" "I" := (jFd1 (ci := 7) (k := 8) rfl (Nat.le_of_ble_eq_true rfl) rfl rfl rfl)
theorem fd_WornSkinModel_word : jFd [7] 7 "WornSkinModel" "word" "J" := (jFd1 (ci := 7) (k := 7) rfl (Nat.le_of_ble_eq_true rfl) rfl rfl rfl)
theorem fd_WornSkinModel_token : jFd [7] 6 "WornSkinModel" "token" "I" := (jFd1 (ci := 7) (k := 6) rfl (Nat.le_of_ble_eq_true rfl) rfl rfl rfl)
theorem fd_WornSkinModel_library : jFd [7] 10 "WornSkinModel" "library" "[I" := (jFd1 (ci := 7) (k := 10) rfl (Nat.le_of_ble_eq_true rfl) rfl rfl rfl)
theorem fd_WornSkinModel_skinName : jFd [7] 11 "WornSkinModel" "skinName" "[J" := (jFd1 (ci := 7) (k := 11) rfl (Nat.le_of_ble_eq_true rfl) rfl rfl rfl)
theorem fd_WornSkinModel_textName : jFd [7] 12 "WornSkinModel" "textName" "[J" := (jFd1 (ci := 7) (k := 12) rfl (Nat.le_of_ble_eq_true rfl) rfl rfl rfl)
theorem fd_WornSkinModel_linesOf : jFd [7] 13 "WornSkinModel" "linesOf" "[I" := (jFd1 (ci := 7) (k := 13) rfl (Nat.le_of_ble_eq_true rfl) rfl rfl rfl)
theorem fd_WornSkinModel_given : jFd [7] 36 "WornSkinModel" "given" "I" := (jFd1 (ci := 7) (k := 36) rfl (Nat.le_of_ble_eq_true rfl) rfl rfl rfl)
theorem fd_WornSkinModel_thickTold : jFd [7] 14 "WornSkinModel" "thickTold" "[I" := (jFd1 (ci := 7) (k := 14) rfl (Nat.le_of_ble_eq_true rfl) rfl rfl rfl)
theorem fd_WornSkinModel_holes : jFd [7] 15 "WornSkinModel" "holes" "[I" := (jFd1 (ci := 7) (k := 15) rfl (Nat.le_of_ble_eq_true rfl) rfl rfl rfl)
theorem fd_WornSkinModel_fresh : jFd [7] 37 "WornSkinModel" "fresh" "J" := (jFd1 (ci := 7) (k := 37) rfl (Nat.le_of_ble_eq_true rfl) rfl rfl rfl)
theorem fd_WornSkinModel_gall : jFd [7] 17 "WornSkinModel" "gall" "[I" := (jFd1 (ci := 7) (k := 17) rfl (Nat.le_of_ble_eq_true rfl) rfl rfl rfl)
theorem fd_WornSkinModel_long0 : jFd [7] 18 "WornSkinModel" "long0" "[I" := (jFd1 (ci := 7) (k := 18) rfl (Nat.le_of_ble_eq_true rfl) rfl rfl rfl)
theorem fd_WornSkinModel_kind : jFd [7] 16 "WornSkinModel" "kind" "[I" := (jFd1 (ci := 7) (k := 16) rfl (Nat.le_of_ble_eq_true rfl) rfl rfl rfl)
theorem fd_WornSkinModel_damp : jFd [7] 19 "WornSkinModel" "damp" "[I" := (jFd1 (ci := 7) (k := 19) rfl (Nat.le_of_ble_eq_true rfl) rfl rfl rfl)
theorem fd_WornSkinModel_codes : jFd [7] 22 "WornSkinModel" "codes" "[I" := (jFd1 (ci := 7) (k := 22) rfl (Nat.le_of_ble_eq_true rfl) rfl rfl rfl)
theorem fd_WornSkinModel_code : jFd [7] 23 "WornSkinModel" "code" "I" := (jFd1 (ci := 7) (k := 23) rfl (Nat.le_of_ble_eq_true rfl) rfl rfl rfl)
theorem fd_WornSkinModel_opened : jFd [7] 24 "WornSkinModel" "opened" "[I" := (jFd1 (ci := 7) (k := 24) rfl (Nat.le_of_ble_eq_true rfl) rfl rfl rfl)
theorem fd_WornSkinModel_compared : jFd [7] 25 "WornSkinModel" "compared" "[Z" := (jFd1 (ci := 7) (k := 25) rfl (Nat.le_of_ble_eq_true rfl) rfl rfl rfl)
theorem fd_WornSkinModel_lineTo : jFd [7] 21 "WornSkinModel" "lineTo" "[I" := (jFd1 (ci := 7) (k := 21) rfl (Nat.le_of_ble_eq_true rfl) rfl rfl rfl)
theorem fd_WornSkinModel_lineFrom : jFd [7] 20 "WornSkinModel" "lineFrom" "[I" := (jFd1 (ci := 7) (k := 20) rfl (Nat.le_of_ble_eq_true rfl) rfl rfl rfl)
theorem fd_WornSkinModel_s : jFd [7] 48 "WornSkinModel" "s" "[I" := (jFd1 (ci := 7) (k := 48) rfl (Nat.le_of_ble_eq_true rfl) rfl rfl rfl)
theorem fd_WornSkinModel_isLaid : jFd [7] 53 "WornSkinModel" "isLaid" "[Z" := (jFd1 (ci := 7) (k := 53) rfl (Nat.le_of_ble_eq_true rfl) rfl rfl rfl)
theorem fd_WornSkinModel_lines : jFd [7] 38 "WornSkinModel" "lines" "[I" := (jFd1 (ci := 7) (k := 38) rfl (Nat.le_of_ble_eq_true rfl) rfl rfl rfl)
theorem fd_WornSkinModel_seens : jFd [7] 43 "WornSkinModel" "seens" "[I" := (jFd1 (ci := 7) (k := 43) rfl (Nat.le_of_ble_eq_true rfl) rfl rfl rfl)
theorem fd_WornSkinModel_wrong : jFd [7] 9 "WornSkinModel" "wrong" "I" := (jFd1 (ci := 7) (k := 9) rfl (Nat.le_of_ble_eq_true rfl) rfl rfl rfl)
theorem fd_WornSkinModel_lineC : jFd [7] 42 "WornSkinModel" "lineC" "[I" := (jFd1 (ci := 7) (k := 42) rfl (Nat.le_of_ble_eq_true rfl) rfl rfl rfl)
theorem fd_WornSkinModel_lineB : jFd [7] 41 "WornSkinModel" "lineB" "[I" := (jFd1 (ci := 7) (k := 41) rfl (Nat.le_of_ble_eq_true rfl) rfl rfl rfl)
theorem fd_WornSkinModel_lineWhat : jFd [7] 39 "WornSkinModel" "lineWhat" "[I" := (jFd1 (ci := 7) (k := 39) rfl (Nat.le_of_ble_eq_true rfl) rfl rfl rfl)
theorem fd_WornSkinModel_lineA : jFd [7] 40 "WornSkinModel" "lineA" "[I" := (jFd1 (ci := 7) (k := 40) rfl (Nat.le_of_ble_eq_true rfl) rfl rfl rfl)
theorem fd_WornSkinModel_keptBy : jFd [7] 27 "WornSkinModel" "keptBy" "[I" := (jFd1 (ci := 7) (k := 27) rfl (Nat.le_of_ble_eq_true rfl) rfl rfl rfl)
theorem fd_WornSkinModel_against : jFd [7] 29 "WornSkinModel" "against" "[I" := (jFd1 (ci := 7) (k := 29) rfl (Nat.le_of_ble_eq_true rfl) rfl rfl rfl)
theorem fd_WornSkinModel_sum : jFd [7] 30 "WornSkinModel" "sum" "[I" := (jFd1 (ci := 7) (k := 30) rfl (Nat.le_of_ble_eq_true rfl) rfl rfl rfl)
theorem fd_WornSkinModel_sumBy : jFd [7] 31 "WornSkinModel" "sumBy" "[I" := (jFd1 (ci := 7) (k := 31) rfl (Nat.le_of_ble_eq_true rfl) rfl rfl rfl)
theorem fd_WornSkinModel_termBy : jFd [7] 33 "WornSkinModel" "termBy" "[I" := (jFd1 (ci := 7) (k := 33) rfl (Nat.le_of_ble_eq_true rfl) rfl rfl rfl)
theorem fd_WornSkinModel_term : jFd [7] 32 "WornSkinModel" "term" "[I" := (jFd1 (ci := 7) (k := 32) rfl (Nat.le_of_ble_eq_true rfl) rfl rfl rfl)
theorem fd_WornSkinModel_kept : jFd [7] 26 "WornSkinModel" "kept" "[I" := (jFd1 (ci := 7) (k := 26) rfl (Nat.le_of_ble_eq_true rfl) rfl rfl rfl)
theorem fd_WornSkinModel_ahead : jFd [7] 28 "WornSkinModel" "ahead" "[I" := (jFd1 (ci := 7) (k := 28) rfl (Nat.le_of_ble_eq_true rfl) rfl rfl rfl)
theorem fd_WornSkinModel_byNot : jFd [7] 34 "WornSkinModel" "byNot" "[I" := (jFd1 (ci := 7) (k := 34) rfl (Nat.le_of_ble_eq_true rfl) rfl rfl rfl)
theorem fd_WornSkinModel_valueOf : jFd [7] 35 "WornSkinModel" "valueOf" "[I" := (jFd1 (ci := 7) (k := 35) rfl (Nat.le_of_ble_eq_true rfl) rfl rfl rfl)
theorem fd_WornSkinModel_undone : jFd [7] 52 "WornSkinModel" "undone" "[I" := (jFd1 (ci := 7) (k := 52) rfl (Nat.le_of_ble_eq_true rfl) rfl rfl rfl)
theorem fd_WornSkinModel_done : jFd [7] 54 "WornSkinModel" "done" "I" := (jFd1 (ci := 7) (k := 54) rfl (Nat.le_of_ble_eq_true rfl) rfl rfl rfl)
theorem fd_WornSkinModel_aside : jFd [7] 49 "WornSkinModel" "aside" "[I" := (jFd1 (ci := 7) (k := 49) rfl (Nat.le_of_ble_eq_true rfl) rfl rfl rfl)
theorem fd_WornSkinModel_before : jFd [7] 50 "WornSkinModel" "before" "[I" := (jFd1 (ci := 7) (k := 50) rfl (Nat.le_of_ble_eq_true rfl) rfl rfl rfl)
theorem fd_WornSkinModel_row : jFd [7] 55 "WornSkinModel" "row" "[I" := (jFd1 (ci := 7) (k := 55) rfl (Nat.le_of_ble_eq_true rfl) rfl rfl rfl)
theorem fd_WornSkinModel_bestRow : jFd [7] 56 "WornSkinModel" "bestRow" "[I" := (jFd1 (ci := 7) (k := 56) rfl (Nat.le_of_ble_eq_true rfl) rfl rfl rfl)
theorem fd_WornSkinModel_most : jFd [7] 57 "WornSkinModel" "most" "I" := (jFd1 (ci := 7) (k := 57) rfl (Nat.le_of_ble_eq_true rfl) rfl rfl rfl)
theorem fd_WornSkinModel_seenSkin : jFd [7] 44 "WornSkinModel" "seenSkin" "[I" := (jFd1 (ci := 7) (k := 44) rfl (Nat.le_of_ble_eq_true rfl) rfl rfl rfl)
theorem fd_WornSkinModel_seenDeep : jFd [7] 45 "WornSkinModel" "seenDeep" "[I" := (jFd1 (ci := 7) (k := 45) rfl (Nat.le_of_ble_eq_true rfl) rfl rfl rfl)
theorem fd_WornSkinModel_seenDamp : jFd [7] 46 "WornSkinModel" "seenDamp" "[I" := (jFd1 (ci := 7) (k := 46) rfl (Nat.le_of_ble_eq_true rfl) rfl rfl rfl)
theorem fd_WornSkinModel_seenShows : jFd [7] 47 "WornSkinModel" "seenShows" "[Z" := (jFd1 (ci := 7) (k := 47) rfl (Nat.le_of_ble_eq_true rfl) rfl rfl rfl)
theorem fd_WornSkinModel_g : jFd [7] 58 "WornSkinModel" "g" "J" := (jFd1 (ci := 7) (k := 58) rfl (Nat.le_of_ble_eq_true rfl) rfl rfl rfl)
theorem fd_WornSkinModel_marked : jFd [7] 51 "WornSkinModel" "marked" "[I" := (jFd1 (ci := 7) (k := 51) rfl (Nat.le_of_ble_eq_true rfl) rfl rfl rfl)
theorem fp_java_util_AbstractList_modCount : jFp [4] 0 "java/util/AbstractList" "modCount" "I" false (.int) := (jFp1 (ty := .int) (by decide +kernel) cf_J2 (Nat.le_of_ble_eq_true rfl) rfl)
theorem fp_java_util_ArrayList_elementData : jFp [4] 1 "java/util/ArrayList" "elementData" "[Ljava/lang/Object;" false (.array (.object "java/lang/Object")) := (jFp1 (ty := .array (.object "java/lang/Object")) (by decide +kernel) cf_J2 (Nat.le_of_ble_eq_true rfl) rfl)
theorem fp_java_util_ArrayList_size : jFp [4] 2 "java/util/ArrayList" "size" "I" false (.int) := (jFp1 (ty := .int) (by decide +kernel) cf_J2 (Nat.le_of_ble_eq_true rfl) rfl)
theorem fp_java_util_ArrayList_modCount : jFp [4] 0 "java/util/AbstractList" "modCount" "I" false (.int) := (jFp1 (ty := .int) (by decide +kernel) cf_J2 (Nat.le_of_ble_eq_true rfl) rfl)
theorem fp_java_lang_Long_value : jFp [10] 0 "java/lang/Long" "value" "J" true (.long) := (jFp1 (ty := .long) (by decide +kernel) cf_J13 (Nat.le_of_ble_eq_true rfl) rfl)
theorem fp_java_lang_Integer_value : jFp [11] 0 "java/lang/Integer" "value" "I" true (.int) := (jFp1 (ty := .int) (by decide +kernel) cf_J16 (Nat.le_of_ble_eq_true rfl) rfl)
theorem fp_WornSkin_Facts_of : jFp [5] 0 "WornSkin$Facts" "of" "[I" true (.array (.int)) := (jFp1 (ty := .array (.int)) (by decide +kernel) cf_X5 (Nat.le_of_ble_eq_true rfl) rfl)
theorem fp_WornSkin_Plain_n : jFp [18] 0 "WornSkin$Plain" "n" "I" true (.int) := (jFp1 (ty := .int) (by decide +kernel) cf_X16 (Nat.le_of_ble_eq_true rfl) rfl)
theorem fp_WornSkin_Fact_which : jFp [17] 0 "WornSkin$Fact" "which" "I" true (.int) := (jFp1 (ty := .int) (by decide +kernel) cf_X15 (Nat.le_of_ble_eq_true rfl) rfl)
theorem fp_WornSkin_Not_e : jFp [19] 0 "WornSkin$Not" "e" "LWornSkin$Expression;" true (.object "WornSkin$Expression") := (jFp1 (ty := .object "WornSkin$Expression") (by decide +kernel) cf_X17 (Nat.le_of_ble_eq_true rfl) rfl)
theorem fp_WornSkin_Link_e : jFp [21, 22, 23, 24, 25, 26, 27] 0 "WornSkin$Link" "e" "LWornSkin$Expression;" true (.object "WornSkin$Expression") := (jFpc (jFp1 (ty := .object "WornSkin$Expression") (by decide +kernel) cf_X20 (Nat.le_of_ble_eq_true rfl) rfl) (jFpc (jFp1 (ty := .object "WornSkin$Expression") (by decide +kernel) cf_X21 (Nat.le_of_ble_eq_true rfl) rfl) (jFpc (jFp1 (ty := .object "WornSkin$Expression") (by decide +kernel) cf_X22 (Nat.le_of_ble_eq_true rfl) rfl) (jFpc (jFp1 (ty := .object "WornSkin$Expression") (by decide +kernel) cf_X23 (Nat.le_of_ble_eq_true rfl) rfl) (jFpc (jFp1 (ty := .object "WornSkin$Expression") (by decide +kernel) cf_X24 (Nat.le_of_ble_eq_true rfl) rfl) (jFpc (jFp1 (ty := .object "WornSkin$Expression") (by decide +kernel) cf_X25 (Nat.le_of_ble_eq_true rfl) rfl) (jFp1 (ty := .object "WornSkin$Expression") (by decide +kernel) cf_X26 (Nat.le_of_ble_eq_true rfl) rfl)))))))
theorem fp_WornSkin_Chain_links : jFp [20] 1 "WornSkin$Chain" "links" "Ljava/util/ArrayList;" true (.object "java/util/ArrayList") := (jFp1 (ty := .object "java/util/ArrayList") (by decide +kernel) cf_X18 (Nat.le_of_ble_eq_true rfl) rfl)
theorem fp_WornSkin_Chain_first : jFp [20] 0 "WornSkin$Chain" "first" "LWornSkin$Expression;" true (.object "WornSkin$Expression") := (jFp1 (ty := .object "WornSkin$Expression") (by decide +kernel) cf_X18 (Nat.le_of_ble_eq_true rfl) rfl)
theorem fp_WornSkin_Text_gall : jFp [13, 14, 15, 16] 0 "WornSkin$Text" "gall" "Z" true (.boolean) := (jFpc (jFp1 (ty := .boolean) (by decide +kernel) cf_X10 (Nat.le_of_ble_eq_true rfl) rfl) (jFpc (jFp1 (ty := .boolean) (by decide +kernel) cf_X11 (Nat.le_of_ble_eq_true rfl) rfl) (jFpc (jFp1 (ty := .boolean) (by decide +kernel) cf_X12 (Nat.le_of_ble_eq_true rfl) rfl) (jFp1 (ty := .boolean) (by decide +kernel) cf_X13 (Nat.le_of_ble_eq_true rfl) rfl))))
theorem fp_WornSkin_Text_lines : jFp [13, 14, 15, 16] 1 "WornSkin$Text" "lines" "I" true (.int) := (jFpc (jFp1 (ty := .int) (by decide +kernel) cf_X10 (Nat.le_of_ble_eq_true rfl) rfl) (jFpc (jFp1 (ty := .int) (by decide +kernel) cf_X11 (Nat.le_of_ble_eq_true rfl) rfl) (jFpc (jFp1 (ty := .int) (by decide +kernel) cf_X12 (Nat.le_of_ble_eq_true rfl) rfl) (jFp1 (ty := .int) (by decide +kernel) cf_X13 (Nat.le_of_ble_eq_true rfl) rfl))))
theorem fp_WornSkin_Skin_lines : jFp [12] 0 "WornSkin$Skin" "lines" "I" true (.int) := (jFp1 (ty := .int) (by decide +kernel) cf_X9 (Nat.le_of_ble_eq_true rfl) rfl)
theorem fp_WornSkin_Skin_thick : jFp [12] 1 "WornSkin$Skin" "thick" "I" true (.int) := (jFp1 (ty := .int) (by decide +kernel) cf_X9 (Nat.le_of_ble_eq_true rfl) rfl)
theorem fp_WornSkin_Library_names : jFp [3] 0 "WornSkin$Library" "names" "Ljava/util/ArrayList;" true (.object "java/util/ArrayList") := (jFp1 (ty := .object "java/util/ArrayList") (by decide +kernel) cf_X4 (Nat.le_of_ble_eq_true rfl) rfl)
theorem fp_WornSkin_Library_nameOf : jFp [3] 1 "WornSkin$Library" "nameOf" "Ljava/util/ArrayList;" true (.object "java/util/ArrayList") := (jFp1 (ty := .object "java/util/ArrayList") (by decide +kernel) cf_X4 (Nat.le_of_ble_eq_true rfl) rfl)
theorem fp_WornSkin_Library_skins : jFp [3] 2 "WornSkin$Library" "skins" "Ljava/util/ArrayList;" true (.object "java/util/ArrayList") := (jFp1 (ty := .object "java/util/ArrayList") (by decide +kernel) cf_X4 (Nat.le_of_ble_eq_true rfl) rfl)
theorem fp_WornSkin_Library_texts : jFp [3] 3 "WornSkin$Library" "texts" "Ljava/util/ArrayList;" true (.object "java/util/ArrayList") := (jFp1 (ty := .object "java/util/ArrayList") (by decide +kernel) cf_X4 (Nat.le_of_ble_eq_true rfl) rfl)
theorem fp_WornSkin_Library_damp : jFp [3] 4 "WornSkin$Library" "damp" "[I" true (.array (.int)) := (jFp1 (ty := .array (.int)) (by decide +kernel) cf_X4 (Nat.le_of_ble_eq_true rfl) rfl)
theorem fp_WornSkin_Library_facts : jFp [3] 7 "WornSkin$Library" "facts" "LWornSkin$Facts;" true (.object "WornSkin$Facts") := (jFp1 (ty := .object "WornSkin$Facts") (by decide +kernel) cf_X4 (Nat.le_of_ble_eq_true rfl) rfl)
theorem fp_WornSkin_Mark_shelf : jFp [32] 0 "WornSkin$Mark" "shelf" "LWornSkin$Shelf;" true (.object "WornSkin$Shelf") := (jFp1 (ty := .object "WornSkin$Shelf") (by decide +kernel) cf_X31 (Nat.le_of_ble_eq_true rfl) rfl)
theorem fp_WornSkin_Mark_lines : jFp [32] 1 "WornSkin$Mark" "lines" "Ljava/util/ArrayList;" true (.object "java/util/ArrayList") := (jFp1 (ty := .object "java/util/ArrayList") (by decide +kernel) cf_X31 (Nat.le_of_ble_eq_true rfl) rfl)
theorem fp_WornSkin_Mark_seen : jFp [32] 2 "WornSkin$Mark" "seen" "Ljava/util/ArrayList;" true (.object "java/util/ArrayList") := (jFp1 (ty := .object "java/util/ArrayList") (by decide +kernel) cf_X31 (Nat.le_of_ble_eq_true rfl) rfl)
theorem fp_WornSkin_Scrapes_skin : jFp [29] 0 "WornSkin$Scrapes" "skin" "I" true (.int) := (jFp1 (ty := .int) (by decide +kernel) cf_X29 (Nat.le_of_ble_eq_true rfl) rfl)
theorem fp_WornSkin_Scrapes_third : jFp [29] 1 "WornSkin$Scrapes" "third" "Z" true (.boolean) := (jFp1 (ty := .boolean) (by decide +kernel) cf_X29 (Nat.le_of_ble_eq_true rfl) rfl)
theorem fp_WornSkin_Writes_text : jFp [30] 0 "WornSkin$Writes" "text" "I" true (.int) := (jFp1 (ty := .int) (by decide +kernel) cf_X30 (Nat.le_of_ble_eq_true rfl) rfl)
theorem fp_WornSkin_Writes_skin : jFp [30] 1 "WornSkin$Writes" "skin" "I" true (.int) := (jFp1 (ty := .int) (by decide +kernel) cf_X30 (Nat.le_of_ble_eq_true rfl) rfl)
theorem fp_WornSkin_Writes_line : jFp [30] 2 "WornSkin$Writes" "line" "I" true (.int) := (jFp1 (ty := .int) (by decide +kernel) cf_X30 (Nat.le_of_ble_eq_true rfl) rfl)
theorem fp_WornSkin_Library_damps : jFp [3] 5 "WornSkin$Library" "damps" "I" false (.int) := (jFp1 (ty := .int) (by decide +kernel) cf_X4 (Nat.le_of_ble_eq_true rfl) rfl)
theorem fp_WornSkin_Shelf_thick : jFp [2] 3 "WornSkin$Shelf" "thick" "[I" true (.array (.int)) := (jFp1 (ty := .array (.int)) (by decide +kernel) cf_X3 (Nat.le_of_ble_eq_true rfl) rfl)
theorem fp_WornSkin_Shelf_of : jFp [2] 4 "WornSkin$Shelf" "of" "[I" true (.array (.int)) := (jFp1 (ty := .array (.int)) (by decide +kernel) cf_X3 (Nat.le_of_ble_eq_true rfl) rfl)
theorem fp_WornSkin_Shelf_many : jFp [2] 5 "WornSkin$Shelf" "many" "[I" true (.array (.int)) := (jFp1 (ty := .array (.int)) (by decide +kernel) cf_X3 (Nat.le_of_ble_eq_true rfl) rfl)
theorem fp_WornSkin_Shelf_open : jFp [2] 2 "WornSkin$Shelf" "open" "I" false (.int) := (jFp1 (ty := .int) (by decide +kernel) cf_X3 (Nat.le_of_ble_eq_true rfl) rfl)
theorem fp_WornSkin_Shelf_library : jFp [2] 0 "WornSkin$Shelf" "library" "LWornSkin$Library;" false (.object "WornSkin$Library") := (jFp1 (ty := .object "WornSkin$Library") (by decide +kernel) cf_X3 (Nat.le_of_ble_eq_true rfl) rfl)
theorem fp_WornSkin_Shelf_week : jFp [2] 1 "WornSkin$Shelf" "week" "I" false (.int) := (jFp1 (ty := .int) (by decide +kernel) cf_X3 (Nat.le_of_ble_eq_true rfl) rfl)
theorem fp_WornSkin_Wrong_fault : jFp [9] 6 "WornSkin$Wrong" "fault" "I" true (.int) := (jFp1 (ty := .int) (by decide +kernel) cf_X8 (Nat.le_of_ble_eq_true rfl) rfl)
theorem fp_WornSkin_Reader_facts : jFp [1] 0 "WornSkin$Reader" "facts" "[Ljava/lang/String;" true (.array (.object "java/lang/String")) := (jFp1 (ty := .array (.object "java/lang/String")) (by decide +kernel) cf_X2 (Nat.le_of_ble_eq_true rfl) rfl)
theorem fp_WornSkin_Reader_kinds : jFp [1] 1 "WornSkin$Reader" "kinds" "[Ljava/lang/String;" true (.array (.object "java/lang/String")) := (jFp1 (ty := .array (.object "java/lang/String")) (by decide +kernel) cf_X2 (Nat.le_of_ble_eq_true rfl) rfl)
theorem fp_WornSkin_Reader_kept : jFp [1] 2 "WornSkin$Reader" "kept" "[Ljava/lang/String;" true (.array (.object "java/lang/String")) := (jFp1 (ty := .array (.object "java/lang/String")) (by decide +kernel) cf_X2 (Nat.le_of_ble_eq_true rfl) rfl)
theorem fp_WornSkin_Reader_inks : jFp [1] 3 "WornSkin$Reader" "inks" "[Ljava/lang/String;" true (.array (.object "java/lang/String")) := (jFp1 (ty := .array (.object "java/lang/String")) (by decide +kernel) cf_X2 (Nat.le_of_ble_eq_true rfl) rfl)
theorem fp_WornSkin_Reader_acts : jFp [1] 4 "WornSkin$Reader" "acts" "[Ljava/lang/String;" true (.array (.object "java/lang/String")) := (jFp1 (ty := .array (.object "java/lang/String")) (by decide +kernel) cf_X2 (Nat.le_of_ble_eq_true rfl) rfl)
theorem fp_WornSkin_Reader_tape : jFp [1] 6 "WornSkin$Reader" "tape" "[I" true (.array (.int)) := (jFp1 (ty := .array (.int)) (by decide +kernel) cf_X2 (Nat.le_of_ble_eq_true rfl) rfl)
theorem fp_WornSkin_Reader_sort : jFp [1] 8 "WornSkin$Reader" "sort" "[I" true (.array (.int)) := (jFp1 (ty := .array (.int)) (by decide +kernel) cf_X2 (Nat.le_of_ble_eq_true rfl) rfl)
theorem fp_WornSkin_Reader_value : jFp [1] 9 "WornSkin$Reader" "value" "[J" true (.array (.long)) := (jFp1 (ty := .array (.long)) (by decide +kernel) cf_X2 (Nat.le_of_ble_eq_true rfl) rfl)
theorem fp_WornSkin_Reader_place : jFp [1] 10 "WornSkin$Reader" "place" "[I" true (.array (.int)) := (jFp1 (ty := .array (.int)) (by decide +kernel) cf_X2 (Nat.le_of_ble_eq_true rfl) rfl)
theorem fp_WornSkin_Reader_taped : jFp [1] 7 "WornSkin$Reader" "taped" "I" false (.int) := (jFp1 (ty := .int) (by decide +kernel) cf_X2 (Nat.le_of_ble_eq_true rfl) rfl)
theorem fp_WornSkin_Reader_at : jFp [1] 11 "WornSkin$Reader" "at" "I" false (.int) := (jFp1 (ty := .int) (by decide +kernel) cf_X2 (Nat.le_of_ble_eq_true rfl) rfl)
theorem fp_WornSkin_Skin_holes : jFp [12] 2 "WornSkin$Skin" "holes" "I" false (.int) := (jFp1 (ty := .int) (by decide +kernel) cf_X9 (Nat.le_of_ble_eq_true rfl) rfl)
theorem fp_WornSkin_Reader_draft : jFp [1] 5 "WornSkin$Reader" "draft" "LWornSkin$Library;" false (.object "WornSkin$Library") := (jFp1 (ty := .object "WornSkin$Library") (by decide +kernel) cf_X2 (Nat.le_of_ble_eq_true rfl) rfl)
theorem fp_WornSkin_Reader_deep : jFp [1] 12 "WornSkin$Reader" "deep" "I" false (.int) := (jFp1 (ty := .int) (by decide +kernel) cf_X2 (Nat.le_of_ble_eq_true rfl) rfl)
theorem fp_WornSkin_Library_shows : jFp [3] 6 "WornSkin$Library" "shows" "LWornSkin$Expression;" false (.object "WornSkin$Expression") := (jFp1 (ty := .object "WornSkin$Expression") (by decide +kernel) cf_X4 (Nat.le_of_ble_eq_true rfl) rfl)
theorem fp_WornSkin_shelf : jFp [0] 1 "WornSkin" "shelf" "LWornSkin$Shelf;" false (.object "WornSkin$Shelf") := (jFp1 (ty := .object "WornSkin$Shelf") (by decide +kernel) cf_X1 (Nat.le_of_ble_eq_true rfl) rfl)
theorem fp_WornSkin_lines : jFp [0] 3 "WornSkin" "lines" "Ljava/util/ArrayList;" false (.object "java/util/ArrayList") := (jFp1 (ty := .object "java/util/ArrayList") (by decide +kernel) cf_X1 (Nat.le_of_ble_eq_true rfl) rfl)
theorem fp_WornSkin_seen : jFp [0] 4 "WornSkin" "seen" "Ljava/util/ArrayList;" false (.object "java/util/ArrayList") := (jFp1 (ty := .object "java/util/ArrayList") (by decide +kernel) cf_X1 (Nat.le_of_ble_eq_true rfl) rfl)
theorem fp_WornSkin_g : jFp [0] 7 "WornSkin" "g" "J" false (.long) := (jFp1 (ty := .long) (by decide +kernel) cf_X1 (Nat.le_of_ble_eq_true rfl) rfl)
theorem fp_WornSkin_Lays_this_0 : jFp [6] 3 "WornSkin$Lays" "this$0" "LWornSkin;" true (.object "WornSkin") := (jFp1 (ty := .object "WornSkin") (by decide +kernel) cf_X6 (Nat.le_of_ble_eq_true rfl) rfl)
theorem fp_WornSkin_Lays_row : jFp [6] 0 "WornSkin$Lays" "row" "[I" true (.array (.int)) := (jFp1 (ty := .array (.int)) (by decide +kernel) cf_X6 (Nat.le_of_ble_eq_true rfl) rfl)
theorem fp_WornSkin_Lays_best : jFp [6] 1 "WornSkin$Lays" "best" "[I" true (.array (.int)) := (jFp1 (ty := .array (.int)) (by decide +kernel) cf_X6 (Nat.le_of_ble_eq_true rfl) rfl)
theorem fp_WornSkin_reader : jFp [0] 0 "WornSkin" "reader" "LWornSkin$Reader;" true (.object "WornSkin$Reader") := (jFp1 (ty := .object "WornSkin$Reader") (by decide +kernel) cf_X1 (Nat.le_of_ble_eq_true rfl) rfl)
theorem fp_WornSkin_trial : jFp [0] 2 "WornSkin" "trial" "LWornSkin$Shelf;" true (.object "WornSkin$Shelf") := (jFp1 (ty := .object "WornSkin$Shelf") (by decide +kernel) cf_X1 (Nat.le_of_ble_eq_true rfl) rfl)
theorem fp_WornSkin_behind : jFp [0] 5 "WornSkin" "behind" "Ljava/util/ArrayList;" true (.object "java/util/ArrayList") := (jFp1 (ty := .object "java/util/ArrayList") (by decide +kernel) cf_X1 (Nat.le_of_ble_eq_true rfl) rfl)
theorem fp_WornSkin_lays : jFp [0] 6 "WornSkin" "lays" "LWornSkin$Lays;" true (.object "WornSkin$Lays") := (jFp1 (ty := .object "WornSkin$Lays") (by decide +kernel) cf_X1 (Nat.le_of_ble_eq_true rfl) rfl)
theorem fp_WornSkin_marks : jFp [0] 8 "WornSkin" "marks" "[LWornSkin$Mark;" true (.array (.object "WornSkin$Mark")) := (jFp1 (ty := .array (.object "WornSkin$Mark")) (by decide +kernel) cf_X1 (Nat.le_of_ble_eq_true rfl) rfl)
theorem fp_WornSkin_Lays_most : jFp [6] 2 "WornSkin$Lays" "most" "I" false (.int) := (jFp1 (ty := .int) (by decide +kernel) cf_X6 (Nat.le_of_ble_eq_true rfl) rfl)
theorem fp_WornSkinModel_tape : jFp [7] 2 "WornSkinModel" "tape" "[I" true (.array (.int)) := (jFp1 (ty := .array (.int)) (by decide +kernel) cf_X7 (Nat.le_of_ble_eq_true rfl) rfl)
theorem fp_WornSkinModel_library : jFp [7] 10 "WornSkinModel" "library" "[I" true (.array (.int)) := (jFp1 (ty := .array (.int)) (by decide +kernel) cf_X7 (Nat.le_of_ble_eq_true rfl) rfl)
theorem fp_WornSkinModel_skinName : jFp [7] 11 "WornSkinModel" "skinName" "[J" true (.array (.long)) := (jFp1 (ty := .array (.long)) (by decide +kernel) cf_X7 (Nat.le_of_ble_eq_true rfl) rfl)
theorem fp_WornSkinModel_textName : jFp [7] 12 "WornSkinModel" "textName" "[J" true (.array (.long)) := (jFp1 (ty := .array (.long)) (by decide +kernel) cf_X7 (Nat.le_of_ble_eq_true rfl) rfl)
theorem fp_WornSkinModel_linesOf : jFp [7] 13 "WornSkinModel" "linesOf" "[I" true (.array (.int)) := (jFp1 (ty := .array (.int)) (by decide +kernel) cf_X7 (Nat.le_of_ble_eq_true rfl) rfl)
theorem fp_WornSkinModel_thickTold : jFp [7] 14 "WornSkinModel" "thickTold" "[I" true (.array (.int)) := (jFp1 (ty := .array (.int)) (by decide +kernel) cf_X7 (Nat.le_of_ble_eq_true rfl) rfl)
theorem fp_WornSkinModel_holes : jFp [7] 15 "WornSkinModel" "holes" "[I" true (.array (.int)) := (jFp1 (ty := .array (.int)) (by decide +kernel) cf_X7 (Nat.le_of_ble_eq_true rfl) rfl)
theorem fp_WornSkinModel_kind : jFp [7] 16 "WornSkinModel" "kind" "[I" true (.array (.int)) := (jFp1 (ty := .array (.int)) (by decide +kernel) cf_X7 (Nat.le_of_ble_eq_true rfl) rfl)
theorem fp_WornSkinModel_gall : jFp [7] 17 "WornSkinModel" "gall" "[I" true (.array (.int)) := (jFp1 (ty := .array (.int)) (by decide +kernel) cf_X7 (Nat.le_of_ble_eq_true rfl) rfl)
theorem fp_WornSkinModel_long0 : jFp [7] 18 "WornSkinModel" "long0" "[I" true (.array (.int)) := (jFp1 (ty := .array (.int)) (by decide +kernel) cf_X7 (Nat.le_of_ble_eq_true rfl) rfl)
theorem fp_WornSkinModel_damp : jFp [7] 19 "WornSkinModel" "damp" "[I" true (.array (.int)) := (jFp1 (ty := .array (.int)) (by decide +kernel) cf_X7 (Nat.le_of_ble_eq_true rfl) rfl)
theorem fp_WornSkinModel_lineFrom : jFp [7] 20 "WornSkinModel" "lineFrom" "[I" true (.array (.int)) := (jFp1 (ty := .array (.int)) (by decide +kernel) cf_X7 (Nat.le_of_ble_eq_true rfl) rfl)
theorem fp_WornSkinModel_lineTo : jFp [7] 21 "WornSkinModel" "lineTo" "[I" true (.array (.int)) := (jFp1 (ty := .array (.int)) (by decide +kernel) cf_X7 (Nat.le_of_ble_eq_true rfl) rfl)
theorem fp_WornSkinModel_codes : jFp [7] 22 "WornSkinModel" "codes" "[I" true (.array (.int)) := (jFp1 (ty := .array (.int)) (by decide +kernel) cf_X7 (Nat.le_of_ble_eq_true rfl) rfl)
theorem fp_WornSkinModel_opened : jFp [7] 24 "WornSkinModel" "opened" "[I" true (.array (.int)) := (jFp1 (ty := .array (.int)) (by decide +kernel) cf_X7 (Nat.le_of_ble_eq_true rfl) rfl)
theorem fp_WornSkinModel_compared : jFp [7] 25 "WornSkinModel" "compared" "[Z" true (.array (.boolean)) := (jFp1 (ty := .array (.boolean)) (by decide +kernel) cf_X7 (Nat.le_of_ble_eq_true rfl) rfl)
theorem fp_WornSkinModel_kept : jFp [7] 26 "WornSkinModel" "kept" "[I" true (.array (.int)) := (jFp1 (ty := .array (.int)) (by decide +kernel) cf_X7 (Nat.le_of_ble_eq_true rfl) rfl)
theorem fp_WornSkinModel_keptBy : jFp [7] 27 "WornSkinModel" "keptBy" "[I" true (.array (.int)) := (jFp1 (ty := .array (.int)) (by decide +kernel) cf_X7 (Nat.le_of_ble_eq_true rfl) rfl)
theorem fp_WornSkinModel_ahead : jFp [7] 28 "WornSkinModel" "ahead" "[I" true (.array (.int)) := (jFp1 (ty := .array (.int)) (by decide +kernel) cf_X7 (Nat.le_of_ble_eq_true rfl) rfl)
theorem fp_WornSkinModel_against : jFp [7] 29 "WornSkinModel" "against" "[I" true (.array (.int)) := (jFp1 (ty := .array (.int)) (by decide +kernel) cf_X7 (Nat.le_of_ble_eq_true rfl) rfl)
theorem fp_WornSkinModel_sum : jFp [7] 30 "WornSkinModel" "sum" "[I" true (.array (.int)) := (jFp1 (ty := .array (.int)) (by decide +kernel) cf_X7 (Nat.le_of_ble_eq_true rfl) rfl)
theorem fp_WornSkinModel_sumBy : jFp [7] 31 "WornSkinModel" "sumBy" "[I" true (.array (.int)) := (jFp1 (ty := .array (.int)) (by decide +kernel) cf_X7 (Nat.le_of_ble_eq_true rfl) rfl)
theorem fp_WornSkinModel_term : jFp [7] 32 "WornSkinModel" "term" "[I" true (.array (.int)) := (jFp1 (ty := .array (.int)) (by decide +kernel) cf_X7 (Nat.le_of_ble_eq_true rfl) rfl)
theorem fp_WornSkinModel_termBy : jFp [7] 33 "WornSkinModel" "termBy" "[I" true (.array (.int)) := (jFp1 (ty := .array (.int)) (by decide +kernel) cf_X7 (Nat.le_of_ble_eq_true rfl) rfl)
theorem fp_WornSkinModel_byNot : jFp [7] 34 "WornSkinModel" "byNot" "[I" true (.array (.int)) := (jFp1 (ty := .array (.int)) (by decide +kernel) cf_X7 (Nat.le_of_ble_eq_true rfl) rfl)
theorem fp_WornSkinModel_valueOf : jFp [7] 35 "WornSkinModel" "valueOf" "[I" true (.array (.int)) := (jFp1 (ty := .array (.int)) (by decide +kernel) cf_X7 (Nat.le_of_ble_eq_true rfl) rfl)
theorem fp_WornSkinModel_lines : jFp [7] 38 "WornSkinModel" "lines" "[I" true (.array (.int)) := (jFp1 (ty := .array (.int)) (by decide +kernel) cf_X7 (Nat.le_of_ble_eq_true rfl) rfl)
theorem fp_WornSkinModel_lineWhat : jFp [7] 39 "WornSkinModel" "lineWhat" "[I" true (.array (.int)) := (jFp1 (ty := .array (.int)) (by decide +kernel) cf_X7 (Nat.le_of_ble_eq_true rfl) rfl)
theorem fp_WornSkinModel_lineA : jFp [7] 40 "WornSkinModel" "lineA" "[I" true (.array (.int)) := (jFp1 (ty := .array (.int)) (by decide +kernel) cf_X7 (Nat.le_of_ble_eq_true rfl) rfl)
theorem fp_WornSkinModel_lineB : jFp [7] 41 "WornSkinModel" "lineB" "[I" true (.array (.int)) := (jFp1 (ty := .array (.int)) (by decide +kernel) cf_X7 (Nat.le_of_ble_eq_true rfl) rfl)
theorem fp_WornSkinModel_lineC : jFp [7] 42 "WornSkinModel" "lineC" "[I" true (.array (.int)) := (jFp1 (ty := .array (.int)) (by decide +kernel) cf_X7 (Nat.le_of_ble_eq_true rfl) rfl)
theorem fp_WornSkinModel_seens : jFp [7] 43 "WornSkinModel" "seens" "[I" true (.array (.int)) := (jFp1 (ty := .array (.int)) (by decide +kernel) cf_X7 (Nat.le_of_ble_eq_true rfl) rfl)
theorem fp_WornSkinModel_seenSkin : jFp [7] 44 "WornSkinModel" "seenSkin" "[I" true (.array (.int)) := (jFp1 (ty := .array (.int)) (by decide +kernel) cf_X7 (Nat.le_of_ble_eq_true rfl) rfl)
theorem fp_WornSkinModel_seenDeep : jFp [7] 45 "WornSkinModel" "seenDeep" "[I" true (.array (.int)) := (jFp1 (ty := .array (.int)) (by decide +kernel) cf_X7 (Nat.le_of_ble_eq_true rfl) rfl)
theorem fp_WornSkinModel_seenDamp : jFp [7] 46 "WornSkinModel" "seenDamp" "[I" true (.array (.int)) := (jFp1 (ty := .array (.int)) (by decide +kernel) cf_X7 (Nat.le_of_ble_eq_true rfl) rfl)
theorem fp_WornSkinModel_seenShows : jFp [7] 47 "WornSkinModel" "seenShows" "[Z" true (.array (.boolean)) := (jFp1 (ty := .array (.boolean)) (by decide +kernel) cf_X7 (Nat.le_of_ble_eq_true rfl) rfl)
theorem fp_WornSkinModel_s : jFp [7] 48 "WornSkinModel" "s" "[I" true (.array (.int)) := (jFp1 (ty := .array (.int)) (by decide +kernel) cf_X7 (Nat.le_of_ble_eq_true rfl) rfl)
theorem fp_WornSkinModel_aside : jFp [7] 49 "WornSkinModel" "aside" "[I" true (.array (.int)) := (jFp1 (ty := .array (.int)) (by decide +kernel) cf_X7 (Nat.le_of_ble_eq_true rfl) rfl)
theorem fp_WornSkinModel_before : jFp [7] 50 "WornSkinModel" "before" "[I" true (.array (.int)) := (jFp1 (ty := .array (.int)) (by decide +kernel) cf_X7 (Nat.le_of_ble_eq_true rfl) rfl)
theorem fp_WornSkinModel_marked : jFp [7] 51 "WornSkinModel" "marked" "[I" true (.array (.int)) := (jFp1 (ty := .array (.int)) (by decide +kernel) cf_X7 (Nat.le_of_ble_eq_true rfl) rfl)
theorem fp_WornSkinModel_undone : jFp [7] 52 "WornSkinModel" "undone" "[I" true (.array (.int)) := (jFp1 (ty := .array (.int)) (by decide +kernel) cf_X7 (Nat.le_of_ble_eq_true rfl) rfl)
theorem fp_WornSkinModel_isLaid : jFp [7] 53 "WornSkinModel" "isLaid" "[Z" true (.array (.boolean)) := (jFp1 (ty := .array (.boolean)) (by decide +kernel) cf_X7 (Nat.le_of_ble_eq_true rfl) rfl)
theorem fp_WornSkinModel_row : jFp [7] 55 "WornSkinModel" "row" "[I" true (.array (.int)) := (jFp1 (ty := .array (.int)) (by decide +kernel) cf_X7 (Nat.le_of_ble_eq_true rfl) rfl)
theorem fp_WornSkinModel_bestRow : jFp [7] 56 "WornSkinModel" "bestRow" "[I" true (.array (.int)) := (jFp1 (ty := .array (.int)) (by decide +kernel) cf_X7 (Nat.le_of_ble_eq_true rfl) rfl)
theorem fp_WornSkinModel_taped : jFp [7] 1 "WornSkinModel" "taped" "I" false (.int) := (jFp1 (ty := .int) (by decide +kernel) cf_X7 (Nat.le_of_ble_eq_true rfl) rfl)
theorem fp_WornSkinModel_thrown : jFp [7] 0 "WornSkinModel" "thrown" "I" false (.int) := (jFp1 (ty := .int) (by decide +kernel) cf_X7 (Nat.le_of_ble_eq_true rfl) rfl)
theorem fp_WornSkinModel_token : jFp [7] 6 "WornSkinModel" "token" "I" false (.int) := (jFp1 (ty := .int) (by decide +kernel) cf_X7 (Nat.le_of_ble_eq_true rfl) rfl)
theorem fp_WornSkinModel_place : jFp [7] 4 "WornSkinModel" "place" "I" false (.int) := (jFp1 (ty := .int) (by decide +kernel) cf_X7 (Nat.le_of_ble_eq_true rfl) rfl)
theorem fp_WornSkinModel_told : jFp [7] 8 "WornSkinModel" "told" "I" false (.int) := (jFp1 (ty := .int) (by decide +kernel) cf_X7 (Nat.le_of_ble_eq_true rfl) rfl)
theorem fp_WornSkinModel_word : jFp [7] 7 "WornSkinModel" "word" "J" false (.long) := (jFp1 (ty := .long) (by decide +kernel) cf_X7 (Nat.le_of_ble_eq_true rfl) rfl)
theorem fp_WornSkinModel_begin : jFp [7] 5 "WornSkinModel" "begin" "I" false (.int) := (jFp1 (ty := .int) (by decide +kernel) cf_X7 (Nat.le_of_ble_eq_true rfl) rfl)
theorem fp_WornSkinModel_size : jFp [7] 3 "WornSkinModel" "size" "I" false (.int) := (jFp1 (ty := .int) (by decide +kernel) cf_X7 (Nat.le_of_ble_eq_true rfl) rfl)
theorem fp_WornSkinModel_wrong : jFp [7] 9 "WornSkinModel" "wrong" "I" false (.int) := (jFp1 (ty := .int) (by decide +kernel) cf_X7 (Nat.le_of_ble_eq_true rfl) rfl)
theorem fp_WornSkinModel_fresh : jFp [7] 37 "WornSkinModel" "fresh" "J" false (.long) := (jFp1 (ty := .long) (by decide +kernel) cf_X7 (Nat.le_of_ble_eq_true rfl) rfl)
theorem fp_WornSkinModel_given : jFp [7] 36 "WornSkinModel" "given" "I" false (.int) := (jFp1 (ty := .int) (by decide +kernel) cf_X7 (Nat.le_of_ble_eq_true rfl) rfl)
theorem fp_WornSkinModel_code : jFp [7] 23 "WornSkinModel" "code" "I" false (.int) := (jFp1 (ty := .int) (by decide +kernel) cf_X7 (Nat.le_of_ble_eq_true rfl) rfl)
theorem fp_WornSkinModel_done : jFp [7] 54 "WornSkinModel" "done" "I" false (.int) := (jFp1 (ty := .int) (by decide +kernel) cf_X7 (Nat.le_of_ble_eq_true rfl) rfl)
theorem fp_WornSkinModel_most : jFp [7] 57 "WornSkinModel" "most" "I" false (.int) := (jFp1 (ty := .int) (by decide +kernel) cf_X7 (Nat.le_of_ble_eq_true rfl) rfl)
theorem fp_WornSkinModel_g : jFp [7] 58 "WornSkinModel" "g" "J" false (.long) := (jFp1 (ty := .long) (by decide +kernel) cf_X7 (Nat.le_of_ble_eq_true rfl) rfl)
theorem cn_J13 : jCn 10 "java/lang/Long" 1 [.long 0] := ⟨_, _, _, cf_J13, (by decide), rfl, q714, q133⟩
theorem cn_J16 : jCn 11 "java/lang/Integer" 1 [.int 0] := ⟨_, _, _, cf_J16, (by decide), rfl, q807, q138⟩
theorem cn_J2 : jCn 4 "java/util/ArrayList" 3 [.int 0, .null, .int 0] := ⟨_, _, _, cf_J2, (by decide), rfl, q289, q118⟩
theorem cn_X5 : jCn 5 "WornSkin$Facts" 1 [.null] := ⟨_, _, _, cf_X5, (by decide), rfl, q317, q119⟩
theorem cn_X11 : jCn 14 "WornSkin$Psalm" 2 [.int 0, .int 0] := ⟨_, _, _, cf_X11, (by decide), rfl, q878, q142⟩
theorem cn_X12 : jCn 15 "WornSkin$Recipe" 2 [.int 0, .int 0] := ⟨_, _, _, cf_X12, (by decide), rfl, q900, q143⟩
theorem cn_X13 : jCn 16 "WornSkin$Oath" 2 [.int 0, .int 0] := ⟨_, _, _, cf_X13, (by decide), rfl, q909, q144⟩
theorem cn_X10 : jCn 13 "WornSkin$Text" 2 [.int 0, .int 0] := ⟨_, _, _, cf_X10, (by decide), rfl, q918, q141⟩
theorem cn_X3 : jCn 2 "WornSkin$Shelf" 6 [.null, .int 0, .int 0, .null, .null, .null] := ⟨_, _, _, cf_X3, (by decide), rfl, q250, q114⟩
theorem cn_X8 : jCn 9 "WornSkin$Wrong" 7 [.null, .null, .null, .null, .null, .int 0, .int 0] := ⟨_, _, _, cf_X8, (by decide), rfl, q622, q131⟩
theorem cn_X9 : jCn 12 "WornSkin$Skin" 3 [.int 0, .int 0, .int 0] := ⟨_, _, _, cf_X9, (by decide), rfl, q833, q140⟩
theorem cn_X18 : jCn 20 "WornSkin$Chain" 2 [.null, .null] := ⟨_, _, _, cf_X18, (by decide), rfl, q1008, q149⟩
theorem cn_X30 : jCn 30 "WornSkin$Writes" 3 [.int 0, .int 0, .int 0] := ⟨_, _, _, cf_X30, (by decide), rfl, q1130, q161⟩
theorem cn_X29 : jCn 29 "WornSkin$Scrapes" 2 [.int 0, .int 0] := ⟨_, _, _, cf_X29, (by decide), rfl, q1117, q160⟩
theorem cn_X28 : jCn 28 "WornSkin$Weeks" 0 [] := ⟨_, _, _, cf_X28, (fun j h => absurd h (Nat.not_lt_zero _)), rfl, q1107, q159⟩
theorem cn_X20 : jCn 21 "WornSkin$Times" 1 [.null] := ⟨_, _, _, cf_X20, (by decide), rfl, q1024, q151⟩
theorem cn_X22 : jCn 23 "WornSkin$Minus" 1 [.null] := ⟨_, _, _, cf_X22, (by decide), rfl, q1045, q153⟩
theorem cn_X21 : jCn 22 "WornSkin$Plus" 1 [.null] := ⟨_, _, _, cf_X21, (by decide), rfl, q1037, q152⟩
theorem cn_X24 : jCn 25 "WornSkin$Same" 1 [.null] := ⟨_, _, _, cf_X24, (by decide), rfl, q1061, q155⟩
theorem cn_X23 : jCn 24 "WornSkin$Less" 1 [.null] := ⟨_, _, _, cf_X23, (by decide), rfl, q1053, q154⟩
theorem cn_X26 : jCn 27 "WornSkin$Or" 1 [.null] := ⟨_, _, _, cf_X26, (by decide), rfl, q1077, q157⟩
theorem cn_X25 : jCn 26 "WornSkin$And" 1 [.null] := ⟨_, _, _, cf_X25, (by decide), rfl, q1069, q156⟩
theorem cn_X17 : jCn 19 "WornSkin$Not" 1 [.null] := ⟨_, _, _, cf_X17, (by decide), rfl, q987, q148⟩
theorem cn_X16 : jCn 18 "WornSkin$Plain" 1 [.int 0] := ⟨_, _, _, cf_X16, (by decide), rfl, q977, q147⟩
theorem cn_X15 : jCn 17 "WornSkin$Fact" 1 [.int 0] := ⟨_, _, _, cf_X15, (by decide), rfl, q964, q146⟩
theorem cn_X4 : jCn 3 "WornSkin$Library" 8 [.null, .null, .null, .null, .null, .int 0, .null, .null] := ⟨_, _, _, cf_X4, (by decide), rfl, q283, q115⟩
theorem cn_X31 : jCn 32 "WornSkin$Mark" 3 [.null, .null, .null] := ⟨_, _, _, cf_X31, (by decide), rfl, q1612, q164⟩
theorem cn_J18 : jCn 31 "java/util/NoSuchElementException" 6 [.null, .null, .null, .null, .null, .int 0] := ⟨_, _, _, cf_J18, (by decide), rfl, q1653, q163⟩
theorem cn_X2 : jCn 1 "WornSkin$Reader" 13 [.null, .null, .null, .null, .null, .null, .null, .int 0, .null, .null, .null, .int 0, .int 0] := ⟨_, _, _, cf_X2, (by decide), rfl, q174, q113⟩
theorem cn_X6 : jCn 6 "WornSkin$Lays" 4 [.null, .null, .int 0, .null] := ⟨_, _, _, cf_X6, (by decide), rfl, q406, q122⟩
theorem cn_X1 : jCn 0 "WornSkin" 9 [.null, .null, .null, .null, .null, .null, .null, .long 0, .null] := ⟨_, _, _, cf_X1, (by decide), rfl, q166, q112⟩
theorem cn_X7 : jCn 7 "WornSkinModel" 59 [.int 0, .int 0, .null, .int 0, .int 0, .int 0, .int 0, .long 0, .int 0, .int 0, .null, .null, .null, .null, .null, .null, .null, .null, .null, .null, .null, .null, .null, .int 0, .null, .null, .null, .null, .null, .null, .null, .null, .null, .null, .null, .null, .int 0, .long 0, .null, .null, .null, .null, .null, .null, .null, .null, .null, .null, .null, .null, .null, .null, .null, .null, .int 0, .null, .null, .int 0, .long 0] := ⟨_, _, _, cf_X7, (by decide), rfl, q1679, q123⟩
theorem ok_java_lang_Object : jOk okl_java_lang_Object "java/lang/Object" := List.forall_mem_cons.mpr ⟨Or.inr q2325, List.forall_mem_cons.mpr ⟨Or.inr q2326, List.forall_mem_cons.mpr ⟨Or.inr q2327, List.forall_mem_cons.mpr ⟨Or.inr q2328, List.forall_mem_cons.mpr ⟨Or.inr q2329, List.forall_mem_cons.mpr ⟨Or.inr q2330, List.forall_mem_cons.mpr ⟨Or.inr q2331, List.forall_mem_cons.mpr ⟨Or.inr q2332, List.forall_mem_cons.mpr ⟨Or.inr q2356, List.forall_mem_cons.mpr ⟨Or.inr q2333, List.forall_mem_cons.mpr ⟨Or.inr q2334, List.forall_mem_cons.mpr ⟨Or.inr q2335, List.forall_mem_cons.mpr ⟨Or.inr q2336, List.forall_mem_cons.mpr ⟨Or.inr q2340, List.forall_mem_cons.mpr ⟨Or.inr q2337, List.forall_mem_cons.mpr ⟨Or.inr q2338, List.forall_mem_cons.mpr ⟨Or.inr q2339, List.forall_mem_cons.mpr ⟨Or.inr q2341, List.forall_mem_cons.mpr ⟨Or.inr q2342, List.forall_mem_cons.mpr ⟨Or.inr q2343, List.forall_mem_cons.mpr ⟨Or.inr q2344, List.forall_mem_cons.mpr ⟨Or.inr q2345, List.forall_mem_cons.mpr ⟨Or.inr q2346, List.forall_mem_cons.mpr ⟨Or.inr q2347, List.forall_mem_cons.mpr ⟨Or.inr q2348, List.forall_mem_cons.mpr ⟨Or.inr q2349, List.forall_mem_cons.mpr ⟨Or.inr q2350, List.forall_mem_cons.mpr ⟨Or.inr q2351, List.forall_mem_cons.mpr ⟨Or.inr q2352, List.forall_mem_cons.mpr ⟨Or.inr q2353, List.forall_mem_cons.mpr ⟨Or.inr q2354, List.forall_mem_cons.mpr ⟨Or.inr q2355, List.forall_mem_cons.mpr ⟨Or.inr q2324, List.forall_mem_cons.mpr ⟨Or.inr q2323, List.forall_mem_cons.mpr ⟨Or.inr q2362, List.forall_mem_cons.mpr ⟨Or.inr q2363, List.forall_mem_cons.mpr ⟨Or.inr q2366, List.forall_mem_cons.mpr ⟨Or.inr q2361, List.forall_mem_cons.mpr ⟨Or.inr q2364, List.forall_mem_cons.mpr ⟨Or.inr q2360, List.forall_mem_cons.mpr ⟨Or.inr q2365, fun _ h => absurd h List.not_mem_nil⟩⟩⟩⟩⟩⟩⟩⟩⟩⟩⟩⟩⟩⟩⟩⟩⟩⟩⟩⟩⟩⟩⟩⟩⟩⟩⟩⟩⟩⟩⟩⟩⟩⟩⟩⟩⟩⟩⟩⟩⟩
theorem ok_WornSkin_Link : jOk okl_WornSkin_Link "WornSkin$Link" := List.forall_mem_cons.mpr ⟨Or.inr q2319, List.forall_mem_cons.mpr ⟨Or.inr q2317, List.forall_mem_cons.mpr ⟨Or.inr q2315, List.forall_mem_cons.mpr ⟨Or.inr q2314, List.forall_mem_cons.mpr ⟨Or.inr q2318, List.forall_mem_cons.mpr ⟨Or.inr q2313, List.forall_mem_cons.mpr ⟨Or.inr q2316, fun _ h => absurd h List.not_mem_nil⟩⟩⟩⟩⟩⟩⟩
theorem ok_java_lang_Integer : jOk [11] "java/lang/Integer" := List.forall_mem_cons.mpr ⟨Or.inl rfl, fun _ h => absurd h List.not_mem_nil⟩
theorem ok_java_lang_Long : jOk [10] "java/lang/Long" := List.forall_mem_cons.mpr ⟨Or.inl rfl, fun _ h => absurd h List.not_mem_nil⟩
theorem ok_WornSkin_Skin : jOk [12] "WornSkin$Skin" := List.forall_mem_cons.mpr ⟨Or.inl rfl, fun _ h => absurd h List.not_mem_nil⟩
theorem ok_WornSkin_Text : jOk [13, 14, 15, 16] "WornSkin$Text" := List.forall_mem_cons.mpr ⟨Or.inl rfl, List.forall_mem_cons.mpr ⟨Or.inr q2311, List.forall_mem_cons.mpr ⟨Or.inr q2312, List.forall_mem_cons.mpr ⟨Or.inr q2310, fun _ h => absurd h List.not_mem_nil⟩⟩⟩⟩
theorem ok_java_lang_String : jOk [33] "java/lang/String" := List.forall_mem_cons.mpr ⟨Or.inl rfl, fun _ h => absurd h List.not_mem_nil⟩
theorem ok_WornSkin_Mark : jOk [32] "WornSkin$Mark" := List.forall_mem_cons.mpr ⟨Or.inl rfl, fun _ h => absurd h List.not_mem_nil⟩
theorem ok_WornSkin_Shelf : jOk [2] "WornSkin$Shelf" := List.forall_mem_cons.mpr ⟨Or.inl rfl, fun _ h => absurd h List.not_mem_nil⟩
theorem ok_WornSkin_Line : jOk [28, 29, 30] "WornSkin$Line" := List.forall_mem_cons.mpr ⟨Or.inr q2321, List.forall_mem_cons.mpr ⟨Or.inr q2320, List.forall_mem_cons.mpr ⟨Or.inr q2322, fun _ h => absurd h List.not_mem_nil⟩⟩⟩
theorem ok__I : jOk [1000] "[I" := List.forall_mem_cons.mpr ⟨Or.inl rfl, fun _ h => absurd h List.not_mem_nil⟩
theorem pdJ0_init : jPd yJ0_init 0 := by decide +kernel
theorem pdJ4_checkIndex : jPd yJ4_checkIndex 3 := by decide +kernel
theorem pdJ14_hugeLength : jPd yJ14_hugeLength 2 := by decide +kernel
theorem pdJ15_copyOf_2 : jPd yJ15_copyOf_2 3 := by decide +kernel
theorem pdJ1_init : jPd yJ1_init 0 := by decide +kernel
theorem pdJ3_checkIndex : jPd yJ3_checkIndex 2 := by decide +kernel
theorem pdJ2_elementData : jPd yJ2_elementData 1 := by decide +kernel
theorem pdJ14_newLength : jPd yJ14_newLength 3 := by decide +kernel
theorem pdJ15_copyOf : jPd yJ15_copyOf 2 := by decide +kernel
theorem pdJ2_grow_2 : jPd yJ2_grow_2 1 := by decide +kernel
theorem pdJ2_grow : jPd yJ2_grow 0 := by decide +kernel
theorem pdJ2_add_2 : jPd yJ2_add_2 3 := by decide +kernel
theorem pdJ2_fastRemove : jPd yJ2_fastRemove 2 := by decide +kernel
theorem pdJ5_coder : jPd yJ5_coder 0 := by decide +kernel
theorem pdJ6_canEncode : jPd yJ6_canEncode 1 := by decide +kernel
theorem pdJ6_indexOfChar : jPd yJ6_indexOfChar 4 := by decide +kernel
theorem pdJ5_isLatin1 : jPd yJ5_isLatin1 0 := by decide +kernel
theorem pdJ5_length : jPd yJ5_length 0 := by decide +kernel
theorem pdJ6_indexOf : jPd yJ6_indexOf 4 := by decide +kernel
theorem pdJ5_indexOf_2 : jPd yJ5_indexOf_2 2 := by decide +kernel
theorem pdJ4_checkFromToIndex : jPd yJ4_checkFromToIndex 4 := by decide +kernel
theorem pdJ5_checkIndex : jPd yJ5_checkIndex 2 := by decide +kernel
theorem pdJ6_charAt : jPd yJ6_charAt 2 := by decide +kernel
theorem pdJ12_init : jPd yJ12_init 0 := by decide +kernel
theorem pdJ13_init : jPd yJ13_init 1 := by decide +kernel
theorem pdJ16_init : jPd yJ16_init 1 := by decide +kernel
theorem pdX14_init : jPd yX14_init 0 := by decide +kernel
theorem pdX19_init : jPd yX19_init 1 := by decide +kernel
theorem pdJ2_init : jPd yJ2_init 1 := by decide +kernel
theorem pdX10_init : jPd yX10_init 2 := by decide +kernel
theorem pdX5_init : jPd yX5_init 0 := by decide +kernel
theorem pdX27_init : jPd yX27_init 0 := by decide +kernel
theorem pd_WornSkin_Expression_of : jPd { cls := "WornSkin$Expression", name := "of", desc := "(LWornSkin$Facts;)I" } 1 := by decide +kernel
theorem pd_WornSkin_Link_with : jPd { cls := "WornSkin$Link", name := "with", desc := "(II)I" } 2 := by decide +kernel
theorem pdJ2_size : jPd yJ2_size 0 := by decide +kernel
theorem pdJ2_get : jPd yJ2_get 1 := by decide +kernel
theorem pd_WornSkin_Link_on : jPd { cls := "WornSkin$Link", name := "on", desc := "(ILWornSkin$Facts;)I" } 2 := by decide +kernel
theorem pdX11_init : jPd yX11_init 2 := by decide +kernel
theorem pdX12_init : jPd yX12_init 2 := by decide +kernel
theorem pdX13_init : jPd yX13_init 2 := by decide +kernel
theorem pdX1_gets : jPd yX1_gets 5 := by decide +kernel
theorem pdJ16_intValue : jPd yJ16_intValue 0 := by decide +kernel
theorem pdJ13_longValue : jPd yJ13_longValue 0 := by decide +kernel
theorem pd_WornSkin_Text_wet : jPd { cls := "WornSkin$Text", name := "wet", desc := "(I)I" } 1 := by decide +kernel
theorem pd_WornSkin_Text_deep : jPd { cls := "WornSkin$Text", name := "deep", desc := "(I)I" } 1 := by decide +kernel
theorem pdX3_skins : jPd yX3_skins 0 := by decide +kernel
theorem pdX3_skin : jPd yX3_skin 1 := by decide +kernel
theorem pdX3_clears : jPd yX3_clears 1 := by decide +kernel
theorem pdX4_damp : jPd yX4_damp 1 := by decide +kernel
theorem pdX1_has : jPd yX1_has 2 := by decide +kernel
theorem pdX3_layer : jPd yX3_layer 2 := by decide +kernel
theorem pdX3_text : jPd yX3_text 1 := by decide +kernel
theorem pdX4_shows : jPd yX4_shows 4 := by decide +kernel
theorem pdX3_isOpen : jPd yX3_isOpen 1 := by decide +kernel
theorem pdX3_top : jPd yX3_top 1 := by decide +kernel
theorem pdX3_read : jPd yX3_read 3 := by decide +kernel
theorem pdX3_isFree : jPd yX3_isFree 2 := by decide +kernel
theorem pdX3_isGone : jPd yX3_isGone 1 := by decide +kernel
theorem pdX3_init : jPd yX3_init 0 := by decide +kernel
theorem pdX3_copies : jPd yX3_copies 1 := by decide +kernel
theorem pdX3_open : jPd yX3_open 1 := by decide +kernel
theorem pdX3_about : jPd yX3_about 2 := by decide +kernel
theorem pd_WornSkin_Text_isOath : jPd { cls := "WornSkin$Text", name := "isOath", desc := "()Z" } 0 := by decide +kernel
theorem pdX3_texts : jPd yX3_texts 0 := by decide +kernel
theorem pdX3_isWhole : jPd yX3_isWhole 2 := by decide +kernel
theorem pdX3_mayWrite : jPd yX3_mayWrite 3 := by decide +kernel
theorem pdX3_mayScrape : jPd yX3_mayScrape 2 := by decide +kernel
theorem pdX3_scrapes : jPd yX3_scrapes 2 := by decide +kernel
theorem pdX3_writes : jPd yX3_writes 3 := by decide +kernel
theorem pdX1_within : jPd yX1_within 3 := by decide +kernel
theorem pdX2_isDigit : jPd yX2_isDigit 1 := by decide +kernel
theorem pdX2_isLetter : jPd yX2_isLetter 1 := by decide +kernel
theorem pdJ5_indexOf : jPd yJ5_indexOf 1 := by decide +kernel
theorem pdJ5_charAt : jPd yJ5_charAt 1 := by decide +kernel
theorem pdX2_word : jPd yX2_word 1 := by decide +kernel
theorem pdX8_init : jPd yX8_init 1 := by decide +kernel
theorem pdX2_isWord : jPd yX2_isWord 1 := by decide +kernel
theorem pdX2_which : jPd yX2_which 1 := by decide +kernel
theorem pdX2_isName : jPd yX2_isName 0 := by decide +kernel
theorem pdX4_find : jPd yX4_find 1 := by decide +kernel
theorem pdJ13_valueOf : jPd yJ13_valueOf 1 := by decide +kernel
theorem pdJ2_add : jPd yJ2_add 1 := by decide +kernel
theorem pdJ16_valueOf : jPd yJ16_valueOf 1 := by decide +kernel
theorem pdX2_wrong : jPd yX2_wrong 1 := by decide +kernel
theorem pdX2_hasWord : jPd yX2_hasWord 1 := by decide +kernel
theorem pdX2_takeWord : jPd yX2_takeWord 1 := by decide +kernel
theorem pdX2_number_2 : jPd yX2_number_2 2 := by decide +kernel
theorem pdX2_newName : jPd yX2_newName 2 := by decide +kernel
theorem pdX2_number : jPd yX2_number 3 := by decide +kernel
theorem pdX9_init : jPd yX9_init 2 := by decide +kernel
theorem pdX2_told : jPd yX2_told 1 := by decide +kernel
theorem pdX1_made : jPd yX1_made 3 := by decide +kernel
theorem pdX2_one : jPd yX2_one 1 := by decide +kernel
theorem pdX4_wets : jPd yX4_wets 1 := by decide +kernel
theorem pdX2_isSign : jPd yX2_isSign 1 := by decide +kernel
theorem pdX2_hasSign : jPd yX2_hasSign 1 := by decide +kernel
theorem pdX18_init : jPd yX18_init 1 := by decide +kernel
theorem pdX29_init : jPd yX29_init 2 := by decide +kernel
theorem pdX30_init : jPd yX30_init 3 := by decide +kernel
theorem pdX28_init : jPd yX28_init 0 := by decide +kernel
theorem pdX2_line : jPd yX2_line 1 := by decide +kernel
theorem pdX2_sign : jPd yX2_sign 1 := by decide +kernel
theorem pdX2_cut : jPd yX2_cut 0 := by decide +kernel
theorem pdX2_part : jPd yX2_part 0 := by decide +kernel
theorem pdX2_chain : jPd yX2_chain 2 := by decide +kernel
theorem pdX20_init : jPd yX20_init 1 := by decide +kernel
theorem pdX2_term : jPd yX2_term 0 := by decide +kernel
theorem pdX22_init : jPd yX22_init 1 := by decide +kernel
theorem pdX21_init : jPd yX21_init 1 := by decide +kernel
theorem pdX2_sum : jPd yX2_sum 0 := by decide +kernel
theorem pdX24_init : jPd yX24_init 1 := by decide +kernel
theorem pdX23_init : jPd yX23_init 1 := by decide +kernel
theorem pdX2_test : jPd yX2_test 0 := by decide +kernel
theorem pdX26_init : jPd yX26_init 1 := by decide +kernel
theorem pdX25_init : jPd yX25_init 1 := by decide +kernel
theorem pdX2_all : jPd yX2_all 0 := by decide +kernel
theorem pdX17_init : jPd yX17_init 1 := by decide +kernel
theorem pdX16_init : jPd yX16_init 1 := by decide +kernel
theorem pdX15_init : jPd yX15_init 1 := by decide +kernel
theorem pdX2_whole : jPd yX2_whole 0 := by decide +kernel
theorem pdX2_shows : jPd yX2_shows 0 := by decide +kernel
theorem pdX2_damp : jPd yX2_damp 0 := by decide +kernel
theorem pdX2_text : jPd yX2_text 0 := by decide +kernel
theorem pdX2_hole : jPd yX2_hole 0 := by decide +kernel
theorem pdX2_skin : jPd yX2_skin 0 := by decide +kernel
theorem pdX4_init : jPd yX4_init 0 := by decide +kernel
theorem pdX2_feed : jPd yX2_feed 1 := by decide +kernel
theorem pdX2_library : jPd yX2_library 0 := by decide +kernel
theorem pdX3_begins : jPd yX3_begins 1 := by decide +kernel
theorem pdJ2_clear : jPd yJ2_clear 0 := by decide +kernel
theorem pdX1_now : jPd yX1_now 0 := by decide +kernel
theorem pdX2_year : jPd yX2_year 1 := by decide +kernel
theorem pdX1_skins : jPd yX1_skins 0 := by decide +kernel
theorem pdX3_damp : jPd yX3_damp 0 := by decide +kernel
theorem pdX1_isSkin : jPd yX1_isSkin 1 := by decide +kernel
theorem pdX1_readIn : jPd yX1_readIn 1 := by decide +kernel
theorem pdX1_texts : jPd yX1_texts 0 := by decide +kernel
theorem pdX1_isText : jPd yX1_isText 1 := by decide +kernel
theorem pd_WornSkin_Text_kind : jPd { cls := "WornSkin$Text", name := "kind", desc := "()I" } 0 := by decide +kernel
theorem pdX1_made_2 : jPd yX1_made_2 2 := by decide +kernel
theorem pdX1_isLine : jPd yX1_isLine 2 := by decide +kernel
theorem pdX1_layers : jPd yX1_layers 2 := by decide +kernel
theorem pdX3_copied : jPd yX3_copied 0 := by decide +kernel
theorem pdJ2_remove : jPd yJ2_remove 1 := by decide +kernel
theorem pdX1_keep : jPd yX1_keep 0 := by decide +kernel
theorem pdX1_scrapes : jPd yX1_scrapes 2 := by decide +kernel
theorem pdJ2_isEmpty : jPd yJ2_isEmpty 0 := by decide +kernel
theorem pdX3_whole : jPd yX3_whole 1 := by decide +kernel
theorem pdX1_bits : jPd yX1_bits 1 := by decide +kernel
theorem pdX3_gone : jPd yX3_gone 0 := by decide +kernel
theorem pd_WornSkin_Line_isDone : jPd { cls := "WornSkin$Line", name := "isDone", desc := "(LWornSkin$Shelf;)Z" } 1 := by decide +kernel
theorem pdX1_isLayer : jPd yX1_isLayer 1 := by decide +kernel
theorem pdX3_place : jPd yX3_place 2 := by decide +kernel
theorem pdX1_costBy : jPd yX1_costBy 3 := by decide +kernel
theorem pdX3_over : jPd yX3_over 2 := by decide +kernel
theorem pdX3_areLike : jPd yX3_areLike 2 := by decide +kernel
theorem pdX1_isAsSeen : jPd yX1_isAsSeen 1 := by decide +kernel
theorem pdX1_who : jPd yX1_who 0 := by decide +kernel
theorem pdX1_draw : jPd yX1_draw 1 := by decide +kernel
theorem pdX3_thickness : jPd yX3_thickness 0 := by decide +kernel
theorem pdX1_drawsText : jPd yX1_drawsText 0 := by decide +kernel
theorem pdX1_copied : jPd yX1_copied 1 := by decide +kernel
theorem pdX31_init : jPd yX31_init 3 := by decide +kernel
theorem pdX1_layersAll : jPd yX1_layersAll 0 := by decide +kernel
theorem pdX1_must : jPd yX1_must 1 := by decide +kernel
theorem pdX1_isRest : jPd yX1_isRest 5 := by decide +kernel
theorem pdX2_init : jPd yX2_init 0 := by decide +kernel
theorem pdJ2_init_2 : jPd yJ2_init_2 0 := by decide +kernel
theorem pdX6_init : jPd yX6_init 1 := by decide +kernel
theorem pdX1_rests : jPd yX1_rests 4 := by decide +kernel
theorem pdX6_goes : jPd yX6_goes 2 := by decide +kernel
theorem pdX6_takes : jPd yX6_takes 2 := by decide +kernel
theorem pdX6_finds : jPd yX6_finds 0 := by decide +kernel
theorem pdX7_signAt : jPd yX7_signAt 1 := by decide +kernel
theorem pdX7_nextToken : jPd yX7_nextToken 0 := by decide +kernel
theorem pdX7_fails : jPd yX7_fails 1 := by decide +kernel
theorem pdX7_isKept : jPd yX7_isKept 0 := by decide +kernel
theorem pdX7_skinNamed : jPd yX7_skinNamed 1 := by decide +kernel
theorem pdX7_textNamed : jPd yX7_textNamed 1 := by decide +kernel
theorem pdX7_within : jPd yX7_within 3 := by decide +kernel
theorem pdX7_isWord : jPd yX7_isWord 1 := by decide +kernel
theorem pdX7_needsNumber : jPd yX7_needsNumber 2 := by decide +kernel
theorem pdX7_isSign : jPd yX7_isSign 1 := by decide +kernel
theorem pdX7_needsNew : jPd yX7_needsNew 0 := by decide +kernel
theorem pdX7_needsBoth : jPd yX7_needsBoth 3 := by decide +kernel
theorem pdX7_closes : jPd yX7_closes 0 := by decide +kernel
theorem pdX7_needsSkin : jPd yX7_needsSkin 1 := by decide +kernel
theorem pdX7_puts : jPd yX7_puts 1 := by decide +kernel
theorem pdX7_fact : jPd yX7_fact 0 := by decide +kernel
theorem pdX7_reads : jPd yX7_reads 0 := by decide +kernel
theorem pdX7_readsShows : jPd yX7_readsShows 0 := by decide +kernel
theorem pdX7_readsDamp : jPd yX7_readsDamp 0 := by decide +kernel
theorem pdX7_readsText : jPd yX7_readsText 0 := by decide +kernel
theorem pdX7_readsHole : jPd yX7_readsHole 0 := by decide +kernel
theorem pdX7_readsSkin : jPd yX7_readsSkin 0 := by decide +kernel
theorem pdX7_begins : jPd yX7_begins 0 := by decide +kernel
theorem pdX7_shifts : jPd yX7_shifts 2 := by decide +kernel
theorem pdX7_shiftsNames : jPd yX7_shiftsNames 2 := by decide +kernel
theorem pdX7_readsAll : jPd yX7_readsAll 0 := by decide +kernel
theorem pdX7_lays : jPd yX7_lays 0 := by decide +kernel
theorem pdX7_fresh0 : jPd yX7_fresh0 0 := by decide +kernel
theorem pdX7_needsText : jPd yX7_needsText 0 := by decide +kernel
theorem pdX7_laysLines : jPd yX7_laysLines 2 := by decide +kernel
theorem pdX7_readsLine : jPd yX7_readsLine 0 := by decide +kernel
theorem pdX7_sums : jPd yX7_sums 1 := by decide +kernel
theorem pdX7_tests : jPd yX7_tests 1 := by decide +kernel
theorem pdX7_opens : jPd yX7_opens 1 := by decide +kernel
theorem pdX7_worked : jPd yX7_worked 1 := by decide +kernel
theorem pdX7_showsBy : jPd yX7_showsBy 4 := by decide +kernel
theorem pdX7_dampOf : jPd yX7_dampOf 1 := by decide +kernel
theorem pdX7_readBy : jPd yX7_readBy 3 := by decide +kernel
theorem pdX7_isSkin : jPd yX7_isSkin 1 := by decide +kernel
theorem pdX7_readIn : jPd yX7_readIn 2 := by decide +kernel
theorem pdX7_wholeBy : jPd yX7_wholeBy 1 := by decide +kernel
theorem pdX7_bits : jPd yX7_bits 1 := by decide +kernel
theorem pdX7_isText : jPd yX7_isText 1 := by decide +kernel
theorem pdX7_madeOf : jPd yX7_madeOf 1 := by decide +kernel
theorem pdX7_wholeNow : jPd yX7_wholeNow 0 := by decide +kernel
theorem pdX7_isLine : jPd yX7_isLine 2 := by decide +kernel
theorem pdX7_deepOf : jPd yX7_deepOf 1 := by decide +kernel
theorem pdX7_layerOf : jPd yX7_layerOf 2 := by decide +kernel
theorem pdX7_copies : jPd yX7_copies 4 := by decide +kernel
theorem pdX7_canWrite : jPd yX7_canWrite 3 := by decide +kernel
theorem pdX7_keeps : jPd yX7_keeps 0 := by decide +kernel
theorem pdX7_writes : jPd yX7_writes 3 := by decide +kernel
theorem pdX7_scrapedBy : jPd yX7_scrapedBy 2 := by decide +kernel
theorem pdX7_scrapes : jPd yX7_scrapes 2 := by decide +kernel
theorem pdX7_scrapesNow : jPd yX7_scrapesNow 2 := by decide +kernel
theorem pdX7_gones : jPd yX7_gones 0 := by decide +kernel
theorem pdX7_goes : jPd yX7_goes 1 := by decide +kernel
theorem pdX7_placeOf : jPd yX7_placeOf 2 := by decide +kernel
theorem pdX7_costBy : jPd yX7_costBy 3 := by decide +kernel
theorem pdX7_writesAll : jPd yX7_writesAll 2 := by decide +kernel
theorem pdX7_unwrites : jPd yX7_unwrites 3 := by decide +kernel
theorem pdX7_who : jPd yX7_who 0 := by decide +kernel
theorem pdX7_getsBy : jPd yX7_getsBy 5 := by decide +kernel
theorem pdX7_draws : jPd yX7_draws 1 := by decide +kernel
theorem pdX7_allThick : jPd yX7_allThick 0 := by decide +kernel
theorem pdX7_livesWeek : jPd yX7_livesWeek 0 := by decide +kernel
theorem pdX7_laysSeen : jPd yX7_laysSeen 2 := by decide +kernel
theorem pdX7_allLayers : jPd yX7_allLayers 0 := by decide +kernel
theorem pdX1_count : jPd yX1_count 1 := by decide +kernel
theorem pdX7_count : jPd yX7_count 1 := by decide +kernel
theorem pdX7_mark : jPd yX7_mark 2 := by decide +kernel
theorem pdX1_mark : jPd yX1_mark 2 := by decide +kernel
theorem pdX1_years : jPd yX1_years 3 := by decide +kernel
theorem pdX7_years : jPd yX7_years 3 := by decide +kernel
theorem pdX0_rests : jPd yX0_rests 6 := by decide +kernel
theorem pdX7_rests : jPd yX7_rests 4 := by decide +kernel
theorem pdX7_thrown : jPd yX7_thrown 0 := by decide +kernel
theorem pdX1_chance : jPd yX1_chance 3 := by decide +kernel
theorem pdX7_chance : jPd yX7_chance 3 := by decide +kernel
theorem pdX1_ask : jPd yX1_ask 1 := by decide +kernel
theorem pdX7_ask : jPd yX7_ask 1 := by decide +kernel
theorem pdX7_see : jPd yX7_see 4 := by decide +kernel
theorem pdX1_see : jPd yX1_see 4 := by decide +kernel
theorem pdX1_psalter : jPd yX1_psalter 1 := by decide +kernel
theorem pdX7_psalter : jPd yX7_psalter 1 := by decide +kernel
theorem pdX1_giveup : jPd yX1_giveup 0 := by decide +kernel
theorem pdX7_giveup : jPd yX7_giveup 0 := by decide +kernel
theorem pdX1_same : jPd yX1_same 0 := by decide +kernel
theorem pdX7_same : jPd yX7_same 0 := by decide +kernel
theorem pdX1_bare : jPd yX1_bare 1 := by decide +kernel
theorem pdX7_bare : jPd yX7_bare 1 := by decide +kernel
theorem pdX1_deepest : jPd yX1_deepest 1 := by decide +kernel
theorem pdX7_deepest : jPd yX7_deepest 1 := by decide +kernel
theorem pdX1_over : jPd yX1_over 1 := by decide +kernel
theorem pdX7_over : jPd yX7_over 1 := by decide +kernel
theorem pdX1_bears : jPd yX1_bears 2 := by decide +kernel
theorem pdX7_bears : jPd yX7_bears 2 := by decide +kernel
theorem pdX1_lay : jPd yX1_lay 1 := by decide +kernel
theorem pdX7_lay : jPd yX7_lay 1 := by decide +kernel
theorem pdX1_cost : jPd yX1_cost 2 := by decide +kernel
theorem pdX7_cost : jPd yX7_cost 2 := by decide +kernel
theorem pdX1_place : jPd yX1_place 2 := by decide +kernel
theorem pdX7_place : jPd yX7_place 2 := by decide +kernel
theorem pdX1_lost : jPd yX1_lost 0 := by decide +kernel
theorem pdX7_lost : jPd yX7_lost 0 := by decide +kernel
theorem pdX1_need : jPd yX1_need 1 := by decide +kernel
theorem pdX7_need : jPd yX7_need 1 := by decide +kernel
theorem pdX1_when : jPd yX1_when 1 := by decide +kernel
theorem pdX7_when : jPd yX7_when 1 := by decide +kernel
theorem pdX1_later : jPd yX1_later 3 := by decide +kernel
theorem pdX7_later : jPd yX7_later 3 := by decide +kernel
theorem pdX1_judged : jPd yX1_judged 1 := by decide +kernel
theorem pdX7_judged : jPd yX7_judged 1 := by decide +kernel
theorem pdX1_undo : jPd yX1_undo 0 := by decide +kernel
theorem pdX7_undo : jPd yX7_undo 0 := by decide +kernel
theorem pdX1_week : jPd yX1_week 0 := by decide +kernel
theorem pdX7_week : jPd yX7_week 0 := by decide +kernel
theorem pdX1_third : jPd yX1_third 1 := by decide +kernel
theorem pdX7_third : jPd yX7_third 1 := by decide +kernel
theorem pdX1_scrape : jPd yX1_scrape 1 := by decide +kernel
theorem pdX7_scrape : jPd yX7_scrape 1 := by decide +kernel
theorem pdX1_write : jPd yX1_write 3 := by decide +kernel
theorem pdX7_write : jPd yX7_write 3 := by decide +kernel
theorem pdX1_read : jPd yX1_read 2 := by decide +kernel
theorem pdX7_read : jPd yX7_read 2 := by decide +kernel
theorem pdX1_layer : jPd yX1_layer 3 := by decide +kernel
theorem pdX7_layer : jPd yX7_layer 3 := by decide +kernel
theorem pdX7_layers : jPd yX7_layers 2 := by decide +kernel
theorem pdX1_text : jPd yX1_text 2 := by decide +kernel
theorem pdX7_text : jPd yX7_text 2 := by decide +kernel
theorem pdX1_skin : jPd yX1_skin 2 := by decide +kernel
theorem pdX7_skin : jPd yX7_skin 2 := by decide +kernel
theorem pdX1_year : jPd yX1_year 0 := by decide +kernel
theorem pdX7_year : jPd yX7_year 0 := by decide +kernel
theorem pdX1_library : jPd yX1_library 0 := by decide +kernel
theorem pdX7_library : jPd yX7_library 0 := by decide +kernel
theorem pdX1_feed : jPd yX1_feed 3 := by decide +kernel
theorem pdX7_feed : jPd yX7_feed 3 := by decide +kernel
theorem pdX1_init : jPd yX1_init 0 := by decide +kernel
theorem pdX7_init : jPd yX7_init 0 := by decide +kernel
