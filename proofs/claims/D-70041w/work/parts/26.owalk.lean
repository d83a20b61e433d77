set_option maxRecDepth 100000
abbrev rm_C_end : Room := { frames := 2, cells := 0, slots := 0, locals := 25 }
set_option maxHeartbeats 4000000 in
theorem met_C_end (l : Launch) (D : va_G) (ad : Nat → Nat) (ca : Nat → ClassId) (pl : va_W) (sz : Nat) (kept : Int32) (locks : Int32) (seenMany : Int32) (bumpMinute : Int32) (bumpBlock : Int32) (bumpTrains : Int32) (waited : Int32) (keptOut : Int32) (used : Int32) (taped : Int32) (fault : Int32) (costSum : Int64) (safeSum : Int64) (allWays : Int64) (torn : Int32) (n_blocks : Int32) (n_guarded : Int32) (n_trains : Int32) (n_omen : Nat → Int32) (n_train : Nat → Int32) (t_blocks : Int32) (t_guarded : Int32) (t_trains : Int32) (t_omen : Nat → Int32) (t_train : Nat → Int32) (i0_blocks : Int32) (i0_guarded : Int32) (i0_trains : Int32) (i0_omen : Nat → Int32) (i0_train : Nat → Int32) (i1_blocks : Int32) (i1_guarded : Int32) (i1_trains : Int32) (i1_omen : Nat → Int32) (i1_train : Nat → Int32) (lockA : Nat → Int32) (seenA : Nat → Int32) (whr : Nat → Int32) (homes : Nat → Int32) (isSeen : Nat → Int32) (leftA : Nat → Int32) (were : Nat → Int32) (tape : Nat → Int32) (would : Nat → Int32) (row0 : Option Nat) (row1 : Option Nat) (row2 : Option Nat) (row3 : Option Nat) (x1 : Int32) (Q : Int32 → Int32 → Prop) (G : C_end taped x1 Q) : Met l yX0_end (ws_ yX0_end cX0_end 3 (some .int)) rm_C_end (va_Pc [.ref (ad 0), .int x1] (wpre D vwCl (tyL ca) ((oW ad ca kept locks seenMany bumpMinute bumpBlock bumpTrains waited keptOut used taped fault costSum safeSum allWays torn n_blocks n_guarded n_trains n_omen n_train t_blocks t_guarded t_trains t_omen t_train i0_blocks i0_guarded i0_trains i0_omen i0_train i1_blocks i1_guarded i1_trains i1_omen i1_train lockA seenA whr homes isSeen leftA were tape would row0 row1 row2 row3) ++ pl) sz)) (va_Qi (fun (r : Int32) (u : Int32) => Q r u) (wpost D vwCl (va_A ((oW ad ca kept locks seenMany bumpMinute bumpBlock bumpTrains waited keptOut used taped fault costSum safeSum allWays torn n_blocks n_guarded n_trains n_omen n_train t_blocks t_guarded t_trains t_omen t_train i0_blocks i0_guarded i0_trains i0_omen i0_train i1_blocks i1_guarded i1_trains i1_omen i1_train lockA seenA whr homes isSeen leftA were tape would row0 row1 row2 row3) ++ pl) sz) (fun (u : Int32) => ((oW ad ca kept locks seenMany bumpMinute bumpBlock bumpTrains waited keptOut used u fault costSum safeSum allWays torn n_blocks n_guarded n_trains n_omen n_train t_blocks t_guarded t_trains t_omen t_train i0_blocks i0_guarded i0_trains i0_omen i0_train i1_blocks i1_guarded i1_trains i1_omen i1_train lockA seenA whr homes isSeen leftA were tape would row0 row1 row2 row3) ++ pl))) (va_A ((oW ad ca kept locks seenMany bumpMinute bumpBlock bumpTrains waited keptOut used taped fault costSum safeSum allWays torn n_blocks n_guarded n_trains n_omen n_train t_blocks t_guarded t_trains t_omen t_train i0_blocks i0_guarded i0_trains i0_omen i0_train i1_blocks i1_guarded i1_trains i1_omen i1_train lockA seenA whr homes isSeen leftA were tape would row0 row1 row2 row3) ++ pl) sz)) 0 0 (va_A ((oW ad ca kept locks seenMany bumpMinute bumpBlock bumpTrains waited keptOut used taped fault costSum safeSum allWays torn n_blocks n_guarded n_trains n_omen n_train t_blocks t_guarded t_trains t_omen t_train i0_blocks i0_guarded i0_trains i0_omen i0_train i1_blocks i1_guarded i1_trains i1_omen i1_train lockA seenA whr homes isSeen leftA were tape would row0 row1 row2 row3) ++ pl) sz) := by
  refine met_of (fun A => (va_Qi (fun (r : Int32) (u : Int32) => Q r u) (wpost D vwCl A (fun (u : Int32) => ((oW ad ca kept locks seenMany bumpMinute bumpBlock bumpTrains waited keptOut used u fault costSum safeSum allWays torn n_blocks n_guarded n_trains n_omen n_train t_blocks t_guarded t_trains t_omen t_train i0_blocks i0_guarded i0_trains i0_omen i0_train i1_blocks i1_guarded i1_trains i1_omen i1_train lockA seenA whr homes isSeen leftA were tape would row0 row1 row2 row3) ++ pl))) A)) (by decide) (Nat.le_of_ble_eq_true rfl) ?_
  intro p e s m args below meth c Z A hZ C H locs hP hD hS ls hl
  have hx := C.1; have hb := C.2.1; have hr := C.2.2.1; have hlocks := C.2.2.2.1; have hml := C.2.2.2.2.1; have hown := C.2.2.2.2.2.1; have hts := C.2.2.2.2.2.2.1; have hn := C.2.2.2.2.2.2.2.1; have hK := C.2.2.2.2.2.2.2.2.1; have hA := C.2.2.2.2.2.2.2.2.2
  have hl : lv_has ls 3 [(0, .ref (ad 0)), (1, .int x1)] := hl
  unfold C_end at G
  refine lv_iload_n hx hb dX0_end_0 rfl (lv_at hl 1 rfl) ?_
  refine lv_i2l hx hb dX0_end_1 rfl ?_
  refine lv_lconst (v := 0) hx hb dX0_end_2 (by decide) ?_
  refine lv_aload_n hx hb dX0_end_3 rfl (lv_at hl 0 rfl) ?_
  refine va_get hx hb hts in_X0 hown hK hP 0 rfl rfl 21 (by decide) (hts _ q199) (fun _ h => h) rfl dX0_end_4 ?_
  refine lv_i2l hx hb dX0_end_7 rfl ?_
  refine wc_Sik (As := [.long ((x1).toInt64), .long (0 : Int64), .long ((taped).toInt64)]) (rest := []) C (met_C_in l D ca H.size ((x1).toInt64) (0 : Int64) ((taped).toInt64)) (va_cwS 3 hts (lw_S q271 q272 q68 q273) rfl rfl rfl (by decide +kernel) ⟨Nat.le_of_ble_eq_true rfl, Nat.le_of_ble_eq_true rfl⟩) hP hD hS [] rfl (by decide) rfl rfl hl.1 (Nat.le_of_ble_eq_true rfl) dX0_end_8 ⟨Nat.le_of_ble_eq_true rfl, Nat.le_of_ble_eq_true rfl⟩ (fun r_1 u H locs hr hP hD hS => ?_)
  subst hr
  refine lv_if_ne (tgt := 16) hx hb dX0_end_11 (by decide) (fun c_2 => ?_) (fun c_2 => ?_)
  · have G := G.2 c_2
    refine lv_aload_n hx hb dX0_end_16 rfl (lv_at hl 0 rfl) ?_
    refine va_get hx hb hts in_X0 hown hK hP 0 rfl rfl 21 (by decide) (hts _ q199) (fun _ h => h) rfl dX0_end_17 ?_
    refine lv_istore_n (lv' := [(2, .int taped), (0, .ref (ad 0)), (1, .int x1)]) hx hb dX0_end_20 rfl hl (by decide) rfl (fun ls hl => ?_)
    refine lv_aload_n hx hb dX0_end_21 rfl (lv_at hl 1 rfl) ?_
    refine lv_iload_n hx hb dX0_end_22 rfl (lv_at hl 2 rfl) ?_
    refine va_put hx hb hts in_X0 tyX0 tyX0_ok nmX0 hown hK hP hD hS 0 rfl rfl 21 (by decide) (hts _ q199) (fun _ h => h) rfl (tyX0_ok 21 (by decide)) rfl rfl (Nat.le_of_ble_eq_true rfl) dX0_end_23 (fun H locs hP hD hS => ?_)
    have hP : va_P D vwCl ((oW ad ca kept locks seenMany bumpMinute bumpBlock bumpTrains waited keptOut used x1 fault costSum safeSum allWays torn n_blocks n_guarded n_trains n_omen n_train t_blocks t_guarded t_trains t_omen t_train i0_blocks i0_guarded i0_trains i0_omen i0_train i1_blocks i1_guarded i1_trains i1_omen i1_train lockA seenA whr homes isSeen leftA were tape would row0 row1 row2 row3) ++ pl) H := hP
    have hD : va_D A ((oW ad ca kept locks seenMany bumpMinute bumpBlock bumpTrains waited keptOut used x1 fault costSum safeSum allWays torn n_blocks n_guarded n_trains n_omen n_train t_blocks t_guarded t_trains t_omen t_train i0_blocks i0_guarded i0_trains i0_omen i0_train i1_blocks i1_guarded i1_trains i1_omen i1_train lockA seenA whr homes isSeen leftA were tape would row0 row1 row2 row3) ++ pl) := hD
    refine lv_iload_n hx hb dX0_end_26 rfl (lv_at hl 0 rfl) ?_
    rw [hZ]
    exact W.iret hx hb hr (fun t ht hW => ⟨⟨taped, x1, rfl, G, by rw [ht]; exact hP, hD⟩, hS.F ht⟩) hS.2.2 dX0_end_27 hlocks
  · have G := G.1 c_2
    refine lv_iconst (v := -1) hx hb dX0_end_14 (by decide) ?_
    rw [hZ]
    exact W.iret hx hb hr (fun t ht hW => ⟨⟨(-1 : Int32), taped, rfl, G, by rw [ht]; exact hP, hD⟩, hS.F ht⟩) hS.2.2 dX0_end_15 hlocks
abbrev rm_C_fault : Room := { frames := 1, cells := 0, slots := 0, locals := 0 }
set_option maxHeartbeats 4000000 in
theorem met_C_fault (l : Launch) (D : va_G) (ad : Nat → Nat) (ca : Nat → ClassId) (pl : va_W) (sz : Nat) (kept : Int32) (locks : Int32) (seenMany : Int32) (bumpMinute : Int32) (bumpBlock : Int32) (bumpTrains : Int32) (waited : Int32) (keptOut : Int32) (used : Int32) (taped : Int32) (fault : Int32) (costSum : Int64) (safeSum : Int64) (allWays : Int64) (torn : Int32) (n_blocks : Int32) (n_guarded : Int32) (n_trains : Int32) (n_omen : Nat → Int32) (n_train : Nat → Int32) (t_blocks : Int32) (t_guarded : Int32) (t_trains : Int32) (t_omen : Nat → Int32) (t_train : Nat → Int32) (i0_blocks : Int32) (i0_guarded : Int32) (i0_trains : Int32) (i0_omen : Nat → Int32) (i0_train : Nat → Int32) (i1_blocks : Int32) (i1_guarded : Int32) (i1_trains : Int32) (i1_omen : Nat → Int32) (i1_train : Nat → Int32) (lockA : Nat → Int32) (seenA : Nat → Int32) (whr : Nat → Int32) (homes : Nat → Int32) (isSeen : Nat → Int32) (leftA : Nat → Int32) (were : Nat → Int32) (tape : Nat → Int32) (would : Nat → Int32) (row0 : Option Nat) (row1 : Option Nat) (row2 : Option Nat) (row3 : Option Nat)  : Met l yX0_fault (ws_ yX0_fault cX0_fault 1 (some .int)) rm_C_fault (va_Pc [.ref (ad 0)] (wpre D vwCl (tyL ca) ((oW ad ca kept locks seenMany bumpMinute bumpBlock bumpTrains waited keptOut used taped fault costSum safeSum allWays torn n_blocks n_guarded n_trains n_omen n_train t_blocks t_guarded t_trains t_omen t_train i0_blocks i0_guarded i0_trains i0_omen i0_train i1_blocks i1_guarded i1_trains i1_omen i1_train lockA seenA whr homes isSeen leftA were tape would row0 row1 row2 row3) ++ pl) sz)) (va_Qi (fun (r : Int32) (u : Unit) => r = C_fault_e fault) (wpost D vwCl (va_A ((oW ad ca kept locks seenMany bumpMinute bumpBlock bumpTrains waited keptOut used taped fault costSum safeSum allWays torn n_blocks n_guarded n_trains n_omen n_train t_blocks t_guarded t_trains t_omen t_train i0_blocks i0_guarded i0_trains i0_omen i0_train i1_blocks i1_guarded i1_trains i1_omen i1_train lockA seenA whr homes isSeen leftA were tape would row0 row1 row2 row3) ++ pl) sz) (fun (u : Unit) => ((oW ad ca kept locks seenMany bumpMinute bumpBlock bumpTrains waited keptOut used taped fault costSum safeSum allWays torn n_blocks n_guarded n_trains n_omen n_train t_blocks t_guarded t_trains t_omen t_train i0_blocks i0_guarded i0_trains i0_omen i0_train i1_blocks i1_guarded i1_trains i1_omen i1_train lockA seenA whr homes isSeen leftA were tape would row0 row1 row2 row3) ++ pl))) (va_A ((oW ad ca kept locks seenMany bumpMinute bumpBlock bumpTrains waited keptOut used taped fault costSum safeSum allWays torn n_blocks n_guarded n_trains n_omen n_train t_blocks t_guarded t_trains t_omen t_train i0_blocks i0_guarded i0_trains i0_omen i0_train i1_blocks i1_guarded i1_trains i1_omen i1_train lockA seenA whr homes isSeen leftA were tape would row0 row1 row2 row3) ++ pl) sz)) 0 0 (va_A ((oW ad ca kept locks seenMany bumpMinute bumpBlock bumpTrains waited keptOut used taped fault costSum safeSum allWays torn n_blocks n_guarded n_trains n_omen n_train t_blocks t_guarded t_trains t_omen t_train i0_blocks i0_guarded i0_trains i0_omen i0_train i1_blocks i1_guarded i1_trains i1_omen i1_train lockA seenA whr homes isSeen leftA were tape would row0 row1 row2 row3) ++ pl) sz) := by
  refine met_of (fun A => (va_Qi (fun (r : Int32) (u : Unit) => r = C_fault_e fault) (wpost D vwCl A (fun (u : Unit) => ((oW ad ca kept locks seenMany bumpMinute bumpBlock bumpTrains waited keptOut used taped fault costSum safeSum allWays torn n_blocks n_guarded n_trains n_omen n_train t_blocks t_guarded t_trains t_omen t_train i0_blocks i0_guarded i0_trains i0_omen i0_train i1_blocks i1_guarded i1_trains i1_omen i1_train lockA seenA whr homes isSeen leftA were tape would row0 row1 row2 row3) ++ pl))) A)) (by decide) (Nat.le_of_ble_eq_true rfl) ?_
  intro p e s m args below meth c Z A hZ C H locs hP hD hS ls hl
  have hx := C.1; have hb := C.2.1; have hr := C.2.2.1; have hlocks := C.2.2.2.1; have hml := C.2.2.2.2.1; have hown := C.2.2.2.2.2.1; have hts := C.2.2.2.2.2.2.1; have hn := C.2.2.2.2.2.2.2.1; have hK := C.2.2.2.2.2.2.2.2.1; have hA := C.2.2.2.2.2.2.2.2.2
  have hl : lv_has ls 1 [(0, .ref (ad 0))] := hl
  refine lv_aload_n hx hb dX0_fault_0 rfl (lv_at hl 0 rfl) ?_
  refine va_get hx hb hts in_X0 hown hK hP 0 rfl rfl 22 (by decide) (hts _ q200) (fun _ h => h) rfl dX0_fault_1 ?_
  rw [hZ]
  exact W.iret hx hb hr (fun t ht hW => ⟨⟨fault, (), rfl, rfl, by rw [ht]; exact hP, hD⟩, hS.F ht⟩) hS.2.2 dX0_fault_4 hlocks
abbrev rm_C_isBlock : Room := { frames := 2, cells := 0, slots := 0, locals := 25 }
set_option maxHeartbeats 4000000 in
theorem met_C_isBlock (l : Launch) (D : va_G) (ad : Nat → Nat) (ca : Nat → ClassId) (pl : va_W) (sz : Nat) (kept : Int32) (locks : Int32) (seenMany : Int32) (bumpMinute : Int32) (bumpBlock : Int32) (bumpTrains : Int32) (waited : Int32) (keptOut : Int32) (used : Int32) (taped : Int32) (fault : Int32) (costSum : Int64) (safeSum : Int64) (allWays : Int64) (torn : Int32) (n_blocks : Int32) (n_guarded : Int32) (n_trains : Int32) (n_omen : Nat → Int32) (n_train : Nat → Int32) (t_blocks : Int32) (t_guarded : Int32) (t_trains : Int32) (t_omen : Nat → Int32) (t_train : Nat → Int32) (i0_blocks : Int32) (i0_guarded : Int32) (i0_trains : Int32) (i0_omen : Nat → Int32) (i0_train : Nat → Int32) (i1_blocks : Int32) (i1_guarded : Int32) (i1_trains : Int32) (i1_omen : Nat → Int32) (i1_train : Nat → Int32) (lockA : Nat → Int32) (seenA : Nat → Int32) (whr : Nat → Int32) (homes : Nat → Int32) (isSeen : Nat → Int32) (leftA : Nat → Int32) (were : Nat → Int32) (tape : Nat → Int32) (would : Nat → Int32) (row0 : Option Nat) (row1 : Option Nat) (row2 : Option Nat) (row3 : Option Nat) (x1 : Int32) : Met l yX0_isBlock (ws_ yX0_isBlock cX0_isBlock 2 (some .boolean)) rm_C_isBlock (va_Pc [.ref (ad 0), .int x1] (wpre D vwCl (tyL ca) ((oW ad ca kept locks seenMany bumpMinute bumpBlock bumpTrains waited keptOut used taped fault costSum safeSum allWays torn n_blocks n_guarded n_trains n_omen n_train t_blocks t_guarded t_trains t_omen t_train i0_blocks i0_guarded i0_trains i0_omen i0_train i1_blocks i1_guarded i1_trains i1_omen i1_train lockA seenA whr homes isSeen leftA were tape would row0 row1 row2 row3) ++ pl) sz)) (va_Qi (fun (r : Int32) (u : Unit) => r = C_isBlock_e n_blocks x1) (wpost D vwCl (va_A ((oW ad ca kept locks seenMany bumpMinute bumpBlock bumpTrains waited keptOut used taped fault costSum safeSum allWays torn n_blocks n_guarded n_trains n_omen n_train t_blocks t_guarded t_trains t_omen t_train i0_blocks i0_guarded i0_trains i0_omen i0_train i1_blocks i1_guarded i1_trains i1_omen i1_train lockA seenA whr homes isSeen leftA were tape would row0 row1 row2 row3) ++ pl) sz) (fun (u : Unit) => ((oW ad ca kept locks seenMany bumpMinute bumpBlock bumpTrains waited keptOut used taped fault costSum safeSum allWays torn n_blocks n_guarded n_trains n_omen n_train t_blocks t_guarded t_trains t_omen t_train i0_blocks i0_guarded i0_trains i0_omen i0_train i1_blocks i1_guarded i1_trains i1_omen i1_train lockA seenA whr homes isSeen leftA were tape would row0 row1 row2 row3) ++ pl))) (va_A ((oW ad ca kept locks seenMany bumpMinute bumpBlock bumpTrains waited keptOut used taped fault costSum safeSum allWays torn n_blocks n_guarded n_trains n_omen n_train t_blocks t_guarded t_trains t_omen t_train i0_blocks i0_guarded i0_trains i0_omen i0_train i1_blocks i1_guarded i1_trains i1_omen i1_train lockA seenA whr homes isSeen leftA were tape would row0 row1 row2 row3) ++ pl) sz)) 0 0 (va_A ((oW ad ca kept locks seenMany bumpMinute bumpBlock bumpTrains waited keptOut used taped fault costSum safeSum allWays torn n_blocks n_guarded n_trains n_omen n_train t_blocks t_guarded t_trains t_omen t_train i0_blocks i0_guarded i0_trains i0_omen i0_train i1_blocks i1_guarded i1_trains i1_omen i1_train lockA seenA whr homes isSeen leftA were tape would row0 row1 row2 row3) ++ pl) sz) := by
  refine met_of (fun A => (va_Qi (fun (r : Int32) (u : Unit) => r = C_isBlock_e n_blocks x1) (wpost D vwCl A (fun (u : Unit) => ((oW ad ca kept locks seenMany bumpMinute bumpBlock bumpTrains waited keptOut used taped fault costSum safeSum allWays torn n_blocks n_guarded n_trains n_omen n_train t_blocks t_guarded t_trains t_omen t_train i0_blocks i0_guarded i0_trains i0_omen i0_train i1_blocks i1_guarded i1_trains i1_omen i1_train lockA seenA whr homes isSeen leftA were tape would row0 row1 row2 row3) ++ pl))) A)) (by decide) (Nat.le_of_ble_eq_true rfl) ?_
  intro p e s m args below meth c Z A hZ C H locs hP hD hS ls hl
  have hx := C.1; have hb := C.2.1; have hr := C.2.2.1; have hlocks := C.2.2.2.1; have hml := C.2.2.2.2.1; have hown := C.2.2.2.2.2.1; have hts := C.2.2.2.2.2.2.1; have hn := C.2.2.2.2.2.2.2.1; have hK := C.2.2.2.2.2.2.2.2.1; have hA := C.2.2.2.2.2.2.2.2.2
  have hl : lv_has ls 2 [(0, .ref (ad 0)), (1, .int x1)] := hl
  refine lv_iload_n hx hb dX0_isBlock_0 rfl (lv_at hl 1 rfl) ?_
  refine lv_i2l hx hb dX0_isBlock_1 rfl ?_
  refine lv_lconst (v := 0) hx hb dX0_isBlock_2 (by decide) ?_
  refine lv_aload_n hx hb dX0_isBlock_3 rfl (lv_at hl 0 rfl) ?_
  refine va_get hx hb hts in_X0 hown hK hP 0 rfl rfl 1 (by decide) (hts _ q178) (fun _ h => h) rfl dX0_isBlock_4 ?_
  refine va_getN hx hb hts in_X5 hown hK hP 6 rfl rfl 0 (by decide) (va_Nw.use rfl (hn _ q137 rfl)) (fun _ h => h) rfl dX0_isBlock_7 ?_
  refine lv_iconst (v := 1) hx hb dX0_isBlock_10 (by decide) ?_
  refine lv_isub hx hb dX0_isBlock_11 ?_
  refine lv_i2l hx hb dX0_isBlock_12 rfl ?_
  refine wc_Sik (As := [.long ((x1).toInt64), .long (0 : Int64), .long (((n_blocks - (1 : Int32))).toInt64)]) (rest := []) C (met_C_in l D ca H.size ((x1).toInt64) (0 : Int64) (((n_blocks - (1 : Int32))).toInt64)) (va_cwS 3 hts (lw_S q271 q272 q68 q273) rfl rfl rfl (by decide +kernel) ⟨Nat.le_of_ble_eq_true rfl, Nat.le_of_ble_eq_true rfl⟩) hP hD hS [] rfl (by decide) rfl rfl hl.1 (Nat.le_of_ble_eq_true rfl) dX0_isBlock_13 ⟨Nat.le_of_ble_eq_true rfl, Nat.le_of_ble_eq_true rfl⟩ (fun r_1 u H locs hr hP hD hS => ?_)
  subst hr
  rw [hZ]
  exact W.zret hx hb hr (zb_n (C_in_z ((x1).toInt64) (0 : Int64) (((n_blocks - (1 : Int32))).toInt64))) (fun t ht hW => ⟨⟨(C_in_e ((x1).toInt64) (0 : Int64) (((n_blocks - (1 : Int32))).toInt64)), (), rfl, rfl, by rw [ht]; exact hP, hD⟩, hS.F ht⟩) hS.2.2 dX0_isBlock_16 hlocks
abbrev rm_C_isTrain : Room := { frames := 2, cells := 0, slots := 0, locals := 25 }
set_option maxHeartbeats 4000000 in
theorem met_C_isTrain (l : Launch) (D : va_G) (ad : Nat → Nat) (ca : Nat → ClassId) (pl : va_W) (sz : Nat) (kept : Int32) (locks : Int32) (seenMany : Int32) (bumpMinute : Int32) (bumpBlock : Int32) (bumpTrains : Int32) (waited : Int32) (keptOut : Int32) (used : Int32) (taped : Int32) (fault : Int32) (costSum : Int64) (safeSum : Int64) (allWays : Int64) (torn : Int32) (n_blocks : Int32) (n_guarded : Int32) (n_trains : Int32) (n_omen : Nat → Int32) (n_train : Nat → Int32) (t_blocks : Int32) (t_guarded : Int32) (t_trains : Int32) (t_omen : Nat → Int32) (t_train : Nat → Int32) (i0_blocks : Int32) (i0_guarded : Int32) (i0_trains : Int32) (i0_omen : Nat → Int32) (i0_train : Nat → Int32) (i1_blocks : Int32) (i1_guarded : Int32) (i1_trains : Int32) (i1_omen : Nat → Int32) (i1_train : Nat → Int32) (lockA : Nat → Int32) (seenA : Nat → Int32) (whr : Nat → Int32) (homes : Nat → Int32) (isSeen : Nat → Int32) (leftA : Nat → Int32) (were : Nat → Int32) (tape : Nat → Int32) (would : Nat → Int32) (row0 : Option Nat) (row1 : Option Nat) (row2 : Option Nat) (row3 : Option Nat) (x1 : Int32) : Met l yX0_isTrain (ws_ yX0_isTrain cX0_isTrain 2 (some .boolean)) rm_C_isTrain (va_Pc [.ref (ad 0), .int x1] (wpre D vwCl (tyL ca) ((oW ad ca kept locks seenMany bumpMinute bumpBlock bumpTrains waited keptOut used taped fault costSum safeSum allWays torn n_blocks n_guarded n_trains n_omen n_train t_blocks t_guarded t_trains t_omen t_train i0_blocks i0_guarded i0_trains i0_omen i0_train i1_blocks i1_guarded i1_trains i1_omen i1_train lockA seenA whr homes isSeen leftA were tape would row0 row1 row2 row3) ++ pl) sz)) (va_Qi (fun (r : Int32) (u : Unit) => r = C_isTrain_e n_trains x1) (wpost D vwCl (va_A ((oW ad ca kept locks seenMany bumpMinute bumpBlock bumpTrains waited keptOut used taped fault costSum safeSum allWays torn n_blocks n_guarded n_trains n_omen n_train t_blocks t_guarded t_trains t_omen t_train i0_blocks i0_guarded i0_trains i0_omen i0_train i1_blocks i1_guarded i1_trains i1_omen i1_train lockA seenA whr homes isSeen leftA were tape would row0 row1 row2 row3) ++ pl) sz) (fun (u : Unit) => ((oW ad ca kept locks seenMany bumpMinute bumpBlock bumpTrains waited keptOut used taped fault costSum safeSum allWays torn n_blocks n_guarded n_trains n_omen n_train t_blocks t_guarded t_trains t_omen t_train i0_blocks i0_guarded i0_trains i0_omen i0_train i1_blocks i1_guarded i1_trains i1_omen i1_train lockA seenA whr homes isSeen leftA were tape would row0 row1 row2 row3) ++ pl))) (va_A ((oW ad ca kept locks seenMany bumpMinute bumpBlock bumpTrains waited keptOut used taped fault costSum safeSum allWays torn n_blocks n_guarded n_trains n_omen n_train t_blocks t_guarded t_trains t_omen t_train i0_blocks i0_guarded i0_trains i0_omen i0_train i1_blocks i1_guarded i1_trains i1_omen i1_train lockA seenA whr homes isSeen leftA were tape would row0 row1 row2 row3) ++ pl) sz)) 0 0 (va_A ((oW ad ca kept locks seenMany bumpMinute bumpBlock bumpTrains waited keptOut used taped fault costSum safeSum allWays torn n_blocks n_guarded n_trains n_omen n_train t_blocks t_guarded t_trains t_omen t_train i0_blocks i0_guarded i0_trains i0_omen i0_train i1_blocks i1_guarded i1_trains i1_omen i1_train lockA seenA whr homes isSeen leftA were tape would row0 row1 row2 row3) ++ pl) sz) := by
  refine met_of (fun A => (va_Qi (fun (r : Int32) (u : Unit) => r = C_isTrain_e n_trains x1) (wpost D vwCl A (fun (u : Unit) => ((oW ad ca kept locks seenMany bumpMinute bumpBlock bumpTrains waited keptOut used taped fault costSum safeSum allWays torn n_blocks n_guarded n_trains n_omen n_train t_blocks t_guarded t_trains t_omen t_train i0_blocks i0_guarded i0_trains i0_omen i0_train i1_blocks i1_guarded i1_trains i1_omen i1_train lockA seenA whr homes isSeen leftA were tape would row0 row1 row2 row3) ++ pl))) A)) (by decide) (Nat.le_of_ble_eq_true rfl) ?_
  intro p e s m args below meth c Z A hZ C H locs hP hD hS ls hl
  have hx := C.1; have hb := C.2.1; have hr := C.2.2.1; have hlocks := C.2.2.2.1; have hml := C.2.2.2.2.1; have hown := C.2.2.2.2.2.1; have hts := C.2.2.2.2.2.2.1; have hn := C.2.2.2.2.2.2.2.1; have hK := C.2.2.2.2.2.2.2.2.1; have hA := C.2.2.2.2.2.2.2.2.2
  have hl : lv_has ls 2 [(0, .ref (ad 0)), (1, .int x1)] := hl
  refine lv_iload_n hx hb dX0_isTrain_0 rfl (lv_at hl 1 rfl) ?_
  refine lv_i2l hx hb dX0_isTrain_1 rfl ?_
  refine lv_lconst (v := 0) hx hb dX0_isTrain_2 (by decide) ?_
  refine lv_aload_n hx hb dX0_isTrain_3 rfl (lv_at hl 0 rfl) ?_
  refine va_get hx hb hts in_X0 hown hK hP 0 rfl rfl 1 (by decide) (hts _ q178) (fun _ h => h) rfl dX0_isTrain_4 ?_
  refine va_getN hx hb hts in_X5 hown hK hP 6 rfl rfl 3 (by decide) (va_Nw.use rfl (hn _ q146 rfl)) (fun _ h => h) rfl dX0_isTrain_7 ?_
  refine lv_iconst (v := 1) hx hb dX0_isTrain_10 (by decide) ?_
  refine lv_isub hx hb dX0_isTrain_11 ?_
  refine lv_i2l hx hb dX0_isTrain_12 rfl ?_
  refine wc_Sik (As := [.long ((x1).toInt64), .long (0 : Int64), .long (((n_trains - (1 : Int32))).toInt64)]) (rest := []) C (met_C_in l D ca H.size ((x1).toInt64) (0 : Int64) (((n_trains - (1 : Int32))).toInt64)) (va_cwS 3 hts (lw_S q271 q272 q68 q273) rfl rfl rfl (by decide +kernel) ⟨Nat.le_of_ble_eq_true rfl, Nat.le_of_ble_eq_true rfl⟩) hP hD hS [] rfl (by decide) rfl rfl hl.1 (Nat.le_of_ble_eq_true rfl) dX0_isTrain_13 ⟨Nat.le_of_ble_eq_true rfl, Nat.le_of_ble_eq_true rfl⟩ (fun r_1 u H locs hr hP hD hS => ?_)
  subst hr
  rw [hZ]
  exact W.zret hx hb hr (zb_n (C_in_z ((x1).toInt64) (0 : Int64) (((n_trains - (1 : Int32))).toInt64))) (fun t ht hW => ⟨⟨(C_in_e ((x1).toInt64) (0 : Int64) (((n_trains - (1 : Int32))).toInt64)), (), rfl, rfl, by rw [ht]; exact hP, hD⟩, hS.F ht⟩) hS.2.2 dX0_isTrain_16 hlocks
abbrev rm_C_isPart : Room := { frames := 2, cells := 0, slots := 0, locals := 25 }
set_option maxHeartbeats 4000000 in
theorem met_C_isPart (l : Launch) (D : va_G) (ca : Nat → ClassId) (sz : Nat)  (x0 : Int32) : Met l yX0_isPart (ws_ yX0_isPart cX0_isPart 1 (some .boolean)) rm_C_isPart (va_Pc [.int x0] (wpre D vwCl (tyL ca) (eW ca) sz)) (va_Qi (fun (r : Int32) (u : Unit) => r = C_isPart_e x0) (wpost D vwCl (va_A (eW ca) sz) (fun (u : Unit) => (eW ca))) (va_A (eW ca) sz)) 0 0 (va_A (eW ca) sz) := by
  refine met_of (fun A => (va_Qi (fun (r : Int32) (u : Unit) => r = C_isPart_e x0) (wpost D vwCl A (fun (u : Unit) => (eW ca))) A)) (by decide) (Nat.le_of_ble_eq_true rfl) ?_
  intro p e s m args below meth c Z A hZ C H locs hP hD hS ls hl
  have hx := C.1; have hb := C.2.1; have hr := C.2.2.1; have hlocks := C.2.2.2.1; have hml := C.2.2.2.2.1; have hown := C.2.2.2.2.2.1; have hts := C.2.2.2.2.2.2.1; have hn := C.2.2.2.2.2.2.2.1; have hK := C.2.2.2.2.2.2.2.2.1; have hA := C.2.2.2.2.2.2.2.2.2
  have hl : lv_has ls 1 [(0, .int x0)] := hl
  refine lv_iload_n hx hb dX0_isPart_0 rfl (lv_at hl 0 rfl) ?_
  refine lv_i2l hx hb dX0_isPart_1 rfl ?_
  refine lv_lconst (v := 0) hx hb dX0_isPart_2 (by decide) ?_
  refine lv_lconst (v := 1) hx hb dX0_isPart_3 (by decide) ?_
  refine wc_Sik (As := [.long ((x0).toInt64), .long (0 : Int64), .long (1 : Int64)]) (rest := []) C (met_C_in l D ca H.size ((x0).toInt64) (0 : Int64) (1 : Int64)) (va_cwS 3 hts (lw_S q271 q272 q68 q273) rfl rfl rfl (by decide +kernel) ⟨Nat.le_of_ble_eq_true rfl, Nat.le_of_ble_eq_true rfl⟩) hP hD hS (List.range _) (wc_self _) (wc_nd _) rfl rfl hl.1 (Nat.le_of_ble_eq_true rfl) dX0_isPart_4 ⟨Nat.le_of_ble_eq_true rfl, Nat.le_of_ble_eq_true rfl⟩ (fun r_1 u H locs hr hP hD hS => ?_)
  subst hr
  rw [hZ]
  exact W.zret hx hb hr (zb_n (C_in_z ((x0).toInt64) (0 : Int64) (1 : Int64))) (fun t ht hW => ⟨⟨(C_in_e ((x0).toInt64) (0 : Int64) (1 : Int64)), (), rfl, rfl, by rw [ht]; exact hP, hD⟩, hS.F ht⟩) hS.2.2 dX0_isPart_7 hlocks
abbrev rm_C_isMinute : Room := { frames := 2, cells := 0, slots := 0, locals := 25 }
set_option maxHeartbeats 4000000 in
theorem met_C_isMinute (l : Launch) (D : va_G) (ca : Nat → ClassId) (sz : Nat)  (x0 : Int32) : Met l yX0_isMinute (ws_ yX0_isMinute cX0_isMinute 1 (some .boolean)) rm_C_isMinute (va_Pc [.int x0] (wpre D vwCl (tyL ca) (eW ca) sz)) (va_Qi (fun (r : Int32) (u : Unit) => r = C_isMinute_e x0) (wpost D vwCl (va_A (eW ca) sz) (fun (u : Unit) => (eW ca))) (va_A (eW ca) sz)) 0 0 (va_A (eW ca) sz) := by
  refine met_of (fun A => (va_Qi (fun (r : Int32) (u : Unit) => r = C_isMinute_e x0) (wpost D vwCl A (fun (u : Unit) => (eW ca))) A)) (by decide) (Nat.le_of_ble_eq_true rfl) ?_
  intro p e s m args below meth c Z A hZ C H locs hP hD hS ls hl
  have hx := C.1; have hb := C.2.1; have hr := C.2.2.1; have hlocks := C.2.2.2.1; have hml := C.2.2.2.2.1; have hown := C.2.2.2.2.2.1; have hts := C.2.2.2.2.2.2.1; have hn := C.2.2.2.2.2.2.2.1; have hK := C.2.2.2.2.2.2.2.2.1; have hA := C.2.2.2.2.2.2.2.2.2
  have hl : lv_has ls 1 [(0, .int x0)] := hl
  refine lv_iload_n hx hb dX0_isMinute_0 rfl (lv_at hl 0 rfl) ?_
  refine lv_i2l hx hb dX0_isMinute_1 rfl ?_
  refine lv_lconst (v := 0) hx hb dX0_isMinute_2 (by decide) ?_
  refine lv_ldc2 hx hb hown (hts _ q681) dX0_isMinute_3 ?_
  refine wc_Sik (As := [.long ((x0).toInt64), .long (0 : Int64), .long (119 : Int64)]) (rest := []) C (met_C_in l D ca H.size ((x0).toInt64) (0 : Int64) (119 : Int64)) (va_cwS 3 hts (lw_S q271 q272 q68 q273) rfl rfl rfl (by decide +kernel) ⟨Nat.le_of_ble_eq_true rfl, Nat.le_of_ble_eq_true rfl⟩) hP hD hS (List.range _) (wc_self _) (wc_nd _) rfl rfl hl.1 (Nat.le_of_ble_eq_true rfl) dX0_isMinute_6 ⟨Nat.le_of_ble_eq_true rfl, Nat.le_of_ble_eq_true rfl⟩ (fun r_1 u H locs hr hP hD hS => ?_)
  subst hr
  rw [hZ]
  exact W.zret hx hb hr (zb_n (C_in_z ((x0).toInt64) (0 : Int64) (119 : Int64))) (fun t ht hW => ⟨⟨(C_in_e ((x0).toInt64) (0 : Int64) (119 : Int64)), (), rfl, rfl, by rw [ht]; exact hP, hD⟩, hS.F ht⟩) hS.2.2 dX0_isMinute_9 hlocks
abbrev rm_C_rule : Room := { frames := 2, cells := 0, slots := 0, locals := 22 }
set_option maxHeartbeats 4000000 in
theorem met_C_rule (l : Launch) (D : va_G) (ad : Nat → Nat) (ca : Nat → ClassId) (pl : va_W) (sz : Nat) (kept : Int32) (locks : Int32) (seenMany : Int32) (bumpMinute : Int32) (bumpBlock : Int32) (bumpTrains : Int32) (waited : Int32) (keptOut : Int32) (used : Int32) (taped : Int32) (fault : Int32) (costSum : Int64) (safeSum : Int64) (allWays : Int64) (torn : Int32) (n_blocks : Int32) (n_guarded : Int32) (n_trains : Int32) (n_omen : Nat → Int32) (n_train : Nat → Int32) (t_blocks : Int32) (t_guarded : Int32) (t_trains : Int32) (t_omen : Nat → Int32) (t_train : Nat → Int32) (i0_blocks : Int32) (i0_guarded : Int32) (i0_trains : Int32) (i0_omen : Nat → Int32) (i0_train : Nat → Int32) (i1_blocks : Int32) (i1_guarded : Int32) (i1_trains : Int32) (i1_omen : Nat → Int32) (i1_train : Nat → Int32) (lockA : Nat → Int32) (seenA : Nat → Int32) (whr : Nat → Int32) (homes : Nat → Int32) (isSeen : Nat → Int32) (leftA : Nat → Int32) (were : Nat → Int32) (tape : Nat → Int32) (would : Nat → Int32) (row0 : Option Nat) (row1 : Option Nat) (row2 : Option Nat) (row3 : Option Nat) (x1 : Int32) (Q : Int32 → Prop) (G : C_rule locks n_blocks n_guarded n_trains n_omen x1 Q) : Met l yX0_rule (ws_ yX0_rule cX0_rule 2 (some .int)) rm_C_rule (va_Pc [.ref (ad 0), .int x1] (wpre D vwCl (tyL ca) ((oW ad ca kept locks seenMany bumpMinute bumpBlock bumpTrains waited keptOut used taped fault costSum safeSum allWays torn n_blocks n_guarded n_trains n_omen n_train t_blocks t_guarded t_trains t_omen t_train i0_blocks i0_guarded i0_trains i0_omen i0_train i1_blocks i1_guarded i1_trains i1_omen i1_train lockA seenA whr homes isSeen leftA were tape would row0 row1 row2 row3) ++ pl) sz)) (va_Qi (fun (r : Int32) (u : Unit) => Q r) (wpost D vwCl (va_A ((oW ad ca kept locks seenMany bumpMinute bumpBlock bumpTrains waited keptOut used taped fault costSum safeSum allWays torn n_blocks n_guarded n_trains n_omen n_train t_blocks t_guarded t_trains t_omen t_train i0_blocks i0_guarded i0_trains i0_omen i0_train i1_blocks i1_guarded i1_trains i1_omen i1_train lockA seenA whr homes isSeen leftA were tape would row0 row1 row2 row3) ++ pl) sz) (fun (u : Unit) => ((oW ad ca kept locks seenMany bumpMinute bumpBlock bumpTrains waited keptOut used taped fault costSum safeSum allWays torn n_blocks n_guarded n_trains n_omen n_train t_blocks t_guarded t_trains t_omen t_train i0_blocks i0_guarded i0_trains i0_omen i0_train i1_blocks i1_guarded i1_trains i1_omen i1_train lockA seenA whr homes isSeen leftA were tape would row0 row1 row2 row3) ++ pl))) (va_A ((oW ad ca kept locks seenMany bumpMinute bumpBlock bumpTrains waited keptOut used taped fault costSum safeSum allWays torn n_blocks n_guarded n_trains n_omen n_train t_blocks t_guarded t_trains t_omen t_train i0_blocks i0_guarded i0_trains i0_omen i0_train i1_blocks i1_guarded i1_trains i1_omen i1_train lockA seenA whr homes isSeen leftA were tape would row0 row1 row2 row3) ++ pl) sz)) 0 0 (va_A ((oW ad ca kept locks seenMany bumpMinute bumpBlock bumpTrains waited keptOut used taped fault costSum safeSum allWays torn n_blocks n_guarded n_trains n_omen n_train t_blocks t_guarded t_trains t_omen t_train i0_blocks i0_guarded i0_trains i0_omen i0_train i1_blocks i1_guarded i1_trains i1_omen i1_train lockA seenA whr homes isSeen leftA were tape would row0 row1 row2 row3) ++ pl) sz) := by
  refine met_of (fun A => (va_Qi (fun (r : Int32) (u : Unit) => Q r) (wpost D vwCl A (fun (u : Unit) => ((oW ad ca kept locks seenMany bumpMinute bumpBlock bumpTrains waited keptOut used taped fault costSum safeSum allWays torn n_blocks n_guarded n_trains n_omen n_train t_blocks t_guarded t_trains t_omen t_train i0_blocks i0_guarded i0_trains i0_omen i0_train i1_blocks i1_guarded i1_trains i1_omen i1_train lockA seenA whr homes isSeen leftA were tape would row0 row1 row2 row3) ++ pl))) A)) (by decide) (Nat.le_of_ble_eq_true rfl) ?_
  intro p e s m args below meth c Z A hZ C H locs hP hD hS ls hl
  have hx := C.1; have hb := C.2.1; have hr := C.2.2.1; have hlocks := C.2.2.2.1; have hml := C.2.2.2.2.1; have hown := C.2.2.2.2.2.1; have hts := C.2.2.2.2.2.2.1; have hn := C.2.2.2.2.2.2.2.1; have hK := C.2.2.2.2.2.2.2.2.1; have hA := C.2.2.2.2.2.2.2.2.2
  have hl : lv_has ls 2 [(0, .ref (ad 0)), (1, .int x1)] := hl
  unfold C_rule at G
  refine lv_iload_n hx hb dX0_rule_0 rfl (lv_at hl 1 rfl) ?_
  rcases sw_4 x1 with c_1 | c_1 | c_1 | c_1 | c_1 | c_1
  · have G := G.1 c_1
    refine lv_tableIn (off := 35) (tgt := 36) hx hb dX0_rule_1 (by rw [c_1]; decide) (by rw [c_1]; decide) (by rw [c_1]; rfl) (by decide) ?_
    refine lv_aload_n hx hb dX0_rule_36 rfl (lv_at hl 0 rfl) ?_
    refine va_get hx hb hts in_X0 hown hK hP 0 rfl rfl 1 (by decide) (hts _ q178) (fun _ h => h) rfl dX0_rule_37 ?_
    refine va_getN hx hb hts in_X5 hown hK hP 6 rfl rfl 0 (by decide) (va_Nw.use rfl (hn _ q137 rfl)) (fun _ h => h) rfl dX0_rule_40 ?_
    rw [hZ]
    exact W.iret hx hb hr (fun t ht hW => ⟨⟨n_blocks, (), rfl, G, by rw [ht]; exact hP, hD⟩, hS.F ht⟩) hS.2.2 dX0_rule_43 hlocks
  · have G := G.2.1 c_1
    refine lv_tableIn (off := 43) (tgt := 44) hx hb dX0_rule_1 (by rw [c_1]; decide) (by rw [c_1]; decide) (by rw [c_1]; rfl) (by decide) ?_
    refine lv_aload_n hx hb dX0_rule_44 rfl (lv_at hl 0 rfl) ?_
    refine va_get hx hb hts in_X0 hown hK hP 0 rfl rfl 1 (by decide) (hts _ q178) (fun _ h => h) rfl dX0_rule_45 ?_
    refine va_getN hx hb hts in_X5 hown hK hP 6 rfl rfl 3 (by decide) (va_Nw.use rfl (hn _ q146 rfl)) (fun _ h => h) rfl dX0_rule_48 ?_
    rw [hZ]
    exact W.iret hx hb hr (fun t ht hW => ⟨⟨n_trains, (), rfl, G, by rw [ht]; exact hP, hD⟩, hS.F ht⟩) hS.2.2 dX0_rule_51 hlocks
  · have G := G.2.2.1 c_1
    refine lv_tableIn (off := 51) (tgt := 52) hx hb dX0_rule_1 (by rw [c_1]; decide) (by rw [c_1]; decide) (by rw [c_1]; rfl) (by decide) ?_
    refine lv_aload_n hx hb dX0_rule_52 rfl (lv_at hl 0 rfl) ?_
    refine va_get hx hb hts in_X0 hown hK hP 0 rfl rfl 5 (by decide) (hts _ q182) (fun _ h => h) rfl dX0_rule_53 ?_
    rw [hZ]
    exact W.iret hx hb hr (fun t ht hW => ⟨⟨locks, (), rfl, G, by rw [ht]; exact hP, hD⟩, hS.F ht⟩) hS.2.2 dX0_rule_56 hlocks
  · have G := G.2.2.2.1 c_1
    refine lv_tableIn (off := 56) (tgt := 57) hx hb dX0_rule_1 (by rw [c_1]; decide) (by rw [c_1]; decide) (by rw [c_1]; rfl) (by decide) ?_
    refine lv_aload_n hx hb dX0_rule_57 rfl (lv_at hl 0 rfl) ?_
    refine va_get hx hb hts in_X0 hown hK hP 0 rfl rfl 1 (by decide) (hts _ q178) (fun _ h => h) rfl dX0_rule_58 ?_
    refine va_getN hx hb hts in_X5 hown hK hP 6 rfl rfl 2 (by decide) (va_Nw.use rfl (hn _ q143 rfl)) (fun _ h => h) rfl dX0_rule_61 ?_
    rw [hZ]
    exact W.iret hx hb hr (fun t ht hW => ⟨⟨n_guarded, (), rfl, G, by rw [ht]; exact hP, hD⟩, hS.F ht⟩) hS.2.2 dX0_rule_64 hlocks
  · have G := G.2.2.2.2.1 c_1
    refine lv_tableIn (off := 64) (tgt := 65) hx hb dX0_rule_1 (by rw [c_1]; decide) (by rw [c_1]; decide) (by rw [c_1]; rfl) (by decide) ?_
    refine lv_aload_n hx hb dX0_rule_65 rfl (lv_at hl 0 rfl) ?_
    refine va_get hx hb hts in_X0 hown hK hP 0 rfl rfl 1 (by decide) (hts _ q178) (fun _ h => h) rfl dX0_rule_66 ?_
    refine wc_Vik (As := []) (rest := []) C (met_B_hung l D (ad 6) (ad 7) (ad 8) ca H.size n_blocks n_guarded n_trains n_omen n_train _ G) (cwV 0 hts (lw_V q571 q572 q573 q73 q574) rfl rfl rfl (by decide +kernel) ⟨Nat.le_of_ble_eq_true rfl, Nat.le_of_ble_eq_true rfl⟩) hP hD hS [6, 7, 8] rfl (by decide) 6 rfl rfl rfl rfl hl.1 (Nat.le_of_ble_eq_true rfl) dX0_rule_69 ⟨Nat.le_of_ble_eq_true rfl, Nat.le_of_ble_eq_true rfl⟩ (fun r_2 u H locs G hP hD hS => ?_)
    rw [hZ]
    exact W.iret hx hb hr (fun t ht hW => ⟨⟨r_2, (), rfl, G, by rw [ht]; exact hP, hD⟩, hS.F ht⟩) hS.2.2 dX0_rule_72 hlocks
  · have G := G.2.2.2.2.2 c_1
    refine lv_tableOut (tgt := 73) hx hb dX0_rule_1 c_1 (by decide) ?_
    refine lv_iconst (v := -1) hx hb dX0_rule_73 (by decide) ?_
    rw [hZ]
    exact W.iret hx hb hr (fun t ht hW => ⟨⟨(-1 : Int32), (), rfl, G, by rw [ht]; exact hP, hD⟩, hS.F ht⟩) hS.2.2 dX0_rule_74 hlocks
abbrev rm_C_block : Room := { frames := 3, cells := 0, slots := 0, locals := 46 }
set_option maxHeartbeats 4000000 in
theorem w_C_block_L27 {p : Program} {l : Launch} {e : Env} {s : State} {m : MethodId} {args : Array Value} {below : List Frame} {meth : Method} {c : Code} {D : va_G} {ad : Nat → Nat} {ca : Nat → ClassId} {pl : va_W} {A : Nat → Prop} {Z : State → Prop} (C : cx cX0_block 5 (some .int) RX0 D vwCl (tyL ca) A p c meth s m args) {kept : Int32} {locks : Int32} {seenMany : Int32} {bumpMinute : Int32} {bumpBlock : Int32} {bumpTrains : Int32} {waited : Int32} {keptOut : Int32} {used : Int32} {taped : Int32} {fault : Int32} {costSum : Int64} {safeSum : Int64} {allWays : Int64} {torn : Int32} {n_blocks : Int32} {n_guarded : Int32} {n_trains : Int32} {n_omen : Nat → Int32} {n_train : Nat → Int32} {t_blocks : Int32} {t_guarded : Int32} {t_trains : Int32} {t_omen : Nat → Int32} {t_train : Nat → Int32} {i0_blocks : Int32} {i0_guarded : Int32} {i0_trains : Int32} {i0_omen : Nat → Int32} {i0_train : Nat → Int32} {i1_blocks : Int32} {i1_guarded : Int32} {i1_trains : Int32} {i1_omen : Nat → Int32} {i1_train : Nat → Int32} {lockA : Nat → Int32} {seenA : Nat → Int32} {whr : Nat → Int32} {homes : Nat → Int32} {isSeen : Nat → Int32} {leftA : Nat → Int32} {were : Nat → Int32} {tape : Nat → Int32} {would : Nat → Int32} {row0 : Option Nat} {row1 : Option Nat} {row2 : Option Nat} {row3 : Option Nat} {x1 : Int32} {x2 : Int32} {k108 : Int32 → Prop} (hk108 : ∀ (x3 : Int32), k108 x3 → ∀ (ls : Array Slot) (H : Heap) (locs : List Loc), lv_has ls 5 [(0, .ref (ad 0)), (1, .int x1), (2, .int x2), (3, .int x3)] → va_P D vwCl ((oW ad ca kept locks seenMany bumpMinute bumpBlock bumpTrains waited keptOut used taped fault costSum safeSum allWays torn n_blocks n_guarded n_trains n_omen n_train t_blocks t_guarded t_trains t_omen t_train i0_blocks i0_guarded i0_trains i0_omen i0_train i1_blocks i1_guarded i1_trains i1_omen i1_train lockA seenA whr homes isSeen leftA were tape would row0 row1 row2 row3) ++ pl) H → va_D A ((oW ad ca kept locks seenMany bumpMinute bumpBlock bumpTrains waited keptOut used taped fault costSum safeSum allWays torn n_blocks n_guarded n_trains n_omen n_train t_blocks t_guarded t_trains t_omen t_train i0_blocks i0_guarded i0_trains i0_omen i0_train i1_blocks i1_guarded i1_trains i1_omen i1_train lockA seenA whr homes isSeen leftA were tape would row0 row1 row2 row3) ++ pl) → va_S A s.heap H locs → W p l e rm_C_block s m args below meth c H locs 0 0 Z (F0 m 108 ls [])) : ∀ (n : Nat) (x3 : Int32) (x4 : Int32), C_block_L27 locks lockA x1 k108 n x3 x4 → ∀ (ls : Array Slot) (H : Heap) (locs : List Loc), lv_has ls 5 [(0, .ref (ad 0)), (1, .int x1), (2, .int x2), (3, .int x3), (4, .int x4)] → va_P D vwCl ((oW ad ca kept locks seenMany bumpMinute bumpBlock bumpTrains waited keptOut used taped fault costSum safeSum allWays torn n_blocks n_guarded n_trains n_omen n_train t_blocks t_guarded t_trains t_omen t_train i0_blocks i0_guarded i0_trains i0_omen i0_train i1_blocks i1_guarded i1_trains i1_omen i1_train lockA seenA whr homes isSeen leftA were tape would row0 row1 row2 row3) ++ pl) H → va_D A ((oW ad ca kept locks seenMany bumpMinute bumpBlock bumpTrains waited keptOut used taped fault costSum safeSum allWays torn n_blocks n_guarded n_trains n_omen n_train t_blocks t_guarded t_trains t_omen t_train i0_blocks i0_guarded i0_trains i0_omen i0_train i1_blocks i1_guarded i1_trains i1_omen i1_train lockA seenA whr homes isSeen leftA were tape would row0 row1 row2 row3) ++ pl) → va_S A s.heap H locs → W p l e rm_C_block s m args below meth c H locs 0 0 Z (F0 m 27 ls []) := by
  have hx := C.1; have hb := C.2.1; have hr := C.2.2.1; have hlocks := C.2.2.2.1; have hml := C.2.2.2.2.1; have hown := C.2.2.2.2.2.1; have hts := C.2.2.2.2.2.2.1; have hn := C.2.2.2.2.2.2.2.1; have hK := C.2.2.2.2.2.2.2.2.1; have hA := C.2.2.2.2.2.2.2.2.2
  intro n
  induction n with
  | zero =>
    intro x3 x4 G
    exact False.elim G
  | succ n ih =>
    intro x3 x4 G ls H locs hl hP hD hS
    unfold C_block_L27 at G
    have hk27 := ih
    refine lv_iload hx hb dX0_block_27 (lv_at hl 4 rfl) ?_
    refine lv_aload_n hx hb dX0_block_29 rfl (lv_at hl 0 rfl) ?_
    refine va_get hx hb hts in_X0 hown hK hP 0 rfl rfl 5 (by decide) (hts _ q182) (fun _ h => h) rfl dX0_block_30 ?_
    refine lv_icmp_ge (tgt := 108) hx hb dX0_block_33 (by decide) (fun c_5 => ?_) (fun c_5 => ?_)
    · have G := G.1 c_5
      exact hk108 _ G _ _ _ (lv_sub hl [0, 1, 2, 3] rfl) hP hD hS
    · have G := G.2 c_5
      refine lv_iload_n hx hb dX0_block_36 rfl (lv_at hl 3 rfl) ?_
      refine lv_aload_n hx hb dX0_block_37 rfl (lv_at hl 0 rfl) ?_
      refine va_get hx hb hts in_X0 hown hK hP 0 rfl rfl 6 (by decide) (hts _ q183) (fun _ h => h) rfl dX0_block_38 ?_
      refine lv_iconst (v := 2) hx hb dX0_block_41 (by decide) ?_
      refine lv_iload hx hb dX0_block_42 (lv_at hl 4 rfl) ?_
      refine lv_imul hx hb dX0_block_44 ?_
      obtain ⟨h_6, G⟩ := G
      refine va_bald hx hb hK hP 19 2 rfl rfl h_6 dX0_block_45 ?_
      refine lv_iload_n hx hb dX0_block_46 rfl (lv_at hl 1 rfl) ?_
      obtain ⟨h_8, G⟩ := G
      have hJ : ∀ (H : Heap) (locs : List Loc), va_P D vwCl ((oW ad ca kept locks seenMany bumpMinute bumpBlock bumpTrains waited keptOut used taped fault costSum safeSum allWays torn n_blocks n_guarded n_trains n_omen n_train t_blocks t_guarded t_trains t_omen t_train i0_blocks i0_guarded i0_trains i0_omen i0_train i1_blocks i1_guarded i1_trains i1_omen i1_train lockA seenA whr homes isSeen leftA were tape would row0 row1 row2 row3) ++ pl) H → va_D A ((oW ad ca kept locks seenMany bumpMinute bumpBlock bumpTrains waited keptOut used taped fault costSum safeSum allWays torn n_blocks n_guarded n_trains n_omen n_train t_blocks t_guarded t_trains t_omen t_train i0_blocks i0_guarded i0_trains i0_omen i0_train i1_blocks i1_guarded i1_trains i1_omen i1_train lockA seenA whr homes isSeen leftA were tape would row0 row1 row2 row3) ++ pl) → va_S A s.heap H locs → ∀ v_13 : Int32, v_13 = (if (lockA ((2 : Int32) * x4).toNatClampNeg) = x1 then ((1 : Int32) <<< ((lockA (((2 : Int32) * x4) + (1 : Int32)).toNatClampNeg) &&& 31)) else (0 : Int32)) → W p l e rm_C_block s m args below meth c H locs 0 0 Z (F0 m 67 ls (.int v_13 :: [.int x3])) := by
        intro H locs hP hD hS v_13 hv
        subst hv
        refine lv_ior hx hb dX0_block_67 ?_
        refine lv_istore_n (lv' := [(3, .int (x3 ||| (if (lockA ((2 : Int32) * x4).toNatClampNeg) = x1 then ((1 : Int32) <<< ((lockA (((2 : Int32) * x4) + (1 : Int32)).toNatClampNeg) &&& 31)) else (0 : Int32)))), (0, .ref (ad 0)), (1, .int x1), (2, .int x2), (4, .int x4)]) hx hb dX0_block_68 rfl hl (by decide) rfl (fun ls hl => ?_)
        refine lv_iload_n hx hb dX0_block_69 rfl (lv_at hl 0 rfl) ?_
        refine lv_aload_n hx hb dX0_block_70 rfl (lv_at hl 1 rfl) ?_
        refine va_get hx hb hts in_X0 hown hK hP 0 rfl rfl 6 (by decide) (hts _ q183) (fun _ h => h) rfl dX0_block_71 ?_
        refine lv_iconst (v := 2) hx hb dX0_block_74 (by decide) ?_
        refine lv_iload hx hb dX0_block_75 (lv_at hl 4 rfl) ?_
        refine lv_imul hx hb dX0_block_77 ?_
        refine lv_iconst (v := 1) hx hb dX0_block_78 (by decide) ?_
        refine lv_iadd hx hb dX0_block_79 ?_
        obtain ⟨h_9, G⟩ := G
        refine va_bald hx hb hK hP 19 2 rfl rfl h_9 dX0_block_80 ?_
        refine lv_iload_n hx hb dX0_block_81 rfl (lv_at hl 2 rfl) ?_
        obtain ⟨h_11, G⟩ := G
        have hJ : ∀ (H : Heap) (locs : List Loc), va_P D vwCl ((oW ad ca kept locks seenMany bumpMinute bumpBlock bumpTrains waited keptOut used taped fault costSum safeSum allWays torn n_blocks n_guarded n_trains n_omen n_train t_blocks t_guarded t_trains t_omen t_train i0_blocks i0_guarded i0_trains i0_omen i0_train i1_blocks i1_guarded i1_trains i1_omen i1_train lockA seenA whr homes isSeen leftA were tape would row0 row1 row2 row3) ++ pl) H → va_D A ((oW ad ca kept locks seenMany bumpMinute bumpBlock bumpTrains waited keptOut used taped fault costSum safeSum allWays torn n_blocks n_guarded n_trains n_omen n_train t_blocks t_guarded t_trains t_omen t_train i0_blocks i0_guarded i0_trains i0_omen i0_train i1_blocks i1_guarded i1_trains i1_omen i1_train lockA seenA whr homes isSeen leftA were tape would row0 row1 row2 row3) ++ pl) → va_S A s.heap H locs → ∀ v_12 : Int32, v_12 = (if (lockA (((2 : Int32) * x4) + (1 : Int32)).toNatClampNeg) = x1 then ((1 : Int32) <<< ((lockA ((2 : Int32) * x4).toNatClampNeg) &&& 31)) else (0 : Int32)) → W p l e rm_C_block s m args below meth c H locs 0 0 Z (F0 m 100 ls (.int v_12 :: [.int (x3 ||| (if (lockA ((2 : Int32) * x4).toNatClampNeg) = x1 then ((1 : Int32) <<< ((lockA (((2 : Int32) * x4) + (1 : Int32)).toNatClampNeg) &&& 31)) else (0 : Int32)))])) := by
          intro H locs hP hD hS v_12 hv
          subst hv
          refine lv_ior hx hb dX0_block_100 ?_
          refine lv_istore_n (lv' := [(3, .int ((x3 ||| (if (lockA ((2 : Int32) * x4).toNatClampNeg) = x1 then ((1 : Int32) <<< ((lockA (((2 : Int32) * x4) + (1 : Int32)).toNatClampNeg) &&& 31)) else (0 : Int32))) ||| (if (lockA (((2 : Int32) * x4) + (1 : Int32)).toNatClampNeg) = x1 then ((1 : Int32) <<< ((lockA ((2 : Int32) * x4).toNatClampNeg) &&& 31)) else (0 : Int32)))), (0, .ref (ad 0)), (1, .int x1), (2, .int x2), (4, .int x4)]) hx hb dX0_block_101 rfl hl (by decide) rfl (fun ls hl => ?_)
          refine lv_iinc (v := (x4 + (1 : Int32))) (lv' := [(4, .int (x4 + (1 : Int32))), (3, .int ((x3 ||| (if (lockA ((2 : Int32) * x4).toNatClampNeg) = x1 then ((1 : Int32) <<< ((lockA (((2 : Int32) * x4) + (1 : Int32)).toNatClampNeg) &&& 31)) else (0 : Int32))) ||| (if (lockA (((2 : Int32) * x4) + (1 : Int32)).toNatClampNeg) = x1 then ((1 : Int32) <<< ((lockA ((2 : Int32) * x4).toNatClampNeg) &&& 31)) else (0 : Int32)))), (0, .ref (ad 0)), (1, .int x1), (2, .int x2)]) hx hb dX0_block_102 hl (k := 4) rfl rfl (by decide) rfl (fun ls hl => ?_)
          refine lv_goto (tgt := 27) hx hb dX0_block_105 (by decide) ?_
          exact hk27 _ _ G _ _ _ (lv_sub hl [2, 3, 4, 1, 0] rfl) hP hD hS
        refine lv_icmp_ne (tgt := 99) hx hb dX0_block_82 (by decide) (fun c_10 => ?_) (fun c_10 => ?_)
        · refine lv_iconst (v := 0) hx hb dX0_block_99 (by decide) ?_
          exact hJ _ _ hP hD hS _ (eF c_10 rfl)
        · refine lv_iconst (v := 1) hx hb dX0_block_85 (by decide) ?_
          refine lv_aload_n hx hb dX0_block_86 rfl (lv_at hl 1 rfl) ?_
          refine va_get hx hb hts in_X0 hown hK hP 0 rfl rfl 6 (by decide) (hts _ q183) (fun _ h => h) rfl dX0_block_87 ?_
          refine lv_iconst (v := 2) hx hb dX0_block_90 (by decide) ?_
          refine lv_iload hx hb dX0_block_91 (lv_at hl 4 rfl) ?_
          refine lv_imul hx hb dX0_block_93 ?_
          refine va_bald hx hb hK hP 19 2 rfl rfl (h_11 c_10) dX0_block_94 ?_
          refine lv_ishl hx hb dX0_block_95 ?_
          refine lv_goto (tgt := 100) hx hb dX0_block_96 (by decide) ?_
          exact hJ _ _ hP hD hS _ (eT c_10 rfl)
      refine lv_icmp_ne (tgt := 66) hx hb dX0_block_47 (by decide) (fun c_7 => ?_) (fun c_7 => ?_)
      · refine lv_iconst (v := 0) hx hb dX0_block_66 (by decide) ?_
        exact hJ _ _ hP hD hS _ (eF c_7 rfl)
      · refine lv_iconst (v := 1) hx hb dX0_block_50 (by decide) ?_
        refine lv_aload_n hx hb dX0_block_51 rfl (lv_at hl 0 rfl) ?_
        refine va_get hx hb hts in_X0 hown hK hP 0 rfl rfl 6 (by decide) (hts _ q183) (fun _ h => h) rfl dX0_block_52 ?_
        refine lv_iconst (v := 2) hx hb dX0_block_55 (by decide) ?_
        refine lv_iload hx hb dX0_block_56 (lv_at hl 4 rfl) ?_
        refine lv_imul hx hb dX0_block_58 ?_
        refine lv_iconst (v := 1) hx hb dX0_block_59 (by decide) ?_
        refine lv_iadd hx hb dX0_block_60 ?_
        refine va_bald hx hb hK hP 19 2 rfl rfl (h_8 c_7) dX0_block_61 ?_
        refine lv_ishl hx hb dX0_block_62 ?_
        refine lv_goto (tgt := 67) hx hb dX0_block_63 (by decide) ?_
        exact hJ _ _ hP hD hS _ (eT c_7 rfl)
set_option maxHeartbeats 4000000 in
theorem met_C_block (l : Launch) (D : va_G) (ad : Nat → Nat) (ca : Nat → ClassId) (pl : va_W) (sz : Nat) (kept : Int32) (locks : Int32) (seenMany : Int32) (bumpMinute : Int32) (bumpBlock : Int32) (bumpTrains : Int32) (waited : Int32) (keptOut : Int32) (used : Int32) (taped : Int32) (fault : Int32) (costSum : Int64) (safeSum : Int64) (allWays : Int64) (torn : Int32) (n_blocks : Int32) (n_guarded : Int32) (n_trains : Int32) (n_omen : Nat → Int32) (n_train : Nat → Int32) (t_blocks : Int32) (t_guarded : Int32) (t_trains : Int32) (t_omen : Nat → Int32) (t_train : Nat → Int32) (i0_blocks : Int32) (i0_guarded : Int32) (i0_trains : Int32) (i0_omen : Nat → Int32) (i0_train : Nat → Int32) (i1_blocks : Int32) (i1_guarded : Int32) (i1_trains : Int32) (i1_omen : Nat → Int32) (i1_train : Nat → Int32) (lockA : Nat → Int32) (seenA : Nat → Int32) (whr : Nat → Int32) (homes : Nat → Int32) (isSeen : Nat → Int32) (leftA : Nat → Int32) (were : Nat → Int32) (tape : Nat → Int32) (would : Nat → Int32) (row0 : Option Nat) (row1 : Option Nat) (row2 : Option Nat) (row3 : Option Nat) (x1 : Int32) (x2 : Int32) (Q : Int32 → Prop) (G : C_block locks n_blocks n_guarded n_omen lockA x1 x2 Q) : Met l yX0_block (ws_ yX0_block cX0_block 5 (some .int)) rm_C_block (va_Pc [.ref (ad 0), .int x1, .int x2] (wpre D vwCl (tyL ca) ((oW ad ca kept locks seenMany bumpMinute bumpBlock bumpTrains waited keptOut used taped fault costSum safeSum allWays torn n_blocks n_guarded n_trains n_omen n_train t_blocks t_guarded t_trains t_omen t_train i0_blocks i0_guarded i0_trains i0_omen i0_train i1_blocks i1_guarded i1_trains i1_omen i1_train lockA seenA whr homes isSeen leftA were tape would row0 row1 row2 row3) ++ pl) sz)) (va_Qi (fun (r : Int32) (u : Unit) => Q r) (wpost D vwCl (va_A ((oW ad ca kept locks seenMany bumpMinute bumpBlock bumpTrains waited keptOut used taped fault costSum safeSum allWays torn n_blocks n_guarded n_trains n_omen n_train t_blocks t_guarded t_trains t_omen t_train i0_blocks i0_guarded i0_trains i0_omen i0_train i1_blocks i1_guarded i1_trains i1_omen i1_train lockA seenA whr homes isSeen leftA were tape would row0 row1 row2 row3) ++ pl) sz) (fun (u : Unit) => ((oW ad ca kept locks seenMany bumpMinute bumpBlock bumpTrains waited keptOut used taped fault costSum safeSum allWays torn n_blocks n_guarded n_trains n_omen n_train t_blocks t_guarded t_trains t_omen t_train i0_blocks i0_guarded i0_trains i0_omen i0_train i1_blocks i1_guarded i1_trains i1_omen i1_train lockA seenA whr homes isSeen leftA were tape would row0 row1 row2 row3) ++ pl))) (va_A ((oW ad ca kept locks seenMany bumpMinute bumpBlock bumpTrains waited keptOut used taped fault costSum safeSum allWays torn n_blocks n_guarded n_trains n_omen n_train t_blocks t_guarded t_trains t_omen t_train i0_blocks i0_guarded i0_trains i0_omen i0_train i1_blocks i1_guarded i1_trains i1_omen i1_train lockA seenA whr homes isSeen leftA were tape would row0 row1 row2 row3) ++ pl) sz)) 0 0 (va_A ((oW ad ca kept locks seenMany bumpMinute bumpBlock bumpTrains waited keptOut used taped fault costSum safeSum allWays torn n_blocks n_guarded n_trains n_omen n_train t_blocks t_guarded t_trains t_omen t_train i0_blocks i0_guarded i0_trains i0_omen i0_train i1_blocks i1_guarded i1_trains i1_omen i1_train lockA seenA whr homes isSeen leftA were tape would row0 row1 row2 row3) ++ pl) sz) := by
  refine met_of (fun A => (va_Qi (fun (r : Int32) (u : Unit) => Q r) (wpost D vwCl A (fun (u : Unit) => ((oW ad ca kept locks seenMany bumpMinute bumpBlock bumpTrains waited keptOut used taped fault costSum safeSum allWays torn n_blocks n_guarded n_trains n_omen n_train t_blocks t_guarded t_trains t_omen t_train i0_blocks i0_guarded i0_trains i0_omen i0_train i1_blocks i1_guarded i1_trains i1_omen i1_train lockA seenA whr homes isSeen leftA were tape would row0 row1 row2 row3) ++ pl))) A)) (by decide) (Nat.le_of_ble_eq_true rfl) ?_
  intro p e s m args below meth c Z A hZ C H locs hP hD hS ls hl
  have hx := C.1; have hb := C.2.1; have hr := C.2.2.1; have hlocks := C.2.2.2.1; have hml := C.2.2.2.2.1; have hown := C.2.2.2.2.2.1; have hts := C.2.2.2.2.2.2.1; have hn := C.2.2.2.2.2.2.2.1; have hK := C.2.2.2.2.2.2.2.2.1; have hA := C.2.2.2.2.2.2.2.2.2
  have hl : lv_has ls 5 [(0, .ref (ad 0)), (1, .int x1), (2, .int x2)] := hl
  unfold C_block at G
  refine lv_aload_n hx hb dX0_block_0 rfl (lv_at hl 0 rfl) ?_
  refine lv_iload_n hx hb dX0_block_1 rfl (lv_at hl 1 rfl) ?_
  refine wc_Vik (As := [.int x1]) (rest := []) C (met_C_isBlock l D ad ca pl H.size kept locks seenMany bumpMinute bumpBlock bumpTrains waited keptOut used taped fault costSum safeSum allWays torn n_blocks n_guarded n_trains n_omen n_train t_blocks t_guarded t_trains t_omen t_train i0_blocks i0_guarded i0_trains i0_omen i0_train i1_blocks i1_guarded i1_trains i1_omen i1_train lockA seenA whr homes isSeen leftA were tape would row0 row1 row2 row3 x1) (cwV 1 hts (lw_V q579 q581 qs19 q68 q582) rfl rfl rfl (by decide +kernel) ⟨Nat.le_of_ble_eq_true rfl, Nat.le_of_ble_eq_true rfl⟩) hP hD hS (List.range _) (wc_self _) (wc_nd _) 0 rfl rfl rfl rfl hl.1 (Nat.le_of_ble_eq_true rfl) dX0_block_2 ⟨Nat.le_of_ble_eq_true rfl, Nat.le_of_ble_eq_true rfl⟩ (fun r_1 u H locs hr hP hD hS => ?_)
  subst hr
  refine lv_if_eq (tgt := 20) hx hb dX0_block_5 (by decide) (fun c_2 => ?_) (fun c_2 => ?_)
  · have G := G.1 c_2
    refine lv_iconst (v := -1) hx hb dX0_block_20 (by decide) ?_
    rw [hZ]
    exact W.iret hx hb hr (fun t ht hW => ⟨⟨(-1 : Int32), (), rfl, G, by rw [ht]; exact hP, hD⟩, hS.F ht⟩) hS.2.2 dX0_block_21 hlocks
  · have G := G.2 c_2
    refine lv_iload_n hx hb dX0_block_8 rfl (lv_at hl 2 rfl) ?_
    refine lv_i2l hx hb dX0_block_9 rfl ?_
    refine lv_lconst (v := 0) hx hb dX0_block_10 (by decide) ?_
    refine lv_ldc2 hx hb hown (hts _ q583) dX0_block_11 ?_
    refine wc_Sik (As := [.long ((x2).toInt64), .long (0 : Int64), .long (2 : Int64)]) (rest := []) C (met_C_in l D ca H.size ((x2).toInt64) (0 : Int64) (2 : Int64)) (va_cwS 3 hts (lw_S q271 q272 q68 q273) rfl rfl rfl (by decide +kernel) ⟨Nat.le_of_ble_eq_true rfl, Nat.le_of_ble_eq_true rfl⟩) hP hD hS [] rfl (by decide) rfl rfl hl.1 (Nat.le_of_ble_eq_true rfl) dX0_block_14 ⟨Nat.le_of_ble_eq_true rfl, Nat.le_of_ble_eq_true rfl⟩ (fun r_3 u H locs hr hP hD hS => ?_)
    subst hr
    refine lv_if_ne (tgt := 22) hx hb dX0_block_17 (by decide) (fun c_4 => ?_) (fun c_4 => ?_)
    · have G := G.2 c_4
      refine lv_iconst (v := 0) hx hb dX0_block_22 (by decide) ?_
      refine lv_istore_n (lv' := [(3, .int (0 : Int32)), (0, .ref (ad 0)), (1, .int x1), (2, .int x2)]) hx hb dX0_block_23 rfl hl (by decide) rfl (fun ls hl => ?_)
      refine lv_iconst (v := 0) hx hb dX0_block_24 (by decide) ?_
      refine lv_istore (lv' := [(4, .int (0 : Int32)), (3, .int (0 : Int32)), (0, .ref (ad 0)), (1, .int x1), (2, .int x2)]) hx hb dX0_block_25 hl (by decide) rfl (fun ls hl => ?_)
      obtain ⟨n_14, G⟩ := G
      refine w_C_block_L27 C (fun x3_15 G ls H locs hl hP hD hS => ?_) n_14 _ _ G _ _ _ (lv_sub hl [2, 3, 4, 1, 0] rfl) hP hD hS
      refine lv_iload_n hx hb dX0_block_108 rfl (lv_at hl 2 rfl) ?_
      obtain ⟨h_18, G⟩ := G
      have hJ : ∀ (H : Heap) (locs : List Loc), va_P D vwCl ((oW ad ca kept locks seenMany bumpMinute bumpBlock bumpTrains waited keptOut used taped fault costSum safeSum allWays torn n_blocks n_guarded n_trains n_omen n_train t_blocks t_guarded t_trains t_omen t_train i0_blocks i0_guarded i0_trains i0_omen i0_train i1_blocks i1_guarded i1_trains i1_omen i1_train lockA seenA whr homes isSeen leftA were tape would row0 row1 row2 row3) ++ pl) H → va_D A ((oW ad ca kept locks seenMany bumpMinute bumpBlock bumpTrains waited keptOut used taped fault costSum safeSum allWays torn n_blocks n_guarded n_trains n_omen n_train t_blocks t_guarded t_trains t_omen t_train i0_blocks i0_guarded i0_trains i0_omen i0_train i1_blocks i1_guarded i1_trains i1_omen i1_train lockA seenA whr homes isSeen leftA were tape would row0 row1 row2 row3) ++ pl) → va_S A s.heap H locs → ∀ v_19 : Int32, v_19 = (if x2 = 0 then (n_omen x1.toNatClampNeg) else (if x2 = (1 : Int32) then ((n_guarded >>> (x1 &&& 31)) &&& (1 : Int32)) else x3_15)) → W p l e rm_C_block s m args below meth c H locs 0 0 Z (F0 m 144 ls (.int v_19 :: [])) := by
        intro H locs hP hD hS v_19 hv
        subst hv
        rw [hZ]
        exact W.iret hx hb hr (fun t ht hW => ⟨⟨(if x2 = 0 then (n_omen x1.toNatClampNeg) else (if x2 = (1 : Int32) then ((n_guarded >>> (x1 &&& 31)) &&& (1 : Int32)) else x3_15)), (), rfl, G, by rw [ht]; exact hP, hD⟩, hS.F ht⟩) hS.2.2 dX0_block_144 hlocks
      refine lv_if_ne (tgt := 124) hx hb dX0_block_109 (by decide) (fun c_16 => ?_) (fun c_16 => ?_)
      · refine lv_iload_n hx hb dX0_block_124 rfl (lv_at hl 2 rfl) ?_
        refine lv_iconst (v := 1) hx hb dX0_block_125 (by decide) ?_
        refine lv_icmp_ne (tgt := 143) hx hb dX0_block_126 (by decide) (fun c_17 => ?_) (fun c_17 => ?_)
        · refine lv_iload_n hx hb dX0_block_143 rfl (lv_at hl 3 rfl) ?_
          exact hJ _ _ hP hD hS _ (eF c_16 (eF c_17 rfl))
        · refine lv_aload_n hx hb dX0_block_129 rfl (lv_at hl 0 rfl) ?_
          refine va_get hx hb hts in_X0 hown hK hP 0 rfl rfl 1 (by decide) (hts _ q178) (fun _ h => h) rfl dX0_block_130 ?_
          refine va_getN hx hb hts in_X5 hown hK hP 6 rfl rfl 2 (by decide) (va_Nw.use rfl (hn _ q143 rfl)) (fun _ h => h) rfl dX0_block_133 ?_
          refine lv_iload_n hx hb dX0_block_136 rfl (lv_at hl 1 rfl) ?_
          refine lv_ishr hx hb dX0_block_137 ?_
          refine lv_iconst (v := 1) hx hb dX0_block_138 (by decide) ?_
          refine lv_iand hx hb dX0_block_139 ?_
          refine lv_goto (tgt := 144) hx hb dX0_block_140 (by decide) ?_
          exact hJ _ _ hP hD hS _ (eF c_16 (eT c_17 rfl))
      · refine lv_aload_n hx hb dX0_block_112 rfl (lv_at hl 0 rfl) ?_
        refine va_get hx hb hts in_X0 hown hK hP 0 rfl rfl 1 (by decide) (hts _ q178) (fun _ h => h) rfl dX0_block_113 ?_
        refine va_getN hx hb hts in_X5 hown hK hP 6 rfl rfl 1 (by decide) (va_Nw.use rfl (hn _ q140 rfl)) (fun _ h => h) rfl dX0_block_116 ?_
        refine lv_iload_n hx hb dX0_block_119 rfl (lv_at hl 1 rfl) ?_
        refine va_bald hx hb hK hP 7 2 rfl rfl (h_18 c_16) dX0_block_120 ?_
        refine lv_goto (tgt := 144) hx hb dX0_block_121 (by decide) ?_
        exact hJ _ _ hP hD hS _ (eT c_16 rfl)
    · have G := G.1 c_4
      refine lv_iconst (v := -1) hx hb dX0_block_20 (by decide) ?_
      rw [hZ]
      exact W.iret hx hb hr (fun t ht hW => ⟨⟨(-1 : Int32), (), rfl, G, by rw [ht]; exact hP, hD⟩, hS.F ht⟩) hS.2.2 dX0_block_21 hlocks
abbrev rm_C_lock : Room := { frames := 3, cells := 0, slots := 0, locals := 45 }
set_option maxHeartbeats 4000000 in
theorem met_C_lock (l : Launch) (D : va_G) (ad : Nat → Nat) (ca : Nat → ClassId) (pl : va_W) (sz : Nat) (kept : Int32) (locks : Int32) (seenMany : Int32) (bumpMinute : Int32) (bumpBlock : Int32) (bumpTrains : Int32) (waited : Int32) (keptOut : Int32) (used : Int32) (taped : Int32) (fault : Int32) (costSum : Int64) (safeSum : Int64) (allWays : Int64) (torn : Int32) (n_blocks : Int32) (n_guarded : Int32) (n_trains : Int32) (n_omen : Nat → Int32) (n_train : Nat → Int32) (t_blocks : Int32) (t_guarded : Int32) (t_trains : Int32) (t_omen : Nat → Int32) (t_train : Nat → Int32) (i0_blocks : Int32) (i0_guarded : Int32) (i0_trains : Int32) (i0_omen : Nat → Int32) (i0_train : Nat → Int32) (i1_blocks : Int32) (i1_guarded : Int32) (i1_trains : Int32) (i1_omen : Nat → Int32) (i1_train : Nat → Int32) (lockA : Nat → Int32) (seenA : Nat → Int32) (whr : Nat → Int32) (homes : Nat → Int32) (isSeen : Nat → Int32) (leftA : Nat → Int32) (were : Nat → Int32) (tape : Nat → Int32) (would : Nat → Int32) (row0 : Option Nat) (row1 : Option Nat) (row2 : Option Nat) (row3 : Option Nat) (x1 : Int32) (x2 : Int32) (hside : C_lock_s locks lockA x1 x2) : Met l yX0_lock (ws_ yX0_lock cX0_lock 3 (some .int)) rm_C_lock (va_Pc [.ref (ad 0), .int x1, .int x2] (wpre D vwCl (tyL ca) ((oW ad ca kept locks seenMany bumpMinute bumpBlock bumpTrains waited keptOut used taped fault costSum safeSum allWays torn n_blocks n_guarded n_trains n_omen n_train t_blocks t_guarded t_trains t_omen t_train i0_blocks i0_guarded i0_trains i0_omen i0_train i1_blocks i1_guarded i1_trains i1_omen i1_train lockA seenA whr homes isSeen leftA were tape would row0 row1 row2 row3) ++ pl) sz)) (va_Qi (fun (r : Int32) (u : Unit) => r = C_lock_e locks lockA x1 x2) (wpost D vwCl (va_A ((oW ad ca kept locks seenMany bumpMinute bumpBlock bumpTrains waited keptOut used taped fault costSum safeSum allWays torn n_blocks n_guarded n_trains n_omen n_train t_blocks t_guarded t_trains t_omen t_train i0_blocks i0_guarded i0_trains i0_omen i0_train i1_blocks i1_guarded i1_trains i1_omen i1_train lockA seenA whr homes isSeen leftA were tape would row0 row1 row2 row3) ++ pl) sz) (fun (u : Unit) => ((oW ad ca kept locks seenMany bumpMinute bumpBlock bumpTrains waited keptOut used taped fault costSum safeSum allWays torn n_blocks n_guarded n_trains n_omen n_train t_blocks t_guarded t_trains t_omen t_train i0_blocks i0_guarded i0_trains i0_omen i0_train i1_blocks i1_guarded i1_trains i1_omen i1_train lockA seenA whr homes isSeen leftA were tape would row0 row1 row2 row3) ++ pl))) (va_A ((oW ad ca kept locks seenMany bumpMinute bumpBlock bumpTrains waited keptOut used taped fault costSum safeSum allWays torn n_blocks n_guarded n_trains n_omen n_train t_blocks t_guarded t_trains t_omen t_train i0_blocks i0_guarded i0_trains i0_omen i0_train i1_blocks i1_guarded i1_trains i1_omen i1_train lockA seenA whr homes isSeen leftA were tape would row0 row1 row2 row3) ++ pl) sz)) 0 0 (va_A ((oW ad ca kept locks seenMany bumpMinute bumpBlock bumpTrains waited keptOut used taped fault costSum safeSum allWays torn n_blocks n_guarded n_trains n_omen n_train t_blocks t_guarded t_trains t_omen t_train i0_blocks i0_guarded i0_trains i0_omen i0_train i1_blocks i1_guarded i1_trains i1_omen i1_train lockA seenA whr homes isSeen leftA were tape would row0 row1 row2 row3) ++ pl) sz) := by
  refine met_of (fun A => (va_Qi (fun (r : Int32) (u : Unit) => r = C_lock_e locks lockA x1 x2) (wpost D vwCl A (fun (u : Unit) => ((oW ad ca kept locks seenMany bumpMinute bumpBlock bumpTrains waited keptOut used taped fault costSum safeSum allWays torn n_blocks n_guarded n_trains n_omen n_train t_blocks t_guarded t_trains t_omen t_train i0_blocks i0_guarded i0_trains i0_omen i0_train i1_blocks i1_guarded i1_trains i1_omen i1_train lockA seenA whr homes isSeen leftA were tape would row0 row1 row2 row3) ++ pl))) A)) (by decide) (Nat.le_of_ble_eq_true rfl) ?_
  intro p e s m args below meth c Z A hZ C H locs hP hD hS ls hl
  have hx := C.1; have hb := C.2.1; have hr := C.2.2.1; have hlocks := C.2.2.2.1; have hml := C.2.2.2.2.1; have hown := C.2.2.2.2.2.1; have hts := C.2.2.2.2.2.2.1; have hn := C.2.2.2.2.2.2.2.1; have hK := C.2.2.2.2.2.2.2.2.1; have hA := C.2.2.2.2.2.2.2.2.2
  have hl : lv_has ls 3 [(0, .ref (ad 0)), (1, .int x1), (2, .int x2)] := hl
  have h_5 := hside
  refine lv_iload_n hx hb dX0_lock_0 rfl (lv_at hl 1 rfl) ?_
  refine lv_i2l hx hb dX0_lock_1 rfl ?_
  refine lv_lconst (v := 0) hx hb dX0_lock_2 (by decide) ?_
  refine lv_aload_n hx hb dX0_lock_3 rfl (lv_at hl 0 rfl) ?_
  refine va_get hx hb hts in_X0 hown hK hP 0 rfl rfl 5 (by decide) (hts _ q182) (fun _ h => h) rfl dX0_lock_4 ?_
  refine lv_iconst (v := 1) hx hb dX0_lock_7 (by decide) ?_
  refine lv_isub hx hb dX0_lock_8 ?_
  refine lv_i2l hx hb dX0_lock_9 rfl ?_
  refine wc_Sik (As := [.long ((x1).toInt64), .long (0 : Int64), .long (((locks - (1 : Int32))).toInt64)]) (rest := []) C (met_C_in l D ca H.size ((x1).toInt64) (0 : Int64) (((locks - (1 : Int32))).toInt64)) (va_cwS 3 hts (lw_S q271 q272 q68 q273) rfl rfl rfl (by decide +kernel) ⟨Nat.le_of_ble_eq_true rfl, Nat.le_of_ble_eq_true rfl⟩) hP hD hS [] rfl (by decide) rfl rfl hl.1 (Nat.le_of_ble_eq_true rfl) dX0_lock_10 ⟨Nat.le_of_ble_eq_true rfl, Nat.le_of_ble_eq_true rfl⟩ (fun r_1 u H locs hr hP hD hS => ?_)
  subst hr
  refine lv_if_eq (tgt := 36) hx hb dX0_lock_13 (by decide) (fun c_2 => ?_) (fun c_2 => ?_)
  · refine lv_iconst (v := -1) hx hb dX0_lock_36 (by decide) ?_
    rw [hZ]
    exact W.iret hx hb hr (fun t ht hW => ⟨⟨(-1 : Int32), (), rfl, (eT c_2 rfl), by rw [ht]; exact hP, hD⟩, hS.F ht⟩) hS.2.2 dX0_lock_37 hlocks
  · refine lv_iload_n hx hb dX0_lock_16 rfl (lv_at hl 2 rfl) ?_
    refine wc_Sik (As := [.int x2]) (rest := []) C (met_C_isPart l D ca H.size x2) (va_cwS 1 hts (lw_S q588 q589 q68 q590) rfl rfl rfl (by decide +kernel) ⟨Nat.le_of_ble_eq_true rfl, Nat.le_of_ble_eq_true rfl⟩) hP hD hS [] rfl (by decide) rfl rfl hl.1 (Nat.le_of_ble_eq_true rfl) dX0_lock_17 ⟨Nat.le_of_ble_eq_true rfl, Nat.le_of_ble_eq_true rfl⟩ (fun r_3 u H locs hr hP hD hS => ?_)
    subst hr
    refine lv_if_eq (tgt := 36) hx hb dX0_lock_20 (by decide) (fun c_4 => ?_) (fun c_4 => ?_)
    · refine lv_iconst (v := -1) hx hb dX0_lock_36 (by decide) ?_
      rw [hZ]
      exact W.iret hx hb hr (fun t ht hW => ⟨⟨(-1 : Int32), (), rfl, (eF c_2 (eT c_4 rfl)), by rw [ht]; exact hP, hD⟩, hS.F ht⟩) hS.2.2 dX0_lock_37 hlocks
    · refine lv_aload_n hx hb dX0_lock_23 rfl (lv_at hl 0 rfl) ?_
      refine va_get hx hb hts in_X0 hown hK hP 0 rfl rfl 6 (by decide) (hts _ q183) (fun _ h => h) rfl dX0_lock_24 ?_
      refine lv_iconst (v := 2) hx hb dX0_lock_27 (by decide) ?_
      refine lv_iload_n hx hb dX0_lock_28 rfl (lv_at hl 1 rfl) ?_
      refine lv_imul hx hb dX0_lock_29 ?_
      refine lv_iload_n hx hb dX0_lock_30 rfl (lv_at hl 2 rfl) ?_
      refine lv_iadd hx hb dX0_lock_31 ?_
      refine va_bald hx hb hK hP 19 2 rfl rfl (h_5 c_2 c_4) dX0_lock_32 ?_
      refine lv_goto (tgt := 37) hx hb dX0_lock_33 (by decide) ?_
      rw [hZ]
      exact W.iret hx hb hr (fun t ht hW => ⟨⟨(lockA (((2 : Int32) * x1) + x2).toNatClampNeg), (), rfl, (eF c_2 (eF c_4 rfl)), by rw [ht]; exact hP, hD⟩, hS.F ht⟩) hS.2.2 dX0_lock_37 hlocks
abbrev rm_C_train : Room := { frames := 3, cells := 0, slots := 0, locals := 46 }
set_option maxHeartbeats 4000000 in
theorem met_C_train (l : Launch) (D : va_G) (ad : Nat → Nat) (ca : Nat → ClassId) (pl : va_W) (sz : Nat) (kept : Int32) (locks : Int32) (seenMany : Int32) (bumpMinute : Int32) (bumpBlock : Int32) (bumpTrains : Int32) (waited : Int32) (keptOut : Int32) (used : Int32) (taped : Int32) (fault : Int32) (costSum : Int64) (safeSum : Int64) (allWays : Int64) (torn : Int32) (n_blocks : Int32) (n_guarded : Int32) (n_trains : Int32) (n_omen : Nat → Int32) (n_train : Nat → Int32) (t_blocks : Int32) (t_guarded : Int32) (t_trains : Int32) (t_omen : Nat → Int32) (t_train : Nat → Int32) (i0_blocks : Int32) (i0_guarded : Int32) (i0_trains : Int32) (i0_omen : Nat → Int32) (i0_train : Nat → Int32) (i1_blocks : Int32) (i1_guarded : Int32) (i1_trains : Int32) (i1_omen : Nat → Int32) (i1_train : Nat → Int32) (lockA : Nat → Int32) (seenA : Nat → Int32) (whr : Nat → Int32) (homes : Nat → Int32) (isSeen : Nat → Int32) (leftA : Nat → Int32) (were : Nat → Int32) (tape : Nat → Int32) (would : Nat → Int32) (row0 : Option Nat) (row1 : Option Nat) (row2 : Option Nat) (row3 : Option Nat) (x1 : Int32) (x2 : Int32) (hside : C_train_s n_trains n_train x1 x2) : Met l yX0_train (ws_ yX0_train cX0_train 3 (some .int)) rm_C_train (va_Pc [.ref (ad 0), .int x1, .int x2] (wpre D vwCl (tyL ca) ((oW ad ca kept locks seenMany bumpMinute bumpBlock bumpTrains waited keptOut used taped fault costSum safeSum allWays torn n_blocks n_guarded n_trains n_omen n_train t_blocks t_guarded t_trains t_omen t_train i0_blocks i0_guarded i0_trains i0_omen i0_train i1_blocks i1_guarded i1_trains i1_omen i1_train lockA seenA whr homes isSeen leftA were tape would row0 row1 row2 row3) ++ pl) sz)) (va_Qi (fun (r : Int32) (u : Unit) => r = C_train_e n_trains n_train x1 x2) (wpost D vwCl (va_A ((oW ad ca kept locks seenMany bumpMinute bumpBlock bumpTrains waited keptOut used taped fault costSum safeSum allWays torn n_blocks n_guarded n_trains n_omen n_train t_blocks t_guarded t_trains t_omen t_train i0_blocks i0_guarded i0_trains i0_omen i0_train i1_blocks i1_guarded i1_trains i1_omen i1_train lockA seenA whr homes isSeen leftA were tape would row0 row1 row2 row3) ++ pl) sz) (fun (u : Unit) => ((oW ad ca kept locks seenMany bumpMinute bumpBlock bumpTrains waited keptOut used taped fault costSum safeSum allWays torn n_blocks n_guarded n_trains n_omen n_train t_blocks t_guarded t_trains t_omen t_train i0_blocks i0_guarded i0_trains i0_omen i0_train i1_blocks i1_guarded i1_trains i1_omen i1_train lockA seenA whr homes isSeen leftA were tape would row0 row1 row2 row3) ++ pl))) (va_A ((oW ad ca kept locks seenMany bumpMinute bumpBlock bumpTrains waited keptOut used taped fault costSum safeSum allWays torn n_blocks n_guarded n_trains n_omen n_train t_blocks t_guarded t_trains t_omen t_train i0_blocks i0_guarded i0_trains i0_omen i0_train i1_blocks i1_guarded i1_trains i1_omen i1_train lockA seenA whr homes isSeen leftA were tape would row0 row1 row2 row3) ++ pl) sz)) 0 0 (va_A ((oW ad ca kept locks seenMany bumpMinute bumpBlock bumpTrains waited keptOut used taped fault costSum safeSum allWays torn n_blocks n_guarded n_trains n_omen n_train t_blocks t_guarded t_trains t_omen t_train i0_blocks i0_guarded i0_trains i0_omen i0_train i1_blocks i1_guarded i1_trains i1_omen i1_train lockA seenA whr homes isSeen leftA were tape would row0 row1 row2 row3) ++ pl) sz) := by
  refine met_of (fun A => (va_Qi (fun (r : Int32) (u : Unit) => r = C_train_e n_trains n_train x1 x2) (wpost D vwCl A (fun (u : Unit) => ((oW ad ca kept locks seenMany bumpMinute bumpBlock bumpTrains waited keptOut used taped fault costSum safeSum allWays torn n_blocks n_guarded n_trains n_omen n_train t_blocks t_guarded t_trains t_omen t_train i0_blocks i0_guarded i0_trains i0_omen i0_train i1_blocks i1_guarded i1_trains i1_omen i1_train lockA seenA whr homes isSeen leftA were tape would row0 row1 row2 row3) ++ pl))) A)) (by decide) (Nat.le_of_ble_eq_true rfl) ?_
  intro p e s m args below meth c Z A hZ C H locs hP hD hS ls hl
  have hx := C.1; have hb := C.2.1; have hr := C.2.2.1; have hlocks := C.2.2.2.1; have hml := C.2.2.2.2.1; have hown := C.2.2.2.2.2.1; have hts := C.2.2.2.2.2.2.1; have hn := C.2.2.2.2.2.2.2.1; have hK := C.2.2.2.2.2.2.2.2.1; have hA := C.2.2.2.2.2.2.2.2.2
  have hl : lv_has ls 3 [(0, .ref (ad 0)), (1, .int x1), (2, .int x2)] := hl
  have h_5 := hside
  refine lv_aload_n hx hb dX0_train_0 rfl (lv_at hl 0 rfl) ?_
  refine lv_iload_n hx hb dX0_train_1 rfl (lv_at hl 1 rfl) ?_
  refine wc_Vik (As := [.int x1]) (rest := []) C (met_C_isTrain l D ad ca pl H.size kept locks seenMany bumpMinute bumpBlock bumpTrains waited keptOut used taped fault costSum safeSum allWays torn n_blocks n_guarded n_trains n_omen n_train t_blocks t_guarded t_trains t_omen t_train i0_blocks i0_guarded i0_trains i0_omen i0_train i1_blocks i1_guarded i1_trains i1_omen i1_train lockA seenA whr homes isSeen leftA were tape would row0 row1 row2 row3 x1) (cwV 1 hts (lw_V q595 q597 qs20 q68 q598) rfl rfl rfl (by decide +kernel) ⟨Nat.le_of_ble_eq_true rfl, Nat.le_of_ble_eq_true rfl⟩) hP hD hS (List.range _) (wc_self _) (wc_nd _) 0 rfl rfl rfl rfl hl.1 (Nat.le_of_ble_eq_true rfl) dX0_train_2 ⟨Nat.le_of_ble_eq_true rfl, Nat.le_of_ble_eq_true rfl⟩ (fun r_1 u H locs hr hP hD hS => ?_)
  subst hr
  refine lv_if_eq (tgt := 32) hx hb dX0_train_5 (by decide) (fun c_2 => ?_) (fun c_2 => ?_)
  · refine lv_iconst (v := -1) hx hb dX0_train_32 (by decide) ?_
    rw [hZ]
    exact W.iret hx hb hr (fun t ht hW => ⟨⟨(-1 : Int32), (), rfl, (eT c_2 rfl), by rw [ht]; exact hP, hD⟩, hS.F ht⟩) hS.2.2 dX0_train_33 hlocks
  · refine lv_iload_n hx hb dX0_train_8 rfl (lv_at hl 2 rfl) ?_
    refine lv_i2l hx hb dX0_train_9 rfl ?_
    refine lv_lconst (v := 0) hx hb dX0_train_10 (by decide) ?_
    refine lv_ldc2 hx hb hown (hts _ q599) dX0_train_11 ?_
    refine wc_Sik (As := [.long ((x2).toInt64), .long (0 : Int64), .long (3 : Int64)]) (rest := []) C (met_C_in l D ca H.size ((x2).toInt64) (0 : Int64) (3 : Int64)) (va_cwS 3 hts (lw_S q271 q272 q68 q273) rfl rfl rfl (by decide +kernel) ⟨Nat.le_of_ble_eq_true rfl, Nat.le_of_ble_eq_true rfl⟩) hP hD hS [] rfl (by decide) rfl rfl hl.1 (Nat.le_of_ble_eq_true rfl) dX0_train_14 ⟨Nat.le_of_ble_eq_true rfl, Nat.le_of_ble_eq_true rfl⟩ (fun r_3 u H locs hr hP hD hS => ?_)
    subst hr
    refine lv_if_eq (tgt := 32) hx hb dX0_train_17 (by decide) (fun c_4 => ?_) (fun c_4 => ?_)
    · refine lv_iconst (v := -1) hx hb dX0_train_32 (by decide) ?_
      rw [hZ]
      exact W.iret hx hb hr (fun t ht hW => ⟨⟨(-1 : Int32), (), rfl, (eF c_2 (eT c_4 rfl)), by rw [ht]; exact hP, hD⟩, hS.F ht⟩) hS.2.2 dX0_train_33 hlocks
    · refine lv_aload_n hx hb dX0_train_20 rfl (lv_at hl 0 rfl) ?_
      refine va_get hx hb hts in_X0 hown hK hP 0 rfl rfl 1 (by decide) (hts _ q178) (fun _ h => h) rfl dX0_train_21 ?_
      refine lv_iload_n hx hb dX0_train_24 rfl (lv_at hl 1 rfl) ?_
      refine lv_iload_n hx hb dX0_train_25 rfl (lv_at hl 2 rfl) ?_
      refine wc_Vik (As := [.int x1, .int x2]) (rest := []) C (met_B_of l D (ad 6) (ad 7) (ad 8) ca H.size n_blocks n_guarded n_trains n_omen n_train x1 x2 (h_5 c_2 c_4)) (cwV 2 hts (lw_V q600 q601 q602 q73 q603) rfl rfl rfl (by decide +kernel) ⟨Nat.le_of_ble_eq_true rfl, Nat.le_of_ble_eq_true rfl⟩) hP hD hS [6, 7, 8] rfl (by decide) 6 rfl rfl rfl rfl hl.1 (Nat.le_of_ble_eq_true rfl) dX0_train_26 ⟨Nat.le_of_ble_eq_true rfl, Nat.le_of_ble_eq_true rfl⟩ (fun r_6 u H locs hr hP hD hS => ?_)
      subst hr
      refine lv_goto (tgt := 33) hx hb dX0_train_29 (by decide) ?_
      rw [hZ]
      exact W.iret hx hb hr (fun t ht hW => ⟨⟨(B_of_e n_train x1 x2), (), rfl, (eF c_2 (eF c_4 rfl)), by rw [ht]; exact hP, hD⟩, hS.F ht⟩) hS.2.2 dX0_train_33 hlocks
abbrev rm_C_waits : Room := { frames := 5, cells := 0, slots := 0, locals := 120 }
set_option maxHeartbeats 4000000 in
theorem met_C_waits (l : Launch) (D : va_G) (ad : Nat → Nat) (ca : Nat → ClassId) (pl : va_W) (sz : Nat) (kept : Int32) (locks : Int32) (seenMany : Int32) (bumpMinute : Int32) (bumpBlock : Int32) (bumpTrains : Int32) (waited : Int32) (keptOut : Int32) (used : Int32) (taped : Int32) (fault : Int32) (costSum : Int64) (safeSum : Int64) (allWays : Int64) (torn : Int32) (n_blocks : Int32) (n_guarded : Int32) (n_trains : Int32) (n_omen : Nat → Int32) (n_train : Nat → Int32) (t_blocks : Int32) (t_guarded : Int32) (t_trains : Int32) (t_omen : Nat → Int32) (t_train : Nat → Int32) (i0_blocks : Int32) (i0_guarded : Int32) (i0_trains : Int32) (i0_omen : Nat → Int32) (i0_train : Nat → Int32) (i1_blocks : Int32) (i1_guarded : Int32) (i1_trains : Int32) (i1_omen : Nat → Int32) (i1_train : Nat → Int32) (lockA : Nat → Int32) (seenA : Nat → Int32) (whr : Nat → Int32) (homes : Nat → Int32) (isSeen : Nat → Int32) (leftA : Nat → Int32) (were : Nat → Int32) (tape : Nat → Int32) (would : Nat → Int32) (row0 : Option Nat) (row1 : Option Nat) (row2 : Option Nat) (row3 : Option Nat) (x1 : Int32) (x2 : Int32) (Q : Int32 → Prop) (G : C_waits x1 x2 Q) : Met l yX0_waits (ws_ yX0_waits cX0_waits 3 (some .int)) rm_C_waits (va_Pc [.ref (ad 0), .int x1, .int x2] (wpre D vwCl (tyL ca) ((oW ad ca kept locks seenMany bumpMinute bumpBlock bumpTrains waited keptOut used taped fault costSum safeSum allWays torn n_blocks n_guarded n_trains n_omen n_train t_blocks t_guarded t_trains t_omen t_train i0_blocks i0_guarded i0_trains i0_omen i0_train i1_blocks i1_guarded i1_trains i1_omen i1_train lockA seenA whr homes isSeen leftA were tape would row0 row1 row2 row3) ++ pl) sz)) (va_Qi (fun (r : Int32) (u : Unit) => Q r) (wpost D vwCl (va_A ((oW ad ca kept locks seenMany bumpMinute bumpBlock bumpTrains waited keptOut used taped fault costSum safeSum allWays torn n_blocks n_guarded n_trains n_omen n_train t_blocks t_guarded t_trains t_omen t_train i0_blocks i0_guarded i0_trains i0_omen i0_train i1_blocks i1_guarded i1_trains i1_omen i1_train lockA seenA whr homes isSeen leftA were tape would row0 row1 row2 row3) ++ pl) sz) (fun (u : Unit) => ((oW ad ca kept locks seenMany bumpMinute bumpBlock bumpTrains waited keptOut used taped fault costSum safeSum allWays torn n_blocks n_guarded n_trains n_omen n_train t_blocks t_guarded t_trains t_omen t_train i0_blocks i0_guarded i0_trains i0_omen i0_train i1_blocks i1_guarded i1_trains i1_omen i1_train lockA seenA whr homes isSeen leftA were tape would row0 row1 row2 row3) ++ pl))) (va_A ((oW ad ca kept locks seenMany bumpMinute bumpBlock bumpTrains waited keptOut used taped fault costSum safeSum allWays torn n_blocks n_guarded n_trains n_omen n_train t_blocks t_guarded t_trains t_omen t_train i0_blocks i0_guarded i0_trains i0_omen i0_train i1_blocks i1_guarded i1_trains i1_omen i1_train lockA seenA whr homes isSeen leftA were tape would row0 row1 row2 row3) ++ pl) sz)) 0 0 (va_A ((oW ad ca kept locks seenMany bumpMinute bumpBlock bumpTrains waited keptOut used taped fault costSum safeSum allWays torn n_blocks n_guarded n_trains n_omen n_train t_blocks t_guarded t_trains t_omen t_train i0_blocks i0_guarded i0_trains i0_omen i0_train i1_blocks i1_guarded i1_trains i1_omen i1_train lockA seenA whr homes isSeen leftA were tape would row0 row1 row2 row3) ++ pl) sz) := by
  refine met_of (fun A => (va_Qi (fun (r : Int32) (u : Unit) => Q r) (wpost D vwCl A (fun (u : Unit) => ((oW ad ca kept locks seenMany bumpMinute bumpBlock bumpTrains waited keptOut used taped fault costSum safeSum allWays torn n_blocks n_guarded n_trains n_omen n_train t_blocks t_guarded t_trains t_omen t_train i0_blocks i0_guarded i0_trains i0_omen i0_train i1_blocks i1_guarded i1_trains i1_omen i1_train lockA seenA whr homes isSeen leftA were tape would row0 row1 row2 row3) ++ pl))) A)) (by decide) (Nat.le_of_ble_eq_true rfl) ?_
  intro p e s m args below meth c Z A hZ C H locs hP hD hS ls hl
  have hx := C.1; have hb := C.2.1; have hr := C.2.2.1; have hlocks := C.2.2.2.1; have hml := C.2.2.2.2.1; have hown := C.2.2.2.2.2.1; have hts := C.2.2.2.2.2.2.1; have hn := C.2.2.2.2.2.2.2.1; have hK := C.2.2.2.2.2.2.2.2.1; have hA := C.2.2.2.2.2.2.2.2.2
  have hl : lv_has ls 3 [(0, .ref (ad 0)), (1, .int x1), (2, .int x2)] := hl
  unfold C_waits at G
  refine lv_iload_n hx hb dX0_waits_0 rfl (lv_at hl 1 rfl) ?_
  refine lv_i2l hx hb dX0_waits_1 rfl ?_
  refine lv_lconst (v := 0) hx hb dX0_waits_2 (by decide) ?_
  refine lv_ldc2 hx hb hown (hts _ q599) dX0_waits_3 ?_
  refine wc_Sik (As := [.long ((x1).toInt64), .long (0 : Int64), .long (3 : Int64)]) (rest := []) C (met_C_in l D ca H.size ((x1).toInt64) (0 : Int64) (3 : Int64)) (va_cwS 3 hts (lw_S q271 q272 q68 q273) rfl rfl rfl (by decide +kernel) ⟨Nat.le_of_ble_eq_true rfl, Nat.le_of_ble_eq_true rfl⟩) hP hD hS [] rfl (by decide) rfl rfl hl.1 (Nat.le_of_ble_eq_true rfl) dX0_waits_6 ⟨Nat.le_of_ble_eq_true rfl, Nat.le_of_ble_eq_true rfl⟩ (fun r_1 u H locs hr hP hD hS => ?_)
  subst hr
  refine lv_if_eq (tgt := 37) hx hb dX0_waits_9 (by decide) (fun c_2 => ?_) (fun c_2 => ?_)
  · have G := G.1 c_2
    refine lv_iconst (v := -1) hx hb dX0_waits_37 (by decide) ?_
    rw [hZ]
    exact W.iret hx hb hr (fun t ht hW => ⟨⟨(-1 : Int32), (), rfl, G, by rw [ht]; exact hP, hD⟩, hS.F ht⟩) hS.2.2 dX0_waits_38 hlocks
  · have G := G.2 c_2
    refine lv_iload_n hx hb dX0_waits_12 rfl (lv_at hl 2 rfl) ?_
    refine lv_i2l hx hb dX0_waits_13 rfl ?_
    refine lv_lconst (v := 0) hx hb dX0_waits_14 (by decide) ?_
    refine lv_ldc2 hx hb hown (hts _ q608) dX0_waits_15 ?_
    refine wc_Sik (As := [.long ((x2).toInt64), .long (0 : Int64), .long (4 : Int64)]) (rest := []) C (met_C_in l D ca H.size ((x2).toInt64) (0 : Int64) (4 : Int64)) (va_cwS 3 hts (lw_S q271 q272 q68 q273) rfl rfl rfl (by decide +kernel) ⟨Nat.le_of_ble_eq_true rfl, Nat.le_of_ble_eq_true rfl⟩) hP hD hS [] rfl (by decide) rfl rfl hl.1 (Nat.le_of_ble_eq_true rfl) dX0_waits_18 ⟨Nat.le_of_ble_eq_true rfl, Nat.le_of_ble_eq_true rfl⟩ (fun r_3 u H locs hr hP hD hS => ?_)
    subst hr
    refine lv_if_eq (tgt := 37) hx hb dX0_waits_21 (by decide) (fun c_4 => ?_) (fun c_4 => ?_)
    · have G := G.1 c_4
      refine lv_iconst (v := -1) hx hb dX0_waits_37 (by decide) ?_
      rw [hZ]
      exact W.iret hx hb hr (fun t ht hW => ⟨⟨(-1 : Int32), (), rfl, G, by rw [ht]; exact hP, hD⟩, hS.F ht⟩) hS.2.2 dX0_waits_38 hlocks
    · have G := G.2 c_4
      refine lv_aload_n hx hb dX0_waits_24 rfl (lv_at hl 0 rfl) ?_
      refine va_get hx hb hts in_X0 hown hK hP 0 rfl rfl 0 (by decide) (hts _ q177) (fun _ h => h) rfl dX0_waits_25 ?_
      refine lv_iload_n hx hb dX0_waits_28 rfl (lv_at hl 1 rfl) ?_
      obtain ⟨h_5, G⟩ := G
      refine wc_faithld hx hb hK hP 1 4 rfl rfl h_5 dX0_waits_29 ?_
      refine lv_iload_n hx hb dX0_waits_30 rfl (lv_at hl 2 rfl) ?_
      refine wc_faith (x := x2) (i := x1) (rest := []) C hP hD hS 2 3 4 5 rfl rfl rfl rfl hl.1 (Nat.le_of_ble_eq_true rfl) dX0_waits_31 (Nat.le_of_ble_eq_true rfl) (Nat.le_of_ble_eq_true rfl) (Nat.zero_le _) (Nat.zero_le _) (fun H locs hP hD hS => ?_)
      refine lv_goto (tgt := 38) hx hb dX0_waits_34 (by decide) ?_
      rw [hZ]
      exact W.iret hx hb hr (fun t ht hW => ⟨⟨(F_waits_e x1 x2), (), rfl, G, by rw [ht]; exact hP, hD⟩, hS.F ht⟩) hS.2.2 dX0_waits_38 hlocks
abbrev rm_C_canHang : Room := { frames := 3, cells := 0, slots := 0, locals := 44 }
set_option maxHeartbeats 4000000 in
theorem met_C_canHang (l : Launch) (D : va_G) (ad : Nat → Nat) (b : Nat) (bo : Nat) (bt : Nat) (ca : Nat → ClassId) (sz : Nat) (kept : Int32) (locks : Int32) (seenMany : Int32) (bumpMinute : Int32) (bumpBlock : Int32) (bumpTrains : Int32) (waited : Int32) (keptOut : Int32) (used : Int32) (taped : Int32) (fault : Int32) (costSum : Int64) (safeSum : Int64) (allWays : Int64) (torn : Int32) (whr : Nat → Int32) (homes : Nat → Int32) (isSeen : Nat → Int32) (leftA : Nat → Int32) (were : Nat → Int32) (lockA : Nat → Int32) (b_blocks : Int32) (b_guarded : Int32) (b_trains : Int32) (b_omen : Nat → Int32) (b_train : Nat → Int32) (x2 : Int32) (x3 : Int32) (Q : Int32 → Prop) (G : C_canHang locks lockA b_blocks b_omen x2 x3 Q) : Met l yX0_canHang (ws_ yX0_canHang cX0_canHang 4 (some .boolean)) rm_C_canHang (va_Pc [.ref (ad 0), .ref b, .int x2, .int x3] (wpre D vwCl (tyL ca) (rW ad b bo bt ca kept locks seenMany bumpMinute bumpBlock bumpTrains waited keptOut used taped fault costSum safeSum allWays torn whr homes isSeen leftA were lockA b_blocks b_guarded b_trains b_omen b_train) sz)) (va_Qi (fun (r : Int32) (u : Unit) => Q r) (wpost D vwCl (va_A (rW ad b bo bt ca kept locks seenMany bumpMinute bumpBlock bumpTrains waited keptOut used taped fault costSum safeSum allWays torn whr homes isSeen leftA were lockA b_blocks b_guarded b_trains b_omen b_train) sz) (fun (u : Unit) => (rW ad b bo bt ca kept locks seenMany bumpMinute bumpBlock bumpTrains waited keptOut used taped fault costSum safeSum allWays torn whr homes isSeen leftA were lockA b_blocks b_guarded b_trains b_omen b_train))) (va_A (rW ad b bo bt ca kept locks seenMany bumpMinute bumpBlock bumpTrains waited keptOut used taped fault costSum safeSum allWays torn whr homes isSeen leftA were lockA b_blocks b_guarded b_trains b_omen b_train) sz)) 0 0 (va_A (rW ad b bo bt ca kept locks seenMany bumpMinute bumpBlock bumpTrains waited keptOut used taped fault costSum safeSum allWays torn whr homes isSeen leftA were lockA b_blocks b_guarded b_trains b_omen b_train) sz) := by
  refine met_of (fun A => (va_Qi (fun (r : Int32) (u : Unit) => Q r) (wpost D vwCl A (fun (u : Unit) => (rW ad b bo bt ca kept locks seenMany bumpMinute bumpBlock bumpTrains waited keptOut used taped fault costSum safeSum allWays torn whr homes isSeen leftA were lockA b_blocks b_guarded b_trains b_omen b_train))) A)) (by decide) (Nat.le_of_ble_eq_true rfl) ?_
  intro p e s m args below meth c Z A hZ C H locs hP hD hS ls hl
  have hx := C.1; have hb := C.2.1; have hr := C.2.2.1; have hlocks := C.2.2.2.1; have hml := C.2.2.2.2.1; have hown := C.2.2.2.2.2.1; have hts := C.2.2.2.2.2.2.1; have hn := C.2.2.2.2.2.2.2.1; have hK := C.2.2.2.2.2.2.2.2.1; have hA := C.2.2.2.2.2.2.2.2.2
  have hl : lv_has ls 4 [(0, .ref (ad 0)), (1, .ref b), (2, .int x2), (3, .int x3)] := hl
  unfold C_canHang at G
  refine lv_iload_n hx hb dX0_canHang_0 rfl (lv_at hl 3 rfl) ?_
  refine lv_if_eq (tgt := 19) hx hb dX0_canHang_1 (by decide) (fun c_1 => ?_) (fun c_1 => ?_)
  · have G := G.1 c_1
    refine lv_iconst (v := 1) hx hb dX0_canHang_19 (by decide) ?_
    refine lv_goto (tgt := 24) hx hb dX0_canHang_20 (by decide) ?_
    rw [hZ]
    exact W.zret hx hb hr (zb_n zb_1) (fun t ht hW => ⟨⟨(1 : Int32), (), rfl, G, by rw [ht]; exact hP, hD⟩, hS.F ht⟩) hS.2.2 dX0_canHang_24 hlocks
  · have G := G.2 c_1
    refine lv_aload_n hx hb dX0_canHang_4 rfl (lv_at hl 0 rfl) ?_
    refine lv_aload_n hx hb dX0_canHang_5 rfl (lv_at hl 1 rfl) ?_
    refine wc_Vik (As := []) (rest := [.ref (ad 0)]) C (met_B_hung l D b bo bt ca H.size b_blocks b_guarded b_trains b_omen b_train _ G) (cwV 0 hts (lw_V q571 q572 q573 q73 q574) rfl rfl rfl (by decide +kernel) ⟨Nat.le_of_ble_eq_true rfl, Nat.le_of_ble_eq_true rfl⟩) hP hD hS [12, 13, 14] rfl (by decide) 12 rfl rfl rfl rfl hl.1 (Nat.le_of_ble_eq_true rfl) dX0_canHang_6 ⟨Nat.le_of_ble_eq_true rfl, Nat.le_of_ble_eq_true rfl⟩ (fun r_2 u H locs G hP hD hS => ?_)
    refine lv_iconst (v := 1) hx hb dX0_canHang_9 (by decide) ?_
    refine lv_iload_n hx hb dX0_canHang_10 rfl (lv_at hl 2 rfl) ?_
    refine lv_ishl hx hb dX0_canHang_11 ?_
    refine lv_ior hx hb dX0_canHang_12 ?_
    refine wc_Vik (As := [.int (r_2 ||| ((1 : Int32) <<< (x2 &&& 31)))]) (rest := []) C (met_C_isAllowed l D ad ca H.size kept locks seenMany bumpMinute bumpBlock bumpTrains waited keptOut used taped fault costSum safeSum allWays torn lockA (r_2 ||| ((1 : Int32) <<< (x2 &&& 31))) _ G) (cwV 1 hts (lw_V q635 q637 qs22 q68 q638) rfl rfl rfl (by decide +kernel) ⟨Nat.le_of_ble_eq_true rfl, Nat.le_of_ble_eq_true rfl⟩) hP hD hS [0, 11] rfl (by decide) 0 rfl rfl rfl rfl hl.1 (Nat.le_of_ble_eq_true rfl) dX0_canHang_13 ⟨Nat.le_of_ble_eq_true rfl, Nat.le_of_ble_eq_true rfl⟩ (fun r_3 u H locs G hP hD hS => ?_)
    have hJ : ∀ (H : Heap) (locs : List Loc), va_P D vwCl (rW ad b bo bt ca kept locks seenMany bumpMinute bumpBlock bumpTrains waited keptOut used taped fault costSum safeSum allWays torn whr homes isSeen leftA were lockA b_blocks b_guarded b_trains b_omen b_train) H → va_D A (rW ad b bo bt ca kept locks seenMany bumpMinute bumpBlock bumpTrains waited keptOut used taped fault costSum safeSum allWays torn whr homes isSeen leftA were lockA b_blocks b_guarded b_trains b_omen b_train) → va_S A s.heap H locs → ∀ v_5 : Int32, v_5 = (if r_3 = 0 then (0 : Int32) else (1 : Int32)) → W p l e rm_C_canHang s m args below meth c H locs 0 0 Z (F0 m 24 ls (.int v_5 :: [])) := by
      intro H locs hP hD hS v_5 hv
      subst hv
      rw [hZ]
      exact W.zret hx hb hr (zb_n (zb_I (fun _ => zb_0) (fun _ => zb_1))) (fun t ht hW => ⟨⟨(if r_3 = 0 then (0 : Int32) else (1 : Int32)), (), rfl, G, by rw [ht]; exact hP, hD⟩, hS.F ht⟩) hS.2.2 dX0_canHang_24 hlocks
    refine lv_if_eq (tgt := 23) hx hb dX0_canHang_16 (by decide) (fun c_4 => ?_) (fun c_4 => ?_)
    · refine lv_iconst (v := 0) hx hb dX0_canHang_23 (by decide) ?_
      exact hJ _ _ hP hD hS _ (eT c_4 rfl)
    · refine lv_iconst (v := 1) hx hb dX0_canHang_19 (by decide) ?_
      refine lv_goto (tgt := 24) hx hb dX0_canHang_20 (by decide) ?_
      exact hJ _ _ hP hD hS _ (eF c_4 rfl)
abbrev rm_C_hang : Room := { frames := 4, cells := 0, slots := 0, locals := 67 }
set_option maxHeartbeats 4000000 in
theorem met_C_hang (l : Launch) (D : va_G) (ad : Nat → Nat) (ca : Nat → ClassId) (pl : va_W) (sz : Nat) (kept : Int32) (locks : Int32) (seenMany : Int32) (bumpMinute : Int32) (bumpBlock : Int32) (bumpTrains : Int32) (waited : Int32) (keptOut : Int32) (used : Int32) (taped : Int32) (fault : Int32) (costSum : Int64) (safeSum : Int64) (allWays : Int64) (torn : Int32) (n_blocks : Int32) (n_guarded : Int32) (n_trains : Int32) (n_omen : Nat → Int32) (n_train : Nat → Int32) (t_blocks : Int32) (t_guarded : Int32) (t_trains : Int32) (t_omen : Nat → Int32) (t_train : Nat → Int32) (i0_blocks : Int32) (i0_guarded : Int32) (i0_trains : Int32) (i0_omen : Nat → Int32) (i0_train : Nat → Int32) (i1_blocks : Int32) (i1_guarded : Int32) (i1_trains : Int32) (i1_omen : Nat → Int32) (i1_train : Nat → Int32) (lockA : Nat → Int32) (seenA : Nat → Int32) (whr : Nat → Int32) (homes : Nat → Int32) (isSeen : Nat → Int32) (leftA : Nat → Int32) (were : Nat → Int32) (tape : Nat → Int32) (would : Nat → Int32) (row0 : Option Nat) (row1 : Option Nat) (row2 : Option Nat) (row3 : Option Nat) (x1 : Int32) (x2 : Int32) (Q : Int32 → (Nat → Int32) → Prop) (G : C_hang locks n_blocks n_omen lockA x1 x2 Q) : Met l yX0_hang (ws_ yX0_hang cX0_hang 4 (some .int)) rm_C_hang (va_Pc [.ref (ad 0), .int x1, .int x2] (wpre D vwCl (tyL ca) ((oW ad ca kept locks seenMany bumpMinute bumpBlock bumpTrains waited keptOut used taped fault costSum safeSum allWays torn n_blocks n_guarded n_trains n_omen n_train t_blocks t_guarded t_trains t_omen t_train i0_blocks i0_guarded i0_trains i0_omen i0_train i1_blocks i1_guarded i1_trains i1_omen i1_train lockA seenA whr homes isSeen leftA were tape would row0 row1 row2 row3) ++ pl) sz)) (va_Qi (fun (r : Int32) (u : (Nat → Int32)) => Q r u) (wpost D vwCl (va_A ((oW ad ca kept locks seenMany bumpMinute bumpBlock bumpTrains waited keptOut used taped fault costSum safeSum allWays torn n_blocks n_guarded n_trains n_omen n_train t_blocks t_guarded t_trains t_omen t_train i0_blocks i0_guarded i0_trains i0_omen i0_train i1_blocks i1_guarded i1_trains i1_omen i1_train lockA seenA whr homes isSeen leftA were tape would row0 row1 row2 row3) ++ pl) sz) (fun (u : (Nat → Int32)) => ((oW ad ca kept locks seenMany bumpMinute bumpBlock bumpTrains waited keptOut used taped fault costSum safeSum allWays torn n_blocks n_guarded n_trains u n_train t_blocks t_guarded t_trains t_omen t_train i0_blocks i0_guarded i0_trains i0_omen i0_train i1_blocks i1_guarded i1_trains i1_omen i1_train lockA seenA whr homes isSeen leftA were tape would row0 row1 row2 row3) ++ pl))) (va_A ((oW ad ca kept locks seenMany bumpMinute bumpBlock bumpTrains waited keptOut used taped fault costSum safeSum allWays torn n_blocks n_guarded n_trains n_omen n_train t_blocks t_guarded t_trains t_omen t_train i0_blocks i0_guarded i0_trains i0_omen i0_train i1_blocks i1_guarded i1_trains i1_omen i1_train lockA seenA whr homes isSeen leftA were tape would row0 row1 row2 row3) ++ pl) sz)) 0 0 (va_A ((oW ad ca kept locks seenMany bumpMinute bumpBlock bumpTrains waited keptOut used taped fault costSum safeSum allWays torn n_blocks n_guarded n_trains n_omen n_train t_blocks t_guarded t_trains t_omen t_train i0_blocks i0_guarded i0_trains i0_omen i0_train i1_blocks i1_guarded i1_trains i1_omen i1_train lockA seenA whr homes isSeen leftA were tape would row0 row1 row2 row3) ++ pl) sz) := by
  refine met_of (fun A => (va_Qi (fun (r : Int32) (u : (Nat → Int32)) => Q r u) (wpost D vwCl A (fun (u : (Nat → Int32)) => ((oW ad ca kept locks seenMany bumpMinute bumpBlock bumpTrains waited keptOut used taped fault costSum safeSum allWays torn n_blocks n_guarded n_trains u n_train t_blocks t_guarded t_trains t_omen t_train i0_blocks i0_guarded i0_trains i0_omen i0_train i1_blocks i1_guarded i1_trains i1_omen i1_train lockA seenA whr homes isSeen leftA were tape would row0 row1 row2 row3) ++ pl))) A)) (by decide) (Nat.le_of_ble_eq_true rfl) ?_
  intro p e s m args below meth c Z A hZ C H locs hP hD hS ls hl
  have hx := C.1; have hb := C.2.1; have hr := C.2.2.1; have hlocks := C.2.2.2.1; have hml := C.2.2.2.2.1; have hown := C.2.2.2.2.2.1; have hts := C.2.2.2.2.2.2.1; have hn := C.2.2.2.2.2.2.2.1; have hK := C.2.2.2.2.2.2.2.2.1; have hA := C.2.2.2.2.2.2.2.2.2
  have hl : lv_has ls 4 [(0, .ref (ad 0)), (1, .int x1), (2, .int x2)] := hl
  unfold C_hang at G
  refine lv_aload_n hx hb dX0_hang_0 rfl (lv_at hl 0 rfl) ?_
  refine lv_iload_n hx hb dX0_hang_1 rfl (lv_at hl 1 rfl) ?_
  refine wc_Vik (As := [.int x1]) (rest := []) C (met_C_isBlock l D ad ca pl H.size kept locks seenMany bumpMinute bumpBlock bumpTrains waited keptOut used taped fault costSum safeSum allWays torn n_blocks n_guarded n_trains n_omen n_train t_blocks t_guarded t_trains t_omen t_train i0_blocks i0_guarded i0_trains i0_omen i0_train i1_blocks i1_guarded i1_trains i1_omen i1_train lockA seenA whr homes isSeen leftA were tape would row0 row1 row2 row3 x1) (cwV 1 hts (lw_V q579 q581 qs19 q68 q582) rfl rfl rfl (by decide +kernel) ⟨Nat.le_of_ble_eq_true rfl, Nat.le_of_ble_eq_true rfl⟩) hP hD hS (List.range _) (wc_self _) (wc_nd _) 0 rfl rfl rfl rfl hl.1 (Nat.le_of_ble_eq_true rfl) dX0_hang_2 ⟨Nat.le_of_ble_eq_true rfl, Nat.le_of_ble_eq_true rfl⟩ (fun r_1 u H locs hr hP hD hS => ?_)
  subst hr
  refine lv_if_eq (tgt := 20) hx hb dX0_hang_5 (by decide) (fun c_2 => ?_) (fun c_2 => ?_)
  · have G := G.1 c_2
    refine lv_iconst (v := -1) hx hb dX0_hang_20 (by decide) ?_
    rw [hZ]
    exact W.iret hx hb hr (fun t ht hW => ⟨⟨(-1 : Int32), n_omen, rfl, G, by rw [ht]; exact hP, hD⟩, hS.F ht⟩) hS.2.2 dX0_hang_21 hlocks
  · have G := G.2 c_2
    refine lv_iload_n hx hb dX0_hang_8 rfl (lv_at hl 2 rfl) ?_
    refine lv_i2l hx hb dX0_hang_9 rfl ?_
    refine lv_lconst (v := 0) hx hb dX0_hang_10 (by decide) ?_
    refine lv_ldc2 hx hb hown (hts _ q608) dX0_hang_11 ?_
    refine wc_Sik (As := [.long ((x2).toInt64), .long (0 : Int64), .long (4 : Int64)]) (rest := []) C (met_C_in l D ca H.size ((x2).toInt64) (0 : Int64) (4 : Int64)) (va_cwS 3 hts (lw_S q271 q272 q68 q273) rfl rfl rfl (by decide +kernel) ⟨Nat.le_of_ble_eq_true rfl, Nat.le_of_ble_eq_true rfl⟩) hP hD hS [] rfl (by decide) rfl rfl hl.1 (Nat.le_of_ble_eq_true rfl) dX0_hang_14 ⟨Nat.le_of_ble_eq_true rfl, Nat.le_of_ble_eq_true rfl⟩ (fun r_3 u H locs hr hP hD hS => ?_)
    subst hr
    refine lv_if_ne (tgt := 22) hx hb dX0_hang_17 (by decide) (fun c_4 => ?_) (fun c_4 => ?_)
    · have G := G.2 c_4
      refine lv_aload_n hx hb dX0_hang_22 rfl (lv_at hl 0 rfl) ?_
      refine lv_aload_n hx hb dX0_hang_23 rfl (lv_at hl 0 rfl) ?_
      refine va_get hx hb hts in_X0 hown hK hP 0 rfl rfl 1 (by decide) (hts _ q178) (fun _ h => h) rfl dX0_hang_24 ?_
      refine lv_iload_n hx hb dX0_hang_27 rfl (lv_at hl 1 rfl) ?_
      refine lv_iload_n hx hb dX0_hang_28 rfl (lv_at hl 2 rfl) ?_
      refine wc_Vik (As := [.ref (ad 6), .int x1, .int x2]) (rest := []) C (met_C_canHang l D ad (ad 6) (ad 7) (ad 8) ca H.size kept locks seenMany bumpMinute bumpBlock bumpTrains waited keptOut used taped fault costSum safeSum allWays torn whr homes isSeen leftA were lockA n_blocks n_guarded n_trains n_omen n_train x1 x2 _ G) (cwV 3 hts (lw_V q631 q633 qs21 q68 q634) rfl rfl rfl (by decide +kernel) ⟨Nat.le_of_ble_eq_true rfl, Nat.le_of_ble_eq_true rfl⟩) hP hD hS [0, 1, 2, 3, 4, 5, 21, 22, 23, 24, 25, 19, 6, 7, 8] rfl (by decide) 0 rfl rfl rfl rfl hl.1 (Nat.le_of_ble_eq_true rfl) dX0_hang_29 ⟨Nat.le_of_ble_eq_true rfl, Nat.le_of_ble_eq_true rfl⟩ (fun r_5 u H locs G hP hD hS => ?_)
      refine lv_if_ne (tgt := 38) hx hb dX0_hang_32 (by decide) (fun c_6 => ?_) (fun c_6 => ?_)
      · have G := G.2 c_6
        refine lv_aload_n hx hb dX0_hang_38 rfl (lv_at hl 0 rfl) ?_
        refine va_get hx hb hts in_X0 hown hK hP 0 rfl rfl 1 (by decide) (hts _ q178) (fun _ h => h) rfl dX0_hang_39 ?_
        refine va_getN hx hb hts in_X5 hown hK hP 6 rfl rfl 1 (by decide) (va_Nw.use rfl (hn _ q140 rfl)) (fun _ h => h) rfl dX0_hang_42 ?_
        refine lv_iload_n hx hb dX0_hang_45 rfl (lv_at hl 1 rfl) ?_
        obtain ⟨h_7, G⟩ := G
        refine va_bald hx hb hK hP 7 2 rfl rfl h_7 dX0_hang_46 ?_
        refine lv_istore_n (lv' := [(3, .int (n_omen x1.toNatClampNeg)), (0, .ref (ad 0)), (1, .int x1), (2, .int x2)]) hx hb dX0_hang_47 rfl hl (by decide) rfl (fun ls hl => ?_)
        refine lv_aload_n hx hb dX0_hang_48 rfl (lv_at hl 1 rfl) ?_
        refine va_get hx hb hts in_X0 hown hK hP 0 rfl rfl 1 (by decide) (hts _ q178) (fun _ h => h) rfl dX0_hang_49 ?_
        refine va_getN hx hb hts in_X5 hown hK hP 6 rfl rfl 1 (by decide) (va_Nw.use rfl (hn _ q140 rfl)) (fun _ h => h) rfl dX0_hang_52 ?_
        refine lv_iload_n hx hb dX0_hang_55 rfl (lv_at hl 2 rfl) ?_
        refine lv_iload_n hx hb dX0_hang_56 rfl (lv_at hl 3 rfl) ?_
        refine lv_i2b hx hb dX0_hang_57 rfl ?_
        obtain ⟨h_8, G⟩ := G
        refine va_bast hx hb hK hP hD hS 7 2 rfl rfl h_8 dX0_hang_58 (fun H locs hP hD hS => ?_)
        have hP : va_P D vwCl ((oW ad ca kept locks seenMany bumpMinute bumpBlock bumpTrains waited keptOut used taped fault costSum safeSum allWays torn n_blocks n_guarded n_trains (upd n_omen x1.toNatClampNeg (vp_nar .byte ((x2).toInt8.toInt32))) n_train t_blocks t_guarded t_trains t_omen t_train i0_blocks i0_guarded i0_trains i0_omen i0_train i1_blocks i1_guarded i1_trains i1_omen i1_train lockA seenA whr homes isSeen leftA were tape would row0 row1 row2 row3) ++ pl) H := hP
        have hD : va_D A ((oW ad ca kept locks seenMany bumpMinute bumpBlock bumpTrains waited keptOut used taped fault costSum safeSum allWays torn n_blocks n_guarded n_trains (upd n_omen x1.toNatClampNeg (vp_nar .byte ((x2).toInt8.toInt32))) n_train t_blocks t_guarded t_trains t_omen t_train i0_blocks i0_guarded i0_trains i0_omen i0_train i1_blocks i1_guarded i1_trains i1_omen i1_train lockA seenA whr homes isSeen leftA were tape would row0 row1 row2 row3) ++ pl) := hD
        refine lv_iload_n hx hb dX0_hang_59 rfl (lv_at hl 0 rfl) ?_
        rw [hZ]
        exact W.iret hx hb hr (fun t ht hW => ⟨⟨(n_omen x1.toNatClampNeg), (upd n_omen x1.toNatClampNeg (vp_nar .byte ((x2).toInt8.toInt32))), rfl, G, by rw [ht]; exact hP, hD⟩, hS.F ht⟩) hS.2.2 dX0_hang_60 hlocks
      · have G := G.1 c_6
        refine lv_bipush (v := -2) hx hb dX0_hang_35 (by decide) ?_
        rw [hZ]
        exact W.iret hx hb hr (fun t ht hW => ⟨⟨(-2 : Int32), n_omen, rfl, G, by rw [ht]; exact hP, hD⟩, hS.F ht⟩) hS.2.2 dX0_hang_37 hlocks
    · have G := G.1 c_4
      refine lv_iconst (v := -1) hx hb dX0_hang_20 (by decide) ?_
      rw [hZ]
      exact W.iret hx hb hr (fun t ht hW => ⟨⟨(-1 : Int32), n_omen, rfl, G, by rw [ht]; exact hP, hD⟩, hS.F ht⟩) hS.2.2 dX0_hang_21 hlocks
abbrev rm_C_guard : Room := { frames := 3, cells := 0, slots := 0, locals := 46 }
set_option maxHeartbeats 4000000 in
theorem met_C_guard (l : Launch) (D : va_G) (ad : Nat → Nat) (ca : Nat → ClassId) (pl : va_W) (sz : Nat) (kept : Int32) (locks : Int32) (seenMany : Int32) (bumpMinute : Int32) (bumpBlock : Int32) (bumpTrains : Int32) (waited : Int32) (keptOut : Int32) (used : Int32) (taped : Int32) (fault : Int32) (costSum : Int64) (safeSum : Int64) (allWays : Int64) (torn : Int32) (n_blocks : Int32) (n_guarded : Int32) (n_trains : Int32) (n_omen : Nat → Int32) (n_train : Nat → Int32) (t_blocks : Int32) (t_guarded : Int32) (t_trains : Int32) (t_omen : Nat → Int32) (t_train : Nat → Int32) (i0_blocks : Int32) (i0_guarded : Int32) (i0_trains : Int32) (i0_omen : Nat → Int32) (i0_train : Nat → Int32) (i1_blocks : Int32) (i1_guarded : Int32) (i1_trains : Int32) (i1_omen : Nat → Int32) (i1_train : Nat → Int32) (lockA : Nat → Int32) (seenA : Nat → Int32) (whr : Nat → Int32) (homes : Nat → Int32) (isSeen : Nat → Int32) (leftA : Nat → Int32) (were : Nat → Int32) (tape : Nat → Int32) (would : Nat → Int32) (row0 : Option Nat) (row1 : Option Nat) (row2 : Option Nat) (row3 : Option Nat) (x1 : Int32) (x2 : Int32) (Q : Int32 → Int32 → Prop) (G : C_guard n_blocks n_guarded x1 x2 Q) : Met l yX0_guard (ws_ yX0_guard cX0_guard 4 (some .int)) rm_C_guard (va_Pc [.ref (ad 0), .int x1, .int x2] (wpre D vwCl (tyL ca) ((oW ad ca kept locks seenMany bumpMinute bumpBlock bumpTrains waited keptOut used taped fault costSum safeSum allWays torn n_blocks n_guarded n_trains n_omen n_train t_blocks t_guarded t_trains t_omen t_train i0_blocks i0_guarded i0_trains i0_omen i0_train i1_blocks i1_guarded i1_trains i1_omen i1_train lockA seenA whr homes isSeen leftA were tape would row0 row1 row2 row3) ++ pl) sz)) (va_Qi (fun (r : Int32) (u : Int32) => Q r u) (wpost D vwCl (va_A ((oW ad ca kept locks seenMany bumpMinute bumpBlock bumpTrains waited keptOut used taped fault costSum safeSum allWays torn n_blocks n_guarded n_trains n_omen n_train t_blocks t_guarded t_trains t_omen t_train i0_blocks i0_guarded i0_trains i0_omen i0_train i1_blocks i1_guarded i1_trains i1_omen i1_train lockA seenA whr homes isSeen leftA were tape would row0 row1 row2 row3) ++ pl) sz) (fun (u : Int32) => ((oW ad ca kept locks seenMany bumpMinute bumpBlock bumpTrains waited keptOut used taped fault costSum safeSum allWays torn n_blocks u n_trains n_omen n_train t_blocks t_guarded t_trains t_omen t_train i0_blocks i0_guarded i0_trains i0_omen i0_train i1_blocks i1_guarded i1_trains i1_omen i1_train lockA seenA whr homes isSeen leftA were tape would row0 row1 row2 row3) ++ pl))) (va_A ((oW ad ca kept locks seenMany bumpMinute bumpBlock bumpTrains waited keptOut used taped fault costSum safeSum allWays torn n_blocks n_guarded n_trains n_omen n_train t_blocks t_guarded t_trains t_omen t_train i0_blocks i0_guarded i0_trains i0_omen i0_train i1_blocks i1_guarded i1_trains i1_omen i1_train lockA seenA whr homes isSeen leftA were tape would row0 row1 row2 row3) ++ pl) sz)) 0 0 (va_A ((oW ad ca kept locks seenMany bumpMinute bumpBlock bumpTrains waited keptOut used taped fault costSum safeSum allWays torn n_blocks n_guarded n_trains n_omen n_train t_blocks t_guarded t_trains t_omen t_train i0_blocks i0_guarded i0_trains i0_omen i0_train i1_blocks i1_guarded i1_trains i1_omen i1_train lockA seenA whr homes isSeen leftA were tape would row0 row1 row2 row3) ++ pl) sz) := by
  refine met_of (fun A => (va_Qi (fun (r : Int32) (u : Int32) => Q r u) (wpost D vwCl A (fun (u : Int32) => ((oW ad ca kept locks seenMany bumpMinute bumpBlock bumpTrains waited keptOut used taped fault costSum safeSum allWays torn n_blocks u n_trains n_omen n_train t_blocks t_guarded t_trains t_omen t_train i0_blocks i0_guarded i0_trains i0_omen i0_train i1_blocks i1_guarded i1_trains i1_omen i1_train lockA seenA whr homes isSeen leftA were tape would row0 row1 row2 row3) ++ pl))) A)) (by decide) (Nat.le_of_ble_eq_true rfl) ?_
  intro p e s m args below meth c Z A hZ C H locs hP hD hS ls hl
  have hx := C.1; have hb := C.2.1; have hr := C.2.2.1; have hlocks := C.2.2.2.1; have hml := C.2.2.2.2.1; have hown := C.2.2.2.2.2.1; have hts := C.2.2.2.2.2.2.1; have hn := C.2.2.2.2.2.2.2.1; have hK := C.2.2.2.2.2.2.2.2.1; have hA := C.2.2.2.2.2.2.2.2.2
  have hl : lv_has ls 4 [(0, .ref (ad 0)), (1, .int x1), (2, .int x2)] := hl
  unfold C_guard at G
  refine lv_aload_n hx hb dX0_guard_0 rfl (lv_at hl 0 rfl) ?_
  refine lv_iload_n hx hb dX0_guard_1 rfl (lv_at hl 1 rfl) ?_
  refine wc_Vik (As := [.int x1]) (rest := []) C (met_C_isBlock l D ad ca pl H.size kept locks seenMany bumpMinute bumpBlock bumpTrains waited keptOut used taped fault costSum safeSum allWays torn n_blocks n_guarded n_trains n_omen n_train t_blocks t_guarded t_trains t_omen t_train i0_blocks i0_guarded i0_trains i0_omen i0_train i1_blocks i1_guarded i1_trains i1_omen i1_train lockA seenA whr homes isSeen leftA were tape would row0 row1 row2 row3 x1) (cwV 1 hts (lw_V q579 q581 qs19 q68 q582) rfl rfl rfl (by decide +kernel) ⟨Nat.le_of_ble_eq_true rfl, Nat.le_of_ble_eq_true rfl⟩) hP hD hS (List.range _) (wc_self _) (wc_nd _) 0 rfl rfl rfl rfl hl.1 (Nat.le_of_ble_eq_true rfl) dX0_guard_2 ⟨Nat.le_of_ble_eq_true rfl, Nat.le_of_ble_eq_true rfl⟩ (fun r_1 u H locs hr hP hD hS => ?_)
  subst hr
  refine lv_if_ne (tgt := 10) hx hb dX0_guard_5 (by decide) (fun c_2 => ?_) (fun c_2 => ?_)
  · have G := G.2 c_2
    refine lv_aload_n hx hb dX0_guard_10 rfl (lv_at hl 0 rfl) ?_
    refine va_get hx hb hts in_X0 hown hK hP 0 rfl rfl 1 (by decide) (hts _ q178) (fun _ h => h) rfl dX0_guard_11 ?_
    refine va_getN hx hb hts in_X5 hown hK hP 6 rfl rfl 2 (by decide) (va_Nw.use rfl (hn _ q143 rfl)) (fun _ h => h) rfl dX0_guard_14 ?_
    refine lv_iload_n hx hb dX0_guard_17 rfl (lv_at hl 1 rfl) ?_
    refine lv_ishr hx hb dX0_guard_18 ?_
    refine lv_iconst (v := 1) hx hb dX0_guard_19 (by decide) ?_
    refine lv_iand hx hb dX0_guard_20 ?_
    refine lv_istore_n (lv' := [(3, .int ((n_guarded >>> (x1 &&& 31)) &&& (1 : Int32))), (0, .ref (ad 0)), (1, .int x1), (2, .int x2)]) hx hb dX0_guard_21 rfl hl (by decide) rfl (fun ls hl => ?_)
    refine lv_aload_n hx hb dX0_guard_22 rfl (lv_at hl 1 rfl) ?_
    refine va_get hx hb hts in_X0 hown hK hP 0 rfl rfl 1 (by decide) (hts _ q178) (fun _ h => h) rfl dX0_guard_23 ?_
    refine lv_iload_n hx hb dX0_guard_26 rfl (lv_at hl 3 rfl) ?_
    have hJ : ∀ (H : Heap) (locs : List Loc), va_P D vwCl ((oW ad ca kept locks seenMany bumpMinute bumpBlock bumpTrains waited keptOut used taped fault costSum safeSum allWays torn n_blocks n_guarded n_trains n_omen n_train t_blocks t_guarded t_trains t_omen t_train i0_blocks i0_guarded i0_trains i0_omen i0_train i1_blocks i1_guarded i1_trains i1_omen i1_train lockA seenA whr homes isSeen leftA were tape would row0 row1 row2 row3) ++ pl) H → va_D A ((oW ad ca kept locks seenMany bumpMinute bumpBlock bumpTrains waited keptOut used taped fault costSum safeSum allWays torn n_blocks n_guarded n_trains n_omen n_train t_blocks t_guarded t_trains t_omen t_train i0_blocks i0_guarded i0_trains i0_omen i0_train i1_blocks i1_guarded i1_trains i1_omen i1_train lockA seenA whr homes isSeen leftA were tape would row0 row1 row2 row3) ++ pl) → va_S A s.heap H locs → ∀ v_4 : Int32, v_4 = (if x2 = 0 then (n_guarded &&& (((1 : Int32) <<< (x1 &&& 31)) ^^^ (-1 : Int32))) else (n_guarded ||| ((1 : Int32) <<< (x1 &&& 31)))) → W p l e rm_C_guard s m args below meth c H locs 0 0 Z (F0 m 57 ls (.int v_4 :: [.ref (ad 6)])) := by
      intro H locs hP hD hS v_4 hv
      subst hv
      refine va_putN hx hb hts in_X5 tyX5 tyX5_ok nmX5 hown hK hP hD hS 6 rfl rfl 2 (by decide) (va_Nw.use rfl (hn _ q143 rfl)) (fun _ h => h) rfl (tyX5_ok 2 (by decide)) rfl rfl (Nat.le_of_ble_eq_true rfl) dX0_guard_57 (fun H locs hP hD hS => ?_)
      have hP : va_P D vwCl ((oW ad ca kept locks seenMany bumpMinute bumpBlock bumpTrains waited keptOut used taped fault costSum safeSum allWays torn n_blocks (if x2 = 0 then (n_guarded &&& (((1 : Int32) <<< (x1 &&& 31)) ^^^ (-1 : Int32))) else (n_guarded ||| ((1 : Int32) <<< (x1 &&& 31)))) n_trains n_omen n_train t_blocks t_guarded t_trains t_omen t_train i0_blocks i0_guarded i0_trains i0_omen i0_train i1_blocks i1_guarded i1_trains i1_omen i1_train lockA seenA whr homes isSeen leftA were tape would row0 row1 row2 row3) ++ pl) H := hP
      have hD : va_D A ((oW ad ca kept locks seenMany bumpMinute bumpBlock bumpTrains waited keptOut used taped fault costSum safeSum allWays torn n_blocks (if x2 = 0 then (n_guarded &&& (((1 : Int32) <<< (x1 &&& 31)) ^^^ (-1 : Int32))) else (n_guarded ||| ((1 : Int32) <<< (x1 &&& 31)))) n_trains n_omen n_train t_blocks t_guarded t_trains t_omen t_train i0_blocks i0_guarded i0_trains i0_omen i0_train i1_blocks i1_guarded i1_trains i1_omen i1_train lockA seenA whr homes isSeen leftA were tape would row0 row1 row2 row3) ++ pl) := hD
      refine lv_iload_n hx hb dX0_guard_60 rfl (lv_at hl 0 rfl) ?_
      rw [hZ]
      exact W.iret hx hb hr (fun t ht hW => ⟨⟨((n_guarded >>> (x1 &&& 31)) &&& (1 : Int32)), (if x2 = 0 then (n_guarded &&& (((1 : Int32) <<< (x1 &&& 31)) ^^^ (-1 : Int32))) else (n_guarded ||| ((1 : Int32) <<< (x1 &&& 31)))), rfl, G, by rw [ht]; exact hP, hD⟩, hS.F ht⟩) hS.2.2 dX0_guard_61 hlocks
    refine lv_if_eq (tgt := 44) hx hb dX0_guard_27 (by decide) (fun c_3 => ?_) (fun c_3 => ?_)
    · refine lv_aload_n hx hb dX0_guard_44 rfl (lv_at hl 1 rfl) ?_
      refine va_get hx hb hts in_X0 hown hK hP 0 rfl rfl 1 (by decide) (hts _ q178) (fun _ h => h) rfl dX0_guard_45 ?_
      refine va_getN hx hb hts in_X5 hown hK hP 6 rfl rfl 2 (by decide) (va_Nw.use rfl (hn _ q143 rfl)) (fun _ h => h) rfl dX0_guard_48 ?_
      refine lv_iconst (v := 1) hx hb dX0_guard_51 (by decide) ?_
      refine lv_iload_n hx hb dX0_guard_52 rfl (lv_at hl 2 rfl) ?_
      refine lv_ishl hx hb dX0_guard_53 ?_
      refine lv_iconst (v := -1) hx hb dX0_guard_54 (by decide) ?_
      refine lv_ixor hx hb dX0_guard_55 ?_
      refine lv_iand hx hb dX0_guard_56 ?_
      exact hJ _ _ hP hD hS _ (eT c_3 rfl)
    · refine lv_aload_n hx hb dX0_guard_30 rfl (lv_at hl 1 rfl) ?_
      refine va_get hx hb hts in_X0 hown hK hP 0 rfl rfl 1 (by decide) (hts _ q178) (fun _ h => h) rfl dX0_guard_31 ?_
      refine va_getN hx hb hts in_X5 hown hK hP 6 rfl rfl 2 (by decide) (va_Nw.use rfl (hn _ q143 rfl)) (fun _ h => h) rfl dX0_guard_34 ?_
      refine lv_iconst (v := 1) hx hb dX0_guard_37 (by decide) ?_
      refine lv_iload_n hx hb dX0_guard_38 rfl (lv_at hl 2 rfl) ?_
      refine lv_ishl hx hb dX0_guard_39 ?_
      refine lv_ior hx hb dX0_guard_40 ?_
      refine lv_goto (tgt := 57) hx hb dX0_guard_41 (by decide) ?_
      exact hJ _ _ hP hD hS _ (eF c_3 rfl)
  · have G := G.1 c_2
    refine lv_iconst (v := -1) hx hb dX0_guard_8 (by decide) ?_
    rw [hZ]
    exact W.iret hx hb hr (fun t ht hW => ⟨⟨(-1 : Int32), n_guarded, rfl, G, by rw [ht]; exact hP, hD⟩, hS.F ht⟩) hS.2.2 dX0_guard_9 hlocks
