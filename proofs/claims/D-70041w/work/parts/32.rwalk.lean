set_option maxRecDepth 100000
abbrev rm_R_isIn : Room := { frames := 1, cells := 0, slots := 0, locals := 0 }
set_option maxHeartbeats 4000000 in
theorem met_R_isIn (l : Launch) (D : va_G) (ad : Nat → Nat) (r : Nat) (kb : Nat) (ko : Nat) (kt : Nat) (km : Nat) (ca : Nat → ClassId) (sz : Nat) (sizeR : Int32) (madeLocks : Int32) (hasBlocks : Int32) (omened : Int32) (highest : Int32) (atR : Int32) (fromR : Int32) (sortR : Int32) (valueR : Int32) (k_blocks : Int32) (k_guarded : Int32) (k_trains : Int32) (k_omen : Nat → Int32) (k_train : Nat → Int32) (madeLockA : Nat → Int32) (kept : Int32) (locks : Int32) (seenMany : Int32) (bumpMinute : Int32) (bumpBlock : Int32) (bumpTrains : Int32) (waited : Int32) (keptOut : Int32) (used : Int32) (taped : Int32) (fault : Int32) (costSum : Int64) (safeSum : Int64) (allWays : Int64) (torn : Int32) (tape : Nat → Int32) (x1 : Int32) (x2 : Int32) (hside : R_isIn_s sizeR atR tape x1 x2) : Met l yX8_isIn (ws_ yX8_isIn cX8_isIn 3 (some .boolean)) rm_R_isIn (va_Pc [.ref r, .int x1, .int x2] (wpre D vwCl (tyL ca) (dW ad r kb ko kt km ca sizeR madeLocks hasBlocks omened highest atR fromR sortR valueR k_blocks k_guarded k_trains k_omen k_train madeLockA kept locks seenMany bumpMinute bumpBlock bumpTrains waited keptOut used taped fault costSum safeSum allWays torn tape) sz)) (va_Qi (fun (r : Int32) (u : Unit) => r = R_isIn_e sizeR atR tape x1 x2) (wpost D vwCl (va_A (dW ad r kb ko kt km ca sizeR madeLocks hasBlocks omened highest atR fromR sortR valueR k_blocks k_guarded k_trains k_omen k_train madeLockA kept locks seenMany bumpMinute bumpBlock bumpTrains waited keptOut used taped fault costSum safeSum allWays torn tape) sz) (fun (u : Unit) => (dW ad r kb ko kt km ca sizeR madeLocks hasBlocks omened highest atR fromR sortR valueR k_blocks k_guarded k_trains k_omen k_train madeLockA kept locks seenMany bumpMinute bumpBlock bumpTrains waited keptOut used taped fault costSum safeSum allWays torn tape))) (va_A (dW ad r kb ko kt km ca sizeR madeLocks hasBlocks omened highest atR fromR sortR valueR k_blocks k_guarded k_trains k_omen k_train madeLockA kept locks seenMany bumpMinute bumpBlock bumpTrains waited keptOut used taped fault costSum safeSum allWays torn tape) sz)) 0 0 (va_A (dW ad r kb ko kt km ca sizeR madeLocks hasBlocks omened highest atR fromR sortR valueR k_blocks k_guarded k_trains k_omen k_train madeLockA kept locks seenMany bumpMinute bumpBlock bumpTrains waited keptOut used taped fault costSum safeSum allWays torn tape) sz) := by
  refine met_of (fun A => (va_Qi (fun (r : Int32) (u : Unit) => r = R_isIn_e sizeR atR tape x1 x2) (wpost D vwCl A (fun (u : Unit) => (dW ad r kb ko kt km ca sizeR madeLocks hasBlocks omened highest atR fromR sortR valueR k_blocks k_guarded k_trains k_omen k_train madeLockA kept locks seenMany bumpMinute bumpBlock bumpTrains waited keptOut used taped fault costSum safeSum allWays torn tape))) A)) (by decide) (Nat.le_of_ble_eq_true rfl) ?_
  intro p e s m args below meth c Z A hZ C H locs hP hD hS ls hl
  have hx := C.1; have hb := C.2.1; have hr := C.2.2.1; have hlocks := C.2.2.2.1; have hml := C.2.2.2.2.1; have hown := C.2.2.2.2.2.1; have hts := C.2.2.2.2.2.2.1; have hn := C.2.2.2.2.2.2.2.1; have hK := C.2.2.2.2.2.2.2.2.1; have hA := C.2.2.2.2.2.2.2.2.2
  have hl : lv_has ls 3 [(0, .ref r), (1, .int x1), (2, .int x2)] := hl
  obtain ⟨h_2, h_4⟩ := hside
  refine lv_aload_n hx hb dX8_isIn_0 rfl (lv_at hl 0 rfl) ?_
  refine va_get hx hb hts in_X8 hown hK hP 0 rfl rfl 7 (by decide) (hts _ q397) (fun _ h => h) rfl dX8_isIn_1 ?_
  refine lv_aload_n hx hb dX8_isIn_4 rfl (lv_at hl 0 rfl) ?_
  refine va_get hx hb hts in_X8 hown hK hP 0 rfl rfl 0 (by decide) (hts _ q387) (fun _ h => h) rfl dX8_isIn_5 ?_
  refine lv_icmp_ge (tgt := 47) hx hb dX8_isIn_8 (by decide) (fun c_1 => ?_) (fun c_1 => ?_)
  · refine lv_iconst (v := 0) hx hb dX8_isIn_47 (by decide) ?_
    rw [hZ]
    exact W.zret hx hb hr (zb_n zb_0) (fun t ht hW => ⟨⟨(0 : Int32), (), rfl, (eT c_1 rfl), by rw [ht]; exact hP, hD⟩, hS.F ht⟩) hS.2.2 dX8_isIn_48 hlocks
  · refine lv_aload_n hx hb dX8_isIn_11 rfl (lv_at hl 0 rfl) ?_
    refine va_get hx hb hts in_X8 hown hK hP 0 rfl rfl 11 (by decide) (hts _ q401) (fun _ h => h) rfl dX8_isIn_12 ?_
    refine va_getN hx hb hts in_X0 hown hK hP 5 rfl rfl 20 (by decide) (va_Nw.use rfl (hn _ q197 rfl)) (fun _ h => h) rfl dX8_isIn_15 ?_
    refine lv_aload_n hx hb dX8_isIn_18 rfl (lv_at hl 0 rfl) ?_
    refine va_get hx hb hts in_X8 hown hK hP 0 rfl rfl 7 (by decide) (hts _ q397) (fun _ h => h) rfl dX8_isIn_19 ?_
    refine va_bald hx hb hK hP 6 2 rfl rfl (h_2 c_1) dX8_isIn_22 ?_
    refine lv_iload_n hx hb dX8_isIn_23 rfl (lv_at hl 1 rfl) ?_
    refine lv_icmp_lt (tgt := 47) hx hb dX8_isIn_24 (by decide) (fun c_3 => ?_) (fun c_3 => ?_)
    · refine lv_iconst (v := 0) hx hb dX8_isIn_47 (by decide) ?_
      rw [hZ]
      exact W.zret hx hb hr (zb_n zb_0) (fun t ht hW => ⟨⟨(0 : Int32), (), rfl, (eF c_1 (eT c_3 rfl)), by rw [ht]; exact hP, hD⟩, hS.F ht⟩) hS.2.2 dX8_isIn_48 hlocks
    · refine lv_aload_n hx hb dX8_isIn_27 rfl (lv_at hl 0 rfl) ?_
      refine va_get hx hb hts in_X8 hown hK hP 0 rfl rfl 11 (by decide) (hts _ q401) (fun _ h => h) rfl dX8_isIn_28 ?_
      refine va_getN hx hb hts in_X0 hown hK hP 5 rfl rfl 20 (by decide) (va_Nw.use rfl (hn _ q197 rfl)) (fun _ h => h) rfl dX8_isIn_31 ?_
      refine lv_aload_n hx hb dX8_isIn_34 rfl (lv_at hl 0 rfl) ?_
      refine va_get hx hb hts in_X8 hown hK hP 0 rfl rfl 7 (by decide) (hts _ q397) (fun _ h => h) rfl dX8_isIn_35 ?_
      refine va_bald hx hb hK hP 6 2 rfl rfl (h_4 c_1 c_3) dX8_isIn_38 ?_
      refine lv_iload_n hx hb dX8_isIn_39 rfl (lv_at hl 2 rfl) ?_
      refine lv_icmp_gt (tgt := 47) hx hb dX8_isIn_40 (by decide) (fun c_5 => ?_) (fun c_5 => ?_)
      · refine lv_iconst (v := 0) hx hb dX8_isIn_47 (by decide) ?_
        rw [hZ]
        exact W.zret hx hb hr (zb_n zb_0) (fun t ht hW => ⟨⟨(0 : Int32), (), rfl, (eF c_1 (eF c_3 (eT c_5 rfl))), by rw [ht]; exact hP, hD⟩, hS.F ht⟩) hS.2.2 dX8_isIn_48 hlocks
      · refine lv_iconst (v := 1) hx hb dX8_isIn_43 (by decide) ?_
        refine lv_goto (tgt := 48) hx hb dX8_isIn_44 (by decide) ?_
        rw [hZ]
        exact W.zret hx hb hr (zb_n zb_1) (fun t ht hW => ⟨⟨(1 : Int32), (), rfl, (eF c_1 (eF c_3 (eF c_5 rfl))), by rw [ht]; exact hP, hD⟩, hS.F ht⟩) hS.2.2 dX8_isIn_48 hlocks
abbrev rm_R_faith : Room := { frames := 1, cells := 0, slots := 0, locals := 0 }
set_option maxHeartbeats 4000000 in
theorem met_R_faith (l : Launch) (D : va_G) (sk sv : Nat → Nat) (ad : Nat → Nat) (r : Nat) (kb : Nat) (ko : Nat) (kt : Nat) (km : Nat) (ca : Nat → ClassId) (sz : Nat) (sizeR : Int32) (madeLocks : Int32) (hasBlocks : Int32) (omened : Int32) (highest : Int32) (atR : Int32) (fromR : Int32) (sortR : Int32) (valueR : Int32) (k_blocks : Int32) (k_guarded : Int32) (k_trains : Int32) (k_omen : Nat → Int32) (k_train : Nat → Int32) (madeLockA : Nat → Int32) (kept : Int32) (locks : Int32) (seenMany : Int32) (bumpMinute : Int32) (bumpBlock : Int32) (bumpTrains : Int32) (waited : Int32) (keptOut : Int32) (used : Int32) (taped : Int32) (fault : Int32) (costSum : Int64) (safeSum : Int64) (allWays : Int64) (torn : Int32) (tape : Nat → Int32) (x1 : Int32) (Q : Nat → Prop) (G : R_faith x1 Q) : Met l yX8_faith (ws_ yX8_faith cX8_faith 2 (some (.object "java/lang/String"))) rm_R_faith (va_Pc [.ref r, .int x1] (wpreE D vwCl (tyL ca) sk sv (dW ad r kb ko kt km ca sizeR madeLocks hasBlocks omened highest atR fromR sortR valueR k_blocks k_guarded k_trains k_omen k_train madeLockA kept locks seenMany bumpMinute bumpBlock bumpTrains waited keptOut used taped fault costSum safeSum allWays torn tape) sz)) (va_Qr (fun (u : Nat) => Q u) (fun (u : Nat) (a : Nat) (t : State) => a = sk u ∧ wpost (S := Unit) D vwCl (va_A (dW ad r kb ko kt km ca sizeR madeLocks hasBlocks omened highest atR fromR sortR valueR k_blocks k_guarded k_trains k_omen k_train madeLockA kept locks seenMany bumpMinute bumpBlock bumpTrains waited keptOut used taped fault costSum safeSum allWays torn tape) sz) (fun (_ : Unit) => (dW ad r kb ko kt km ca sizeR madeLocks hasBlocks omened highest atR fromR sortR valueR k_blocks k_guarded k_trains k_omen k_train madeLockA kept locks seenMany bumpMinute bumpBlock bumpTrains waited keptOut used taped fault costSum safeSum allWays torn tape)) () t) (va_A (dW ad r kb ko kt km ca sizeR madeLocks hasBlocks omened highest atR fromR sortR valueR k_blocks k_guarded k_trains k_omen k_train madeLockA kept locks seenMany bumpMinute bumpBlock bumpTrains waited keptOut used taped fault costSum safeSum allWays torn tape) sz)) 0 0 (va_A (dW ad r kb ko kt km ca sizeR madeLocks hasBlocks omened highest atR fromR sortR valueR k_blocks k_guarded k_trains k_omen k_train madeLockA kept locks seenMany bumpMinute bumpBlock bumpTrains waited keptOut used taped fault costSum safeSum allWays torn tape) sz) := by
  refine met_ofE (fun A => (va_Qr (fun (u : Nat) => Q u) (fun (u : Nat) (a : Nat) (t : State) => a = sk u ∧ wpost (S := Unit) D vwCl A (fun (_ : Unit) => (dW ad r kb ko kt km ca sizeR madeLocks hasBlocks omened highest atR fromR sortR valueR k_blocks k_guarded k_trains k_omen k_train madeLockA kept locks seenMany bumpMinute bumpBlock bumpTrains waited keptOut used taped fault costSum safeSum allWays torn tape)) () t) A)) (by decide) (Nat.le_of_ble_eq_true rfl) ?_
  intro p e s m args below meth c Z A hZ C hE hmn H locs hP hD hS ls hl
  have CE := And.intro C hE
  have C := CE.1; have hE := CE.2; have hx := C.1; have hb := C.2.1; have hr := C.2.2.1; have hlocks := C.2.2.2.1; have hml := C.2.2.2.2.1; have hown := C.2.2.2.2.2.1; have hts := C.2.2.2.2.2.2.1; have hn := C.2.2.2.2.2.2.2.1; have hK := C.2.2.2.2.2.2.2.2.1; have hA := C.2.2.2.2.2.2.2.2.2
  have hl : lv_has ls 2 [(0, .ref r), (1, .int x1)] := hl
  unfold R_faith at G
  refine lv_iload_n hx hb dX8_faith_0 rfl (lv_at hl 1 rfl) ?_
  rcases sw_2 x1 with c_1 | c_1 | c_1 | c_1
  · have G := G.1 c_1
    refine lv_tableIn (off := 27) (tgt := 28) hx hb dX8_faith_1 (by rw [c_1]; decide) (by rw [c_1]; decide) (by rw [c_1]; rfl) (by decide) ?_
    refine va_ldcS hx hb hown (hE.2.1 9 _ rfl) dX8_faith_28 ?_
    rw [hZ]
    exact W.aret hx hb hr (Or.inl ⟨_, rfl⟩) (Or.inr ⟨_, rfl⟩) (fun t ht hW => ⟨⟨9, _, rfl, G, rfl, by rw [ht]; exact hP, hD⟩, hS.F ht⟩) hS.2.2 dX8_faith_30 hlocks
  · have G := G.2.1 c_1
    refine lv_tableIn (off := 30) (tgt := 31) hx hb dX8_faith_1 (by rw [c_1]; decide) (by rw [c_1]; decide) (by rw [c_1]; rfl) (by decide) ?_
    refine va_ldcS hx hb hown (hE.2.1 10 _ rfl) dX8_faith_31 ?_
    rw [hZ]
    exact W.aret hx hb hr (Or.inl ⟨_, rfl⟩) (Or.inr ⟨_, rfl⟩) (fun t ht hW => ⟨⟨10, _, rfl, G, rfl, by rw [ht]; exact hP, hD⟩, hS.F ht⟩) hS.2.2 dX8_faith_33 hlocks
  · have G := G.2.2.1 c_1
    refine lv_tableIn (off := 33) (tgt := 34) hx hb dX8_faith_1 (by rw [c_1]; decide) (by rw [c_1]; decide) (by rw [c_1]; rfl) (by decide) ?_
    refine va_ldcS hx hb hown (hE.2.1 11 _ rfl) dX8_faith_34 ?_
    rw [hZ]
    exact W.aret hx hb hr (Or.inl ⟨_, rfl⟩) (Or.inr ⟨_, rfl⟩) (fun t ht hW => ⟨⟨11, _, rfl, G, rfl, by rw [ht]; exact hP, hD⟩, hS.F ht⟩) hS.2.2 dX8_faith_36 hlocks
  · have G := G.2.2.2 c_1
    refine lv_tableOut (tgt := 37) hx hb dX8_faith_1 c_1 (by decide) ?_
    refine va_ldcS hx hb hown (hE.2.1 12 _ rfl) dX8_faith_37 ?_
    rw [hZ]
    exact W.aret hx hb hr (Or.inl ⟨_, rfl⟩) (Or.inr ⟨_, rfl⟩) (fun t ht hW => ⟨⟨12, _, rfl, G, rfl, by rw [ht]; exact hP, hD⟩, hS.F ht⟩) hS.2.2 dX8_faith_39 hlocks
abbrev rm_R_name : Room := { frames := 2, cells := 0, slots := 0, locals := 21 }
set_option maxHeartbeats 4000000 in
theorem met_R_name (l : Launch) (D : va_G) (sk sv : Nat → Nat) (ad : Nat → Nat) (r : Nat) (kb : Nat) (ko : Nat) (kt : Nat) (km : Nat) (ca : Nat → ClassId) (sz : Nat) (sizeR : Int32) (madeLocks : Int32) (hasBlocks : Int32) (omened : Int32) (highest : Int32) (atR : Int32) (fromR : Int32) (sortR : Int32) (valueR : Int32) (k_blocks : Int32) (k_guarded : Int32) (k_trains : Int32) (k_omen : Nat → Int32) (k_train : Nat → Int32) (madeLockA : Nat → Int32) (kept : Int32) (locks : Int32) (seenMany : Int32) (bumpMinute : Int32) (bumpBlock : Int32) (bumpTrains : Int32) (waited : Int32) (keptOut : Int32) (used : Int32) (taped : Int32) (fault : Int32) (costSum : Int64) (safeSum : Int64) (allWays : Int64) (torn : Int32) (tape : Nat → Int32) (x1 : Int32) (Q : Nat → Prop) (G : R_name x1 Q) : Met l yX8_name (ws_ yX8_name cX8_name 2 (some (.object "java/lang/String"))) rm_R_name (va_Pc [.ref r, .int x1] (wpreE D vwCl (tyL ca) sk sv (dW ad r kb ko kt km ca sizeR madeLocks hasBlocks omened highest atR fromR sortR valueR k_blocks k_guarded k_trains k_omen k_train madeLockA kept locks seenMany bumpMinute bumpBlock bumpTrains waited keptOut used taped fault costSum safeSum allWays torn tape) sz)) (va_Qr (fun (u : Nat) => Q u) (fun (u : Nat) (a : Nat) (t : State) => a = sk u ∧ wpost (S := Unit) D vwCl (va_A (dW ad r kb ko kt km ca sizeR madeLocks hasBlocks omened highest atR fromR sortR valueR k_blocks k_guarded k_trains k_omen k_train madeLockA kept locks seenMany bumpMinute bumpBlock bumpTrains waited keptOut used taped fault costSum safeSum allWays torn tape) sz) (fun (_ : Unit) => (dW ad r kb ko kt km ca sizeR madeLocks hasBlocks omened highest atR fromR sortR valueR k_blocks k_guarded k_trains k_omen k_train madeLockA kept locks seenMany bumpMinute bumpBlock bumpTrains waited keptOut used taped fault costSum safeSum allWays torn tape)) () t) (va_A (dW ad r kb ko kt km ca sizeR madeLocks hasBlocks omened highest atR fromR sortR valueR k_blocks k_guarded k_trains k_omen k_train madeLockA kept locks seenMany bumpMinute bumpBlock bumpTrains waited keptOut used taped fault costSum safeSum allWays torn tape) sz)) 0 0 (va_A (dW ad r kb ko kt km ca sizeR madeLocks hasBlocks omened highest atR fromR sortR valueR k_blocks k_guarded k_trains k_omen k_train madeLockA kept locks seenMany bumpMinute bumpBlock bumpTrains waited keptOut used taped fault costSum safeSum allWays torn tape) sz) := by
  refine met_ofE (fun A => (va_Qr (fun (u : Nat) => Q u) (fun (u : Nat) (a : Nat) (t : State) => a = sk u ∧ wpost (S := Unit) D vwCl A (fun (_ : Unit) => (dW ad r kb ko kt km ca sizeR madeLocks hasBlocks omened highest atR fromR sortR valueR k_blocks k_guarded k_trains k_omen k_train madeLockA kept locks seenMany bumpMinute bumpBlock bumpTrains waited keptOut used taped fault costSum safeSum allWays torn tape)) () t) A)) (by decide) (Nat.le_of_ble_eq_true rfl) ?_
  intro p e s m args below meth c Z A hZ C hE hmn H locs hP hD hS ls hl
  have CE := And.intro C hE
  have C := CE.1; have hE := CE.2; have hx := C.1; have hb := C.2.1; have hr := C.2.2.1; have hlocks := C.2.2.2.1; have hml := C.2.2.2.2.1; have hown := C.2.2.2.2.2.1; have hts := C.2.2.2.2.2.2.1; have hn := C.2.2.2.2.2.2.2.1; have hK := C.2.2.2.2.2.2.2.2.1; have hA := C.2.2.2.2.2.2.2.2.2
  have hl : lv_has ls 2 [(0, .ref r), (1, .int x1)] := hl
  unfold R_name at G
  refine lv_iload_n hx hb dX8_name_0 rfl (lv_at hl 1 rfl) ?_
  rcases sw_4_12 x1 with c_1 | c_1 | c_1 | c_1 | c_1 | c_1 | c_1 | c_1 | c_1 | c_1
  · have G := G.1 c_1
    refine lv_tableIn (off := 51) (tgt := 52) hx hb dX8_name_1 (by rw [c_1]; decide) (by rw [c_1]; decide) (by rw [c_1]; rfl) (by decide) ?_
    refine va_ldcS hx hb hown (hE.2.1 0 _ rfl) dX8_name_52 ?_
    rw [hZ]
    exact W.aret hx hb hr (Or.inl ⟨_, rfl⟩) (Or.inr ⟨_, rfl⟩) (fun t ht hW => ⟨⟨0, _, rfl, G, rfl, by rw [ht]; exact hP, hD⟩, hS.F ht⟩) hS.2.2 dX8_name_54 hlocks
  · have G := G.2.1 c_1
    refine lv_tableIn (off := 54) (tgt := 55) hx hb dX8_name_1 (by rw [c_1]; decide) (by rw [c_1]; decide) (by rw [c_1]; rfl) (by decide) ?_
    refine va_ldcS hx hb hown (hE.2.1 1 _ rfl) dX8_name_55 ?_
    rw [hZ]
    exact W.aret hx hb hr (Or.inl ⟨_, rfl⟩) (Or.inr ⟨_, rfl⟩) (fun t ht hW => ⟨⟨1, _, rfl, G, rfl, by rw [ht]; exact hP, hD⟩, hS.F ht⟩) hS.2.2 dX8_name_57 hlocks
  · have G := G.2.2.1 c_1
    refine lv_tableIn (off := 57) (tgt := 58) hx hb dX8_name_1 (by rw [c_1]; decide) (by rw [c_1]; decide) (by rw [c_1]; rfl) (by decide) ?_
    refine va_ldcS hx hb hown (hE.2.1 2 _ rfl) dX8_name_58 ?_
    rw [hZ]
    exact W.aret hx hb hr (Or.inl ⟨_, rfl⟩) (Or.inr ⟨_, rfl⟩) (fun t ht hW => ⟨⟨2, _, rfl, G, rfl, by rw [ht]; exact hP, hD⟩, hS.F ht⟩) hS.2.2 dX8_name_60 hlocks
  · have G := G.2.2.2.1 c_1
    refine lv_tableIn (off := 60) (tgt := 61) hx hb dX8_name_1 (by rw [c_1]; decide) (by rw [c_1]; decide) (by rw [c_1]; rfl) (by decide) ?_
    refine va_ldcS hx hb hown (hE.2.1 3 _ rfl) dX8_name_61 ?_
    rw [hZ]
    exact W.aret hx hb hr (Or.inl ⟨_, rfl⟩) (Or.inr ⟨_, rfl⟩) (fun t ht hW => ⟨⟨3, _, rfl, G, rfl, by rw [ht]; exact hP, hD⟩, hS.F ht⟩) hS.2.2 dX8_name_63 hlocks
  · have G := G.2.2.2.2.1 c_1
    refine lv_tableIn (off := 63) (tgt := 64) hx hb dX8_name_1 (by rw [c_1]; decide) (by rw [c_1]; decide) (by rw [c_1]; rfl) (by decide) ?_
    refine va_ldcS hx hb hown (hE.2.1 4 _ rfl) dX8_name_64 ?_
    rw [hZ]
    exact W.aret hx hb hr (Or.inl ⟨_, rfl⟩) (Or.inr ⟨_, rfl⟩) (fun t ht hW => ⟨⟨4, _, rfl, G, rfl, by rw [ht]; exact hP, hD⟩, hS.F ht⟩) hS.2.2 dX8_name_66 hlocks
  · have G := G.2.2.2.2.2.1 c_1
    refine lv_tableIn (off := 66) (tgt := 67) hx hb dX8_name_1 (by rw [c_1]; decide) (by rw [c_1]; decide) (by rw [c_1]; rfl) (by decide) ?_
    refine va_ldcS hx hb hown (hE.2.1 5 _ rfl) dX8_name_67 ?_
    rw [hZ]
    exact W.aret hx hb hr (Or.inl ⟨_, rfl⟩) (Or.inr ⟨_, rfl⟩) (fun t ht hW => ⟨⟨5, _, rfl, G, rfl, by rw [ht]; exact hP, hD⟩, hS.F ht⟩) hS.2.2 dX8_name_69 hlocks
  · have G := G.2.2.2.2.2.2.1 c_1
    refine lv_tableIn (off := 69) (tgt := 70) hx hb dX8_name_1 (by rw [c_1]; decide) (by rw [c_1]; decide) (by rw [c_1]; rfl) (by decide) ?_
    refine va_ldcS hx hb hown (hE.2.1 6 _ rfl) dX8_name_70 ?_
    rw [hZ]
    exact W.aret hx hb hr (Or.inl ⟨_, rfl⟩) (Or.inr ⟨_, rfl⟩) (fun t ht hW => ⟨⟨6, _, rfl, G, rfl, by rw [ht]; exact hP, hD⟩, hS.F ht⟩) hS.2.2 dX8_name_72 hlocks
  · have G := G.2.2.2.2.2.2.2.1 c_1
    refine lv_tableIn (off := 72) (tgt := 73) hx hb dX8_name_1 (by rw [c_1]; decide) (by rw [c_1]; decide) (by rw [c_1]; rfl) (by decide) ?_
    refine va_ldcS hx hb hown (hE.2.1 7 _ rfl) dX8_name_73 ?_
    rw [hZ]
    exact W.aret hx hb hr (Or.inl ⟨_, rfl⟩) (Or.inr ⟨_, rfl⟩) (fun t ht hW => ⟨⟨7, _, rfl, G, rfl, by rw [ht]; exact hP, hD⟩, hS.F ht⟩) hS.2.2 dX8_name_75 hlocks
  · have G := G.2.2.2.2.2.2.2.2.1 c_1
    refine lv_tableIn (off := 75) (tgt := 76) hx hb dX8_name_1 (by rw [c_1]; decide) (by rw [c_1]; decide) (by rw [c_1]; rfl) (by decide) ?_
    refine va_ldcS hx hb hown (hE.2.1 8 _ rfl) dX8_name_76 ?_
    rw [hZ]
    exact W.aret hx hb hr (Or.inl ⟨_, rfl⟩) (Or.inr ⟨_, rfl⟩) (fun t ht hW => ⟨⟨8, _, rfl, G, rfl, by rw [ht]; exact hP, hD⟩, hS.F ht⟩) hS.2.2 dX8_name_78 hlocks
  · have G := G.2.2.2.2.2.2.2.2.2 c_1
    refine lv_tableOut (tgt := 79) hx hb dX8_name_1 c_1 (by decide) ?_
    refine lv_aload_n hx hb dX8_name_79 rfl (lv_at hl 0 rfl) ?_
    refine lv_iload_n hx hb dX8_name_80 rfl (lv_at hl 1 rfl) ?_
    refine wcE_Vak (As := [.int x1]) (rest := []) C hE (met_R_faith l D sk sv ad r kb ko kt km ca H.size sizeR madeLocks hasBlocks omened highest atR fromR sortR valueR k_blocks k_guarded k_trains k_omen k_train madeLockA kept locks seenMany bumpMinute bumpBlock bumpTrains waited keptOut used taped fault costSum safeSum allWays torn tape x1 _ G) (cwV 1 hts (lw_V q456 q458 qs9 q76 q459) rfl rfl rfl (by decide +kernel) ⟨Nat.le_of_ble_eq_true rfl, Nat.le_of_ble_eq_true rfl⟩) hP hD hS (List.range _) (wc_self _) (wc_nd _) 0 rfl rfl rfl rfl hl.1 (Nat.le_of_ble_eq_true rfl) dX8_name_81 ⟨Nat.le_of_ble_eq_true rfl, Nat.le_of_ble_eq_true rfl⟩ (fun r_2 H locs G hP hD hS => ?_)
    rw [hZ]
    exact W.aret hx hb hr (Or.inl ⟨_, rfl⟩) (Or.inr ⟨_, rfl⟩) (fun t ht hW => ⟨⟨r_2, _, rfl, G, rfl, by rw [ht]; exact hP, hD⟩, hS.F ht⟩) hS.2.2 dX8_name_84 hlocks
abbrev rm_R_is : Room := { frames := 5, cells := 0, slots := 0, locals := 96 }
set_option maxHeartbeats 4000000 in
theorem w_R_is_L39 {sk sv : Nat → Nat} {p : Program} {l : Launch} {e : Env} {s : State} {m : MethodId} {args : Array Value} {below : List Frame} {meth : Method} {c : Code} {D : va_G} {ad : Nat → Nat} {r : Nat} {kb : Nat} {ko : Nat} {kt : Nat} {km : Nat} {ca : Nat → ClassId} {A : Nat → Prop} {Z : State → Prop} (CE : cx cX8_is 5 (some .boolean) RX8 D vwCl (tyL ca) A p c meth s m args ∧ env sk sv A s s.heap) {sizeR : Int32} {madeLocks : Int32} {hasBlocks : Int32} {omened : Int32} {highest : Int32} {atR : Int32} {fromR : Int32} {sortR : Int32} {valueR : Int32} {k_blocks : Int32} {k_guarded : Int32} {k_trains : Int32} {k_omen : Nat → Int32} {k_train : Nat → Int32} {madeLockA : Nat → Int32} {kept : Int32} {locks : Int32} {seenMany : Int32} {bumpMinute : Int32} {bumpBlock : Int32} {bumpTrains : Int32} {waited : Int32} {keptOut : Int32} {used : Int32} {taped : Int32} {fault : Int32} {costSum : Int64} {safeSum : Int64} {allWays : Int64} {torn : Int32} {tape : Nat → Int32} {x2 : Nat} {k88 : Int32 → Prop} (hk88 : ∀ (x3 : Int32), k88 x3 → ∀ (ls : Array Slot) (H : Heap) (locs : List Loc), lv_has ls 5 [(3, .int x3)] → va_P D vwCl (dW ad r kb ko kt km ca sizeR madeLocks hasBlocks omened highest atR fromR sortR valueR k_blocks k_guarded k_trains k_omen k_train madeLockA kept locks seenMany bumpMinute bumpBlock bumpTrains waited keptOut used taped fault costSum safeSum allWays torn tape) H → va_D A (dW ad r kb ko kt km ca sizeR madeLocks hasBlocks omened highest atR fromR sortR valueR k_blocks k_guarded k_trains k_omen k_train madeLockA kept locks seenMany bumpMinute bumpBlock bumpTrains waited keptOut used taped fault costSum safeSum allWays torn tape) → va_S A s.heap H locs → W p l e rm_R_is s m args below meth c H locs 0 0 Z (F0 m 88 ls [])) : ∀ (n : Nat) (x3 : Int32) (x4 : Int32), R_is_L39 fromR tape x2 k88 n x3 x4 → ∀ (ls : Array Slot) (H : Heap) (locs : List Loc), lv_has ls 5 [(0, .ref r), (2, .ref (sk x2)), (3, .int x3), (4, .int x4)] → va_P D vwCl (dW ad r kb ko kt km ca sizeR madeLocks hasBlocks omened highest atR fromR sortR valueR k_blocks k_guarded k_trains k_omen k_train madeLockA kept locks seenMany bumpMinute bumpBlock bumpTrains waited keptOut used taped fault costSum safeSum allWays torn tape) H → va_D A (dW ad r kb ko kt km ca sizeR madeLocks hasBlocks omened highest atR fromR sortR valueR k_blocks k_guarded k_trains k_omen k_train madeLockA kept locks seenMany bumpMinute bumpBlock bumpTrains waited keptOut used taped fault costSum safeSum allWays torn tape) → va_S A s.heap H locs → W p l e rm_R_is s m args below meth c H locs 0 0 Z (F0 m 39 ls []) := by
  have C := CE.1; have hE := CE.2; have hx := C.1; have hb := C.2.1; have hr := C.2.2.1; have hlocks := C.2.2.2.1; have hml := C.2.2.2.2.1; have hown := C.2.2.2.2.2.1; have hts := C.2.2.2.2.2.2.1; have hn := C.2.2.2.2.2.2.2.1; have hK := C.2.2.2.2.2.2.2.2.1; have hA := C.2.2.2.2.2.2.2.2.2
  intro n
  induction n with
  | zero =>
    intro x3 x4 G
    exact False.elim G
  | succ n ih =>
    intro x3 x4 G ls H locs hl hP hD hS
    unfold R_is_L39 at G
    have hk39 := ih
    refine lv_iload_n hx hb dX8_is_39 rfl (lv_at hl 2 rfl) ?_
    refine lv_if_eq (tgt := 88) hx hb dX8_is_40 (by decide) (fun c_5 => ?_) (fun c_5 => ?_)
    · have G := G.1 c_5
      exact hk88 _ G _ _ _ (lv_sub hl [2] rfl) hP hD hS
    · have G := G.2 c_5
      refine lv_iload hx hb dX8_is_43 (lv_at hl 3 rfl) ?_
      refine lv_aload_n hx hb dX8_is_45 rfl (lv_at hl 1 rfl) ?_
      obtain ⟨h_6, G⟩ := G
      refine wcE_Kik (As := []) (rest := [.int x4]) C hE (met_S_length l D ca sk sv H.size x2 h_6) (cwV 0 hts (lw_V q464 q465 q466 q80 q467) rfl rfl rfl (by decide +kernel) ⟨Nat.le_of_ble_eq_true rfl, Nat.le_of_ble_eq_true rfl⟩) hP hD hS [] rfl rfl x2 h_6 rfl rfl rfl hl.1 (Nat.le_of_ble_eq_true rfl) dX8_is_46 ⟨Nat.le_of_ble_eq_true rfl, Nat.le_of_ble_eq_true rfl⟩ (fun r u H locs hr2 hP hD hS => ?_)
      subst hr2
      refine lv_icmp_ge (tgt := 88) hx hb dX8_is_49 (by decide) (fun c_7 => ?_) (fun c_7 => ?_)
      · have G := G.1 c_7
        exact hk88 _ G _ _ _ (lv_sub hl [2] rfl) hP hD hS
      · have G := G.2 c_7
        refine lv_aload_n hx hb dX8_is_52 rfl (lv_at hl 0 rfl) ?_
        refine va_get hx hb hts in_X8 hown hK hP 0 rfl rfl 11 (by decide) (hts _ q401) (fun _ h => h) rfl dX8_is_53 ?_
        refine va_getN hx hb hts in_X0 hown hK hP 5 rfl rfl 20 (by decide) (va_Nw.use rfl (hn _ q197 rfl)) (fun _ h => h) rfl dX8_is_56 ?_
        refine lv_aload_n hx hb dX8_is_59 rfl (lv_at hl 0 rfl) ?_
        refine va_get hx hb hts in_X8 hown hK hP 0 rfl rfl 8 (by decide) (hts _ q398) (fun _ h => h) rfl dX8_is_60 ?_
        refine lv_iload hx hb dX8_is_63 (lv_at hl 3 rfl) ?_
        refine lv_iadd hx hb dX8_is_65 ?_
        obtain ⟨h_8, G⟩ := G
        refine va_bald hx hb hK hP 6 2 rfl rfl h_8 dX8_is_66 ?_
        refine lv_aload_n hx hb dX8_is_67 rfl (lv_at hl 1 rfl) ?_
        refine lv_iload hx hb dX8_is_68 (lv_at hl 3 rfl) ?_
        obtain ⟨h_9, G⟩ := G
        obtain ⟨h_10, G⟩ := G
        refine wcE_Kik (As := [.int x4]) (rest := [.int (tape (fromR + x4).toNatClampNeg)]) C hE (met_S_charAt l D ca sk sv H.size x2 x4 h_9 h_10) (cwV 1 hts (lw_V q474 q475 q476 q80 q477) rfl rfl rfl (by decide +kernel) ⟨Nat.le_of_ble_eq_true rfl, Nat.le_of_ble_eq_true rfl⟩) hP hD hS [] rfl rfl x2 h_9 rfl rfl rfl hl.1 (Nat.le_of_ble_eq_true rfl) dX8_is_70 ⟨Nat.le_of_ble_eq_true rfl, Nat.le_of_ble_eq_true rfl⟩ (fun r u H locs hr2 hP hD hS => ?_)
        subst hr2
        have hJ : ∀ (H : Heap) (locs : List Loc), va_P D vwCl (dW ad r kb ko kt km ca sizeR madeLocks hasBlocks omened highest atR fromR sortR valueR k_blocks k_guarded k_trains k_omen k_train madeLockA kept locks seenMany bumpMinute bumpBlock bumpTrains waited keptOut used taped fault costSum safeSum allWays torn tape) H → va_D A (dW ad r kb ko kt km ca sizeR madeLocks hasBlocks omened highest atR fromR sortR valueR k_blocks k_guarded k_trains k_omen k_train madeLockA kept locks seenMany bumpMinute bumpBlock bumpTrains waited keptOut used taped fault costSum safeSum allWays torn tape) → va_S A s.heap H locs → ∀ v_12 : Int32, v_12 = (if (tape (fromR + x4).toNatClampNeg) = (chJ x2 x4) then (1 : Int32) else (0 : Int32)) → W p l e rm_R_is s m args below meth c H locs 0 0 Z (F0 m 81 ls (.int v_12 :: [])) := by
          intro H locs hP hD hS v_12 hv
          subst hv
          refine lv_istore_n (lv' := [(3, .int (if (tape (fromR + x4).toNatClampNeg) = (chJ x2 x4) then (1 : Int32) else (0 : Int32))), (0, .ref r), (2, .ref (sk x2)), (4, .int x4)]) hx hb dX8_is_81 rfl hl (by decide) rfl (fun ls hl => ?_)
          refine lv_iinc (v := (x4 + (1 : Int32))) (lv' := [(4, .int (x4 + (1 : Int32))), (3, .int (if (tape (fromR + x4).toNatClampNeg) = (chJ x2 x4) then (1 : Int32) else (0 : Int32))), (0, .ref r), (2, .ref (sk x2))]) hx hb dX8_is_82 hl (k := 3) rfl rfl (by decide) rfl (fun ls hl => ?_)
          refine lv_goto (tgt := 39) hx hb dX8_is_85 (by decide) ?_
          exact hk39 _ _ G _ _ _ (lv_sub hl [2, 3, 1, 0] rfl) hP hD hS
        refine lv_icmp_ne (tgt := 80) hx hb dX8_is_73 (by decide) (fun c_11 => ?_) (fun c_11 => ?_)
        · refine lv_iconst (v := 0) hx hb dX8_is_80 (by decide) ?_
          exact hJ _ _ hP hD hS _ (eF c_11 rfl)
        · refine lv_iconst (v := 1) hx hb dX8_is_76 (by decide) ?_
          refine lv_goto (tgt := 81) hx hb dX8_is_77 (by decide) ?_
          exact hJ _ _ hP hD hS _ (eT c_11 rfl)
set_option maxHeartbeats 4000000 in
theorem met_R_is (l : Launch) (D : va_G) (sk sv : Nat → Nat) (ad : Nat → Nat) (r : Nat) (kb : Nat) (ko : Nat) (kt : Nat) (km : Nat) (ca : Nat → ClassId) (sz : Nat) (sizeR : Int32) (madeLocks : Int32) (hasBlocks : Int32) (omened : Int32) (highest : Int32) (atR : Int32) (fromR : Int32) (sortR : Int32) (valueR : Int32) (k_blocks : Int32) (k_guarded : Int32) (k_trains : Int32) (k_omen : Nat → Int32) (k_train : Nat → Int32) (madeLockA : Nat → Int32) (kept : Int32) (locks : Int32) (seenMany : Int32) (bumpMinute : Int32) (bumpBlock : Int32) (bumpTrains : Int32) (waited : Int32) (keptOut : Int32) (used : Int32) (taped : Int32) (fault : Int32) (costSum : Int64) (safeSum : Int64) (allWays : Int64) (torn : Int32) (tape : Nat → Int32) (x1 : Int32) (Q : Int32 → Prop) (G : R_is atR fromR sortR tape x1 Q) : Met l yX8_is (ws_ yX8_is cX8_is 5 (some .boolean)) rm_R_is (va_Pc [.ref r, .int x1] (wpreE D vwCl (tyL ca) sk sv (dW ad r kb ko kt km ca sizeR madeLocks hasBlocks omened highest atR fromR sortR valueR k_blocks k_guarded k_trains k_omen k_train madeLockA kept locks seenMany bumpMinute bumpBlock bumpTrains waited keptOut used taped fault costSum safeSum allWays torn tape) sz)) (va_Qi (fun (r : Int32) (u : Unit) => Q r) (wpost D vwCl (va_A (dW ad r kb ko kt km ca sizeR madeLocks hasBlocks omened highest atR fromR sortR valueR k_blocks k_guarded k_trains k_omen k_train madeLockA kept locks seenMany bumpMinute bumpBlock bumpTrains waited keptOut used taped fault costSum safeSum allWays torn tape) sz) (fun (u : Unit) => (dW ad r kb ko kt km ca sizeR madeLocks hasBlocks omened highest atR fromR sortR valueR k_blocks k_guarded k_trains k_omen k_train madeLockA kept locks seenMany bumpMinute bumpBlock bumpTrains waited keptOut used taped fault costSum safeSum allWays torn tape))) (va_A (dW ad r kb ko kt km ca sizeR madeLocks hasBlocks omened highest atR fromR sortR valueR k_blocks k_guarded k_trains k_omen k_train madeLockA kept locks seenMany bumpMinute bumpBlock bumpTrains waited keptOut used taped fault costSum safeSum allWays torn tape) sz)) 0 0 (va_A (dW ad r kb ko kt km ca sizeR madeLocks hasBlocks omened highest atR fromR sortR valueR k_blocks k_guarded k_trains k_omen k_train madeLockA kept locks seenMany bumpMinute bumpBlock bumpTrains waited keptOut used taped fault costSum safeSum allWays torn tape) sz) := by
  refine met_ofE (fun A => (va_Qi (fun (r : Int32) (u : Unit) => Q r) (wpost D vwCl A (fun (u : Unit) => (dW ad r kb ko kt km ca sizeR madeLocks hasBlocks omened highest atR fromR sortR valueR k_blocks k_guarded k_trains k_omen k_train madeLockA kept locks seenMany bumpMinute bumpBlock bumpTrains waited keptOut used taped fault costSum safeSum allWays torn tape))) A)) (by decide) (Nat.le_of_ble_eq_true rfl) ?_
  intro p e s m args below meth c Z A hZ C hE hmn H locs hP hD hS ls hl
  have CE := And.intro C hE
  have C := CE.1; have hE := CE.2; have hx := C.1; have hb := C.2.1; have hr := C.2.2.1; have hlocks := C.2.2.2.1; have hml := C.2.2.2.2.1; have hown := C.2.2.2.2.2.1; have hts := C.2.2.2.2.2.2.1; have hn := C.2.2.2.2.2.2.2.1; have hK := C.2.2.2.2.2.2.2.2.1; have hA := C.2.2.2.2.2.2.2.2.2
  have hl : lv_has ls 5 [(0, .ref r), (1, .int x1)] := hl
  unfold R_is at G
  refine lv_aload_n hx hb dX8_is_0 rfl (lv_at hl 0 rfl) ?_
  refine lv_iload_n hx hb dX8_is_1 rfl (lv_at hl 1 rfl) ?_
  refine wcE_Vak (As := [.int x1]) (rest := []) C hE (met_R_name l D sk sv ad r kb ko kt km ca H.size sizeR madeLocks hasBlocks omened highest atR fromR sortR valueR k_blocks k_guarded k_trains k_omen k_train madeLockA kept locks seenMany bumpMinute bumpBlock bumpTrains waited keptOut used taped fault costSum safeSum allWays torn tape x1 _ G) (cwV 1 hts (lw_V q443 q445 qs8 q76 q446) rfl rfl rfl (by decide +kernel) ⟨Nat.le_of_ble_eq_true rfl, Nat.le_of_ble_eq_true rfl⟩) hP hD hS (List.range _) (wc_self _) (wc_nd _) 0 rfl rfl rfl rfl hl.1 (Nat.le_of_ble_eq_true rfl) dX8_is_2 ⟨Nat.le_of_ble_eq_true rfl, Nat.le_of_ble_eq_true rfl⟩ (fun r_1 H locs G hP hD hS => ?_)
  refine lv_astore_n (lv' := [(2, .ref (sk r_1)), (0, .ref r), (1, .int x1)]) hx hb dX8_is_5 rfl hl (by decide) rfl (fun ls hl => ?_)
  refine lv_aload_n hx hb dX8_is_6 rfl (lv_at hl 1 rfl) ?_
  refine va_get hx hb hts in_X8 hown hK hP 0 rfl rfl 9 (by decide) (hts _ q399) (fun _ h => h) rfl dX8_is_7 ?_
  refine lv_iconst (v := 1) hx hb dX8_is_10 (by decide) ?_
  obtain ⟨h_3, G⟩ := G
  have hJ : ∀ (H : Heap) (locs : List Loc), va_P D vwCl (dW ad r kb ko kt km ca sizeR madeLocks hasBlocks omened highest atR fromR sortR valueR k_blocks k_guarded k_trains k_omen k_train madeLockA kept locks seenMany bumpMinute bumpBlock bumpTrains waited keptOut used taped fault costSum safeSum allWays torn tape) H → va_D A (dW ad r kb ko kt km ca sizeR madeLocks hasBlocks omened highest atR fromR sortR valueR k_blocks k_guarded k_trains k_omen k_train madeLockA kept locks seenMany bumpMinute bumpBlock bumpTrains waited keptOut used taped fault costSum safeSum allWays torn tape) → va_S A s.heap H locs → ∀ v_16 : Int32, v_16 = (if sortR = (1 : Int32) then (if (atR - fromR) = (nI (lenJ.getD r_1 0)) then (1 : Int32) else (0 : Int32)) else (0 : Int32)) → W p l e rm_R_is s m args below meth c H locs 0 0 Z (F0 m 35 ls (.int v_16 :: [])) := by
    intro H locs hP hD hS v_16 hv
    subst hv
    refine lv_istore_n (lv' := [(3, .int (if sortR = (1 : Int32) then (if (atR - fromR) = (nI (lenJ.getD r_1 0)) then (1 : Int32) else (0 : Int32)) else (0 : Int32))), (2, .ref (sk r_1)), (0, .ref r), (1, .int x1)]) hx hb dX8_is_35 rfl hl (by decide) rfl (fun ls hl => ?_)
    refine lv_iconst (v := 0) hx hb dX8_is_36 (by decide) ?_
    refine lv_istore (lv' := [(4, .int (0 : Int32)), (3, .int (if sortR = (1 : Int32) then (if (atR - fromR) = (nI (lenJ.getD r_1 0)) then (1 : Int32) else (0 : Int32)) else (0 : Int32))), (2, .ref (sk r_1)), (0, .ref r), (1, .int x1)]) hx hb dX8_is_37 hl (by decide) rfl (fun ls hl => ?_)
    obtain ⟨n_13, G⟩ := G
    refine w_R_is_L39 CE (fun x3_14 G ls H locs hl hP hD hS => ?_) n_13 _ _ G _ _ _ (lv_sub hl [3, 2, 1, 0] rfl) hP hD hS
    refine lv_iload_n hx hb dX8_is_88 rfl (lv_at hl 0 rfl) ?_
    obtain ⟨h_15, G⟩ := G
    rw [hZ]
    exact W.zret hx hb hr (zb_n h_15) (fun t ht hW => ⟨⟨x3_14, (), rfl, G, by rw [ht]; exact hP, hD⟩, hS.F ht⟩) hS.2.2 dX8_is_89 hlocks
  refine lv_icmp_ne (tgt := 34) hx hb dX8_is_11 (by decide) (fun c_2 => ?_) (fun c_2 => ?_)
  · refine lv_iconst (v := 0) hx hb dX8_is_34 (by decide) ?_
    exact hJ _ _ hP hD hS _ (eF c_2 rfl)
  · refine lv_aload_n hx hb dX8_is_14 rfl (lv_at hl 1 rfl) ?_
    refine va_get hx hb hts in_X8 hown hK hP 0 rfl rfl 7 (by decide) (hts _ q397) (fun _ h => h) rfl dX8_is_15 ?_
    refine lv_aload_n hx hb dX8_is_18 rfl (lv_at hl 1 rfl) ?_
    refine va_get hx hb hts in_X8 hown hK hP 0 rfl rfl 8 (by decide) (hts _ q398) (fun _ h => h) rfl dX8_is_19 ?_
    refine lv_isub hx hb dX8_is_22 ?_
    refine lv_aload_n hx hb dX8_is_23 rfl (lv_at hl 0 rfl) ?_
    refine wcE_Kik (As := []) (rest := [.int (atR - fromR)]) C hE (met_S_length l D ca sk sv H.size r_1 (h_3 c_2)) (cwV 0 hts (lw_V q464 q465 q466 q80 q467) rfl rfl rfl (by decide +kernel) ⟨Nat.le_of_ble_eq_true rfl, Nat.le_of_ble_eq_true rfl⟩) hP hD hS [] rfl rfl r_1 (h_3 c_2) rfl rfl rfl hl.1 (Nat.le_of_ble_eq_true rfl) dX8_is_24 ⟨Nat.le_of_ble_eq_true rfl, Nat.le_of_ble_eq_true rfl⟩ (fun r u H locs hr2 hP hD hS => ?_)
    subst hr2
    refine lv_icmp_ne (tgt := 34) hx hb dX8_is_27 (by decide) (fun c_4 => ?_) (fun c_4 => ?_)
    · refine lv_iconst (v := 0) hx hb dX8_is_34 (by decide) ?_
      exact hJ _ _ hP hD hS _ (eT c_2 (eF c_4 rfl))
    · refine lv_iconst (v := 1) hx hb dX8_is_30 (by decide) ?_
      refine lv_goto (tgt := 35) hx hb dX8_is_31 (by decide) ?_
      exact hJ _ _ hP hD hS _ (eT c_2 (eT c_4 rfl))
abbrev rm_R_need : Room := { frames := 5, cells := 1, slots := 8, locals := 150 }
set_option maxHeartbeats 4000000 in
theorem met_R_need (l : Launch) (D : va_G) (sk sv : Nat → Nat) (ad : Nat → Nat) (r : Nat) (kb : Nat) (ko : Nat) (kt : Nat) (km : Nat) (ca : Nat → ClassId) (sz : Nat) (sizeR : Int32) (madeLocks : Int32) (hasBlocks : Int32) (omened : Int32) (highest : Int32) (atR : Int32) (fromR : Int32) (sortR : Int32) (valueR : Int32) (k_blocks : Int32) (k_guarded : Int32) (k_trains : Int32) (k_omen : Nat → Int32) (k_train : Nat → Int32) (madeLockA : Nat → Int32) (kept : Int32) (locks : Int32) (seenMany : Int32) (bumpMinute : Int32) (bumpBlock : Int32) (bumpTrains : Int32) (waited : Int32) (keptOut : Int32) (used : Int32) (taped : Int32) (fault : Int32) (costSum : Int64) (safeSum : Int64) (allWays : Int64) (torn : Int32) (tape : Nat → Int32) (x1 : Int32) (x2 : Int32) (Q : Prop) (X : Int32 → Int32 → Prop) (G : R_need fromR x1 x2 Q X) : vy_Met l yX8_need (ws_ yX8_need cX8_need 3 none) rm_R_need (va_Pc [.ref r, .int x1, .int x2] (wpreE D vwCl (tyL ca) sk sv (dW ad r kb ko kt km ca sizeR madeLocks hasBlocks omened highest atR fromR sortR valueR k_blocks k_guarded k_trains k_omen k_train madeLockA kept locks seenMany bumpMinute bumpBlock bumpTrains waited keptOut used taped fault costSum safeSum allWays torn tape) sz)) (va_Qv (fun (u : Unit) => Q) (wpost D vwCl (va_A (dW ad r kb ko kt km ca sizeR madeLocks hasBlocks omened highest atR fromR sortR valueR k_blocks k_guarded k_trains k_omen k_train madeLockA kept locks seenMany bumpMinute bumpBlock bumpTrains waited keptOut used taped fault costSum safeSum allWays torn tape) sz) (fun (u : Unit) => (dW ad r kb ko kt km ca sizeR madeLocks hasBlocks omened highest atR fromR sortR valueR k_blocks k_guarded k_trains k_omen k_train madeLockA kept locks seenMany bumpMinute bumpBlock bumpTrains waited keptOut used taped fault costSum safeSum allWays torn tape))) (va_A (dW ad r kb ko kt km ca sizeR madeLocks hasBlocks omened highest atR fromR sortR valueR k_blocks k_guarded k_trains k_omen k_train madeLockA kept locks seenMany bumpMinute bumpBlock bumpTrains waited keptOut used taped fault costSum safeSum allWays torn tape) sz)) (vx_X (fun (u : Int32 × Int32) => X u.1 u.2) (fltB D vwCl (dK ad ca kept locks seenMany bumpMinute bumpBlock bumpTrains waited keptOut used taped fault costSum safeSum allWays torn tape) (va_A (dW ad r kb ko kt km ca sizeR madeLocks hasBlocks omened highest atR fromR sortR valueR k_blocks k_guarded k_trains k_omen k_train madeLockA kept locks seenMany bumpMinute bumpBlock bumpTrains waited keptOut used taped fault costSum safeSum allWays torn tape) sz)) (va_A (dW ad r kb ko kt km ca sizeR madeLocks hasBlocks omened highest atR fromR sortR valueR k_blocks k_guarded k_trains k_omen k_train madeLockA kept locks seenMany bumpMinute bumpBlock bumpTrains waited keptOut used taped fault costSum safeSum allWays torn tape) sz)) 0 0 1 8 (va_A (dW ad r kb ko kt km ca sizeR madeLocks hasBlocks omened highest atR fromR sortR valueR k_blocks k_guarded k_trains k_omen k_train madeLockA kept locks seenMany bumpMinute bumpBlock bumpTrains waited keptOut used taped fault costSum safeSum allWays torn tape) sz) := by
  refine met_ofX (fun A => (va_Qv (fun (u : Unit) => Q) (wpost D vwCl A (fun (u : Unit) => (dW ad r kb ko kt km ca sizeR madeLocks hasBlocks omened highest atR fromR sortR valueR k_blocks k_guarded k_trains k_omen k_train madeLockA kept locks seenMany bumpMinute bumpBlock bumpTrains waited keptOut used taped fault costSum safeSum allWays torn tape))) A)) (fun A => (vx_X (fun (u : Int32 × Int32) => X u.1 u.2) (fltB D vwCl (dK ad ca kept locks seenMany bumpMinute bumpBlock bumpTrains waited keptOut used taped fault costSum safeSum allWays torn tape) A) A)) (by decide) (Nat.le_of_ble_eq_true rfl) ?_
  intro p e s m args below meth c Z A hZ C hE hnh hmn H locs hP hD hS ls hl
  have hx := C.1; have hb := C.2.1; have hr := C.2.2.1; have hlocks := C.2.2.2.1; have hml := C.2.2.2.2.1; have hown := C.2.2.2.2.2.1; have hts := C.2.2.2.2.2.2.1; have hn := C.2.2.2.2.2.2.2.1; have hK := C.2.2.2.2.2.2.2.2.1; have hA := C.2.2.2.2.2.2.2.2.2
  have hl : lv_has ls 3 [(0, .ref r), (1, .int x1), (2, .int x2)] := hl
  refine lv_iload_n hx hb dX8_need_0 rfl (lv_at hl 1 rfl) ?_
  refine lv_if_ne (tgt := 17) hx hb dX8_need_1 (by decide) (fun c1 => ?_) (fun c1 => ?_)
  · have G := G.2 c1
    rw [hZ]
    refine vy_ret ?_
    exact W.vret hx hb hr (fun t ht hW => ⟨⟨(), rfl, G, by rw [ht]; exact hP, hD⟩, hS.F ht⟩) hS.2.2 dX8_need_17 hlocks
  · have G := G.1 c1
    refine va_new (ci := 9) (fs := [.null, .null, .null, .null, .null, .int 0, .int 0, .int 0]) (C := RX9) (T := TX9) (N := 8) hx hb hts in_X9 tyX9 tyX9_ok hown (hts _ q303) (hts _ q304) (hts _ q79) hK hP hD hS hA rfl (fun j hj => by rcases (show j = 0 ∨ j = 1 ∨ j = 2 ∨ j = 3 ∨ j = 4 ∨ j = 5 ∨ j = 6 ∨ j = 7 by omega) with rfl | rfl | rfl | rfl | rfl | rfl | rfl | rfl <;> rfl) (Nat.le_of_ble_eq_true rfl) (Nat.le_of_ble_eq_true rfl) dX8_need_4 (fun qn H hP hD hS => ?_)
    refine lv_dup hx hb dX8_need_7 rfl ?_
    refine lv_iload_n hx hb dX8_need_8 rfl (lv_at hl 2 rfl) ?_
    refine lv_aload_n hx hb dX8_need_9 rfl (lv_at hl 0 rfl) ?_
    refine va_get hx hb hts in_X8 hown hK hP 0 rfl rfl 8 (by decide) (hts _ q398) (fun _ h => h) rfl dX8_need_10 ?_
    refine wcE_Ivs (w1 := fun (_ : Unit) => [(qn, flt x2 fromR)]) (As := [.int x2, .int fromR]) (rest := [.ref qn]) C hE (met_X_init l D ca sk sv H.size qn x2 fromR) (cwI 2 hts (lw_meth q359) rfl rfl rfl (hts _ q79) (hts _ q357) (hts _ q358) rfl (by decide +kernel) ⟨Nat.le_of_ble_eq_true rfl, Nat.le_of_ble_eq_true rfl⟩) hP hD hS [7] [0, 1, 2, 3, 4, 5, 6] rfl rfl (by decide) (by decide) (by decide) rfl rfl hl.1 (Nat.le_of_ble_eq_true rfl) dX8_need_13 ⟨Nat.le_of_ble_eq_true rfl, Nat.le_of_ble_eq_true rfl⟩ (fun u H locs hr2 hP hD hS => ?_)
    have hPk : va_P D vwCl ((qn, flt x2 fromR) :: (dK ad ca kept locks seenMany bumpMinute bumpBlock bumpTrains waited keptOut used taped fault costSum safeSum allWays torn tape)) H := hP.sub [7, 5, 6] rfl
    have hDk : va_D A ((qn, flt x2 fromR) :: (dK ad ca kept locks seenMany bumpMinute bumpBlock bumpTrains waited keptOut used taped fault costSum safeSum allWays torn tape)) := hD.sub [7, 5, 6] (by decide) rfl
    refine vx_athrow hx hb dX8_need_16 ?_
    rw [hZ]
    obtain ⟨ce, g1, g2, g3⟩ := flt_cell hK hPk
    exact vy_out (fun x hx => (hnh x hx).elim) hlocks g1 g2 g3 (fun t ht hvm => ⟨(x2, fromR), G, ⟨rfl, by rw [ht]; exact hPk, hDk⟩, hS.F ht⟩) hS.2.2 (Nat.le_of_ble_eq_true rfl) (Nat.le_of_ble_eq_true rfl)
abbrev rm_R_which : Room := { frames := 6, cells := 1, slots := 8, locals := 172 }
set_option maxHeartbeats 4000000 in
theorem w_R_which_L2 {sk sv : Nat → Nat} {p : Program} {l : Launch} {e : Env} {s : State} {m : MethodId} {args : Array Value} {below : List Frame} {meth : Method} {c : Code} {D : va_G} {ad : Nat → Nat} {r : Nat} {kb : Nat} {ko : Nat} {kt : Nat} {km : Nat} {ca : Nat → ClassId} {A : Nat → Prop} {Z : State → Prop} (CE : cx cX8_which 4 (some .int) RX8 D vwCl (tyL ca) A p c meth s m args ∧ env sk sv A s s.heap ∧ ∀ x ∈ c.exceptionTable.toList, False) {sizeR : Int32} {madeLocks : Int32} {hasBlocks : Int32} {omened : Int32} {highest : Int32} {atR : Int32} {fromR : Int32} {sortR : Int32} {valueR : Int32} {k_blocks : Int32} {k_guarded : Int32} {k_trains : Int32} {k_omen : Nat → Int32} {k_train : Nat → Int32} {madeLockA : Nat → Int32} {kept : Int32} {locks : Int32} {seenMany : Int32} {bumpMinute : Int32} {bumpBlock : Int32} {bumpTrains : Int32} {waited : Int32} {keptOut : Int32} {used : Int32} {taped : Int32} {fault : Int32} {costSum : Int64} {safeSum : Int64} {allWays : Int64} {torn : Int32} {tape : Nat → Int32} {x2 : Int32} {k21 : Int32 → Prop} {X : Int32 → Int32 → Prop} (hk21 : ∀ (x3 : Int32), k21 x3 → ∀ (ls : Array Slot) (H : Heap) (locs : List Loc), lv_has ls 4 [(0, .ref r), (2, .int x2), (3, .int x3)] → va_P D vwCl (dW ad r kb ko kt km ca sizeR madeLocks hasBlocks omened highest atR fromR sortR valueR k_blocks k_guarded k_trains k_omen k_train madeLockA kept locks seenMany bumpMinute bumpBlock bumpTrains waited keptOut used taped fault costSum safeSum allWays torn tape) H → va_D A (dW ad r kb ko kt km ca sizeR madeLocks hasBlocks omened highest atR fromR sortR valueR k_blocks k_guarded k_trains k_omen k_train madeLockA kept locks seenMany bumpMinute bumpBlock bumpTrains waited keptOut used taped fault costSum safeSum allWays torn tape) → va_S A s.heap H locs → W p l e rm_R_which s m args below meth c H locs 0 0 Z (F0 m 21 ls [])) (hX : ∃ Qc : Array Value → State → Outcome → State → Prop, Z = vy_MQ below Qc (vx_X (fun (u : Int32 × Int32) => X u.1 u.2) (fltB D vwCl (dK ad ca kept locks seenMany bumpMinute bumpBlock bumpTrains waited keptOut used taped fault costSum safeSum allWays torn tape) A) A) args s 0 0 1 8 A) : ∀ (n : Nat) (x3 : Int32), R_which_L2 atR fromR sortR tape x2 k21 X n x3 → ∀ (ls : Array Slot) (H : Heap) (locs : List Loc), lv_has ls 4 [(0, .ref r), (2, .int x2), (3, .int x3)] → va_P D vwCl (dW ad r kb ko kt km ca sizeR madeLocks hasBlocks omened highest atR fromR sortR valueR k_blocks k_guarded k_trains k_omen k_train madeLockA kept locks seenMany bumpMinute bumpBlock bumpTrains waited keptOut used taped fault costSum safeSum allWays torn tape) H → va_D A (dW ad r kb ko kt km ca sizeR madeLocks hasBlocks omened highest atR fromR sortR valueR k_blocks k_guarded k_trains k_omen k_train madeLockA kept locks seenMany bumpMinute bumpBlock bumpTrains waited keptOut used taped fault costSum safeSum allWays torn tape) → va_S A s.heap H locs → W p l e rm_R_which s m args below meth c H locs 0 0 Z (F0 m 2 ls []) := by
  have C := CE.1; have hE := CE.2.1; have hnh := CE.2.2; have hx := C.1; have hb := C.2.1; have hr := C.2.2.1; have hlocks := C.2.2.2.1; have hml := C.2.2.2.2.1; have hown := C.2.2.2.2.2.1; have hts := C.2.2.2.2.2.2.1; have hn := C.2.2.2.2.2.2.2.1; have hK := C.2.2.2.2.2.2.2.2.1; have hA := C.2.2.2.2.2.2.2.2.2
  intro n
  induction n with
  | zero =>
    intro x3 G
    exact False.elim G
  | succ n ih =>
    intro x3 G ls H locs hl hP hD hS
    unfold R_which_L2 at G
    have hk2 := ih
    refine lv_iload_n hx hb dX8_which_2 rfl (lv_at hl 2 rfl) ?_
    refine lv_iload_n hx hb dX8_which_3 rfl (lv_at hl 1 rfl) ?_
    refine lv_icmp_gt (tgt := 21) hx hb dX8_which_4 (by decide) (fun c_1 => ?_) (fun c_1 => ?_)
    · have G := G.1 c_1
      exact hk21 _ G _ _ _ (lv_sub hl [0, 1, 2] rfl) hP hD hS
    · have G := G.2 c_1
      refine lv_aload_n hx hb dX8_which_7 rfl (lv_at hl 0 rfl) ?_
      refine lv_iload_n hx hb dX8_which_8 rfl (lv_at hl 2 rfl) ?_
      refine wcE_Vik (As := [.int x3]) (rest := []) C hE (met_R_is l D sk sv ad r kb ko kt km ca H.size sizeR madeLocks hasBlocks omened highest atR fromR sortR valueR k_blocks k_guarded k_trains k_omen k_train madeLockA kept locks seenMany bumpMinute bumpBlock bumpTrains waited keptOut used taped fault costSum safeSum allWays torn tape x3 _ G) (cwV 1 hts (lw_V q439 q441 qs7 q76 q442) rfl rfl rfl (by decide +kernel) ⟨Nat.le_of_ble_eq_true rfl, Nat.le_of_ble_eq_true rfl⟩) hP hD hS (List.range _) (wc_self _) (wc_nd _) 0 rfl rfl rfl rfl hl.1 (Nat.le_of_ble_eq_true rfl) dX8_which_9 ⟨Nat.le_of_ble_eq_true rfl, Nat.le_of_ble_eq_true rfl⟩ (fun r_2 u H locs G hP hD hS => ?_)
      refine lv_if_ne (tgt := 21) hx hb dX8_which_12 (by decide) (fun c_3 => ?_) (fun c_3 => ?_)
      · have G := G.2 c_3
        exact hk21 _ G _ _ _ (lv_sub hl [0, 1, 2] rfl) hP hD hS
      · have G := G.1 c_3
        refine lv_iinc (v := (x3 + (1 : Int32))) (lv' := [(3, .int (x3 + (1 : Int32))), (0, .ref r), (2, .int x2)]) hx hb dX8_which_15 hl (k := 2) rfl rfl (by decide) rfl (fun ls hl => ?_)
        refine lv_goto (tgt := 2) hx hb dX8_which_18 (by decide) ?_
        exact hk2 _ G _ _ _ (lv_sub hl [1, 2, 0] rfl) hP hD hS
set_option maxHeartbeats 4000000 in
theorem w_R_which_J21 {sk sv : Nat → Nat} {p : Program} {l : Launch} {e : Env} {s : State} {m : MethodId} {args : Array Value} {below : List Frame} {meth : Method} {c : Code} {D : va_G} {ad : Nat → Nat} {r : Nat} {kb : Nat} {ko : Nat} {kt : Nat} {km : Nat} {ca : Nat → ClassId} {A : Nat → Prop} {Z : State → Prop} (CE : cx cX8_which 4 (some .int) RX8 D vwCl (tyL ca) A p c meth s m args ∧ env sk sv A s s.heap ∧ ∀ x ∈ c.exceptionTable.toList, False) {sizeR : Int32} {madeLocks : Int32} {hasBlocks : Int32} {omened : Int32} {highest : Int32} {atR : Int32} {fromR : Int32} {sortR : Int32} {valueR : Int32} {k_blocks : Int32} {k_guarded : Int32} {k_trains : Int32} {k_omen : Nat → Int32} {k_train : Nat → Int32} {madeLockA : Nat → Int32} {kept : Int32} {locks : Int32} {seenMany : Int32} {bumpMinute : Int32} {bumpBlock : Int32} {bumpTrains : Int32} {waited : Int32} {keptOut : Int32} {used : Int32} {taped : Int32} {fault : Int32} {costSum : Int64} {safeSum : Int64} {allWays : Int64} {torn : Int32} {tape : Nat → Int32} {x2 : Int32} {x3 : Int32}  {Q : Int32 → Prop} {X : Int32 → Int32 → Prop} (hZ : Z = vy_MQ below (va_Qi (fun (r : Int32) (u : Unit) => Q r) (wpost D vwCl A (fun (u : Unit) => (dW ad r kb ko kt km ca sizeR madeLocks hasBlocks omened highest atR fromR sortR valueR k_blocks k_guarded k_trains k_omen k_train madeLockA kept locks seenMany bumpMinute bumpBlock bumpTrains waited keptOut used taped fault costSum safeSum allWays torn tape))) A) (vx_X (fun (u : Int32 × Int32) => X u.1 u.2) (fltB D vwCl (dK ad ca kept locks seenMany bumpMinute bumpBlock bumpTrains waited keptOut used taped fault costSum safeSum allWays torn tape) A) A) args s 0 0 1 8 A) (hX : ∃ Qc : Array Value → State → Outcome → State → Prop, Z = vy_MQ below Qc (vx_X (fun (u : Int32 × Int32) => X u.1 u.2) (fltB D vwCl (dK ad ca kept locks seenMany bumpMinute bumpBlock bumpTrains waited keptOut used taped fault costSum safeSum allWays torn tape) A) A) args s 0 0 1 8 A) (G : R_which_J21 fromR x2 x3 Q X) {ls : Array Slot} {H : Heap} {locs : List Loc} (hl : lv_has ls 4 [(0, .ref r), (2, .int x2), (3, .int x3)]) (hP : va_P D vwCl (dW ad r kb ko kt km ca sizeR madeLocks hasBlocks omened highest atR fromR sortR valueR k_blocks k_guarded k_trains k_omen k_train madeLockA kept locks seenMany bumpMinute bumpBlock bumpTrains waited keptOut used taped fault costSum safeSum allWays torn tape) H) (hD : va_D A (dW ad r kb ko kt km ca sizeR madeLocks hasBlocks omened highest atR fromR sortR valueR k_blocks k_guarded k_trains k_omen k_train madeLockA kept locks seenMany bumpMinute bumpBlock bumpTrains waited keptOut used taped fault costSum safeSum allWays torn tape)) (hS : va_S A s.heap H locs) : W p l e rm_R_which s m args below meth c H locs 0 0 Z (F0 m 21 ls []) := by
  have C := CE.1; have hE := CE.2.1; have hnh := CE.2.2; have hx := C.1; have hb := C.2.1; have hr := C.2.2.1; have hlocks := C.2.2.2.1; have hml := C.2.2.2.2.1; have hown := C.2.2.2.2.2.1; have hts := C.2.2.2.2.2.2.1; have hn := C.2.2.2.2.2.2.2.1; have hK := C.2.2.2.2.2.2.2.2.1; have hA := C.2.2.2.2.2.2.2.2.2
  unfold R_which_J21 at G
  refine lv_aload_n hx hb dX8_which_21 rfl (lv_at hl 0 rfl) ?_
  refine lv_iload_n hx hb dX8_which_22 rfl (lv_at hl 2 rfl) ?_
  refine lv_iload_n hx hb dX8_which_23 rfl (lv_at hl 1 rfl) ?_
  have hJ : ∀ (H : Heap) (locs : List Loc), va_P D vwCl (dW ad r kb ko kt km ca sizeR madeLocks hasBlocks omened highest atR fromR sortR valueR k_blocks k_guarded k_trains k_omen k_train madeLockA kept locks seenMany bumpMinute bumpBlock bumpTrains waited keptOut used taped fault costSum safeSum allWays torn tape) H → va_D A (dW ad r kb ko kt km ca sizeR madeLocks hasBlocks omened highest atR fromR sortR valueR k_blocks k_guarded k_trains k_omen k_train madeLockA kept locks seenMany bumpMinute bumpBlock bumpTrains waited keptOut used taped fault costSum safeSum allWays torn tape) → va_S A s.heap H locs → ∀ v_8 : Int32, v_8 = (if x2 < x3 then (0 : Int32) else (1 : Int32)) → W p l e rm_R_which s m args below meth c H locs 0 0 Z (F0 m 32 ls (.int v_8 :: [.ref r])) := by
    intro H locs hP hD hS v_8 hv
    subst hv
    refine lv_iconst (v := 2) hx hb dX8_which_32 (by decide) ?_
    refine wy_Vv (As := [.int (if x2 < x3 then (0 : Int32) else (1 : Int32)), .int (2 : Int32)]) (rest := []) C hE hnh hX (met_R_need l D sk sv ad r kb ko kt km ca H.size sizeR madeLocks hasBlocks omened highest atR fromR sortR valueR k_blocks k_guarded k_trains k_omen k_train madeLockA kept locks seenMany bumpMinute bumpBlock bumpTrains waited keptOut used taped fault costSum safeSum allWays torn tape (if x2 < x3 then (0 : Int32) else (1 : Int32)) (2 : Int32) _ _ G) (cwV 2 hts (lw_V q299 q301 qs2 q76 q302) rfl rfl rfl (by decide +kernel) ⟨Nat.le_of_ble_eq_true rfl, Nat.le_of_ble_eq_true rfl⟩) hP hD hS 0 rfl rfl rfl rfl hl.1 (Nat.le_of_ble_eq_true rfl) dX8_which_33 ⟨Nat.le_of_ble_eq_true rfl, Nat.le_of_ble_eq_true rfl⟩ (fun u H locs G hP hD hS => ?_)
    have hP : va_P D vwCl (dW ad r kb ko kt km ca sizeR madeLocks hasBlocks omened highest atR fromR sortR valueR k_blocks k_guarded k_trains k_omen k_train madeLockA kept locks seenMany bumpMinute bumpBlock bumpTrains waited keptOut used taped fault costSum safeSum allWays torn tape) H := hP
    have hD : va_D A (dW ad r kb ko kt km ca sizeR madeLocks hasBlocks omened highest atR fromR sortR valueR k_blocks k_guarded k_trains k_omen k_train madeLockA kept locks seenMany bumpMinute bumpBlock bumpTrains waited keptOut used taped fault costSum safeSum allWays torn tape) := hD
    refine lv_iload_n hx hb dX8_which_36 rfl (lv_at hl 2 rfl) ?_
    rw [hZ]
    refine vy_ret ?_
    exact W.iret hx hb hr (fun t ht hW => ⟨⟨x3, (), rfl, G, by rw [ht]; exact hP, hD⟩, hS.F ht⟩) hS.2.2 dX8_which_37 hlocks
  refine lv_icmp_gt (tgt := 31) hx hb dX8_which_24 (by decide) (fun c_6 => ?_) (fun c_6 => ?_)
  · refine lv_iconst (v := 0) hx hb dX8_which_31 (by decide) ?_
    exact hJ _ _ hP hD hS _ (eT c_6 rfl)
  · refine lv_iconst (v := 1) hx hb dX8_which_27 (by decide) ?_
    refine lv_goto (tgt := 32) hx hb dX8_which_28 (by decide) ?_
    exact hJ _ _ hP hD hS _ (eF c_6 rfl)
set_option maxHeartbeats 4000000 in
theorem met_R_which (l : Launch) (D : va_G) (sk sv : Nat → Nat) (ad : Nat → Nat) (r : Nat) (kb : Nat) (ko : Nat) (kt : Nat) (km : Nat) (ca : Nat → ClassId) (sz : Nat) (sizeR : Int32) (madeLocks : Int32) (hasBlocks : Int32) (omened : Int32) (highest : Int32) (atR : Int32) (fromR : Int32) (sortR : Int32) (valueR : Int32) (k_blocks : Int32) (k_guarded : Int32) (k_trains : Int32) (k_omen : Nat → Int32) (k_train : Nat → Int32) (madeLockA : Nat → Int32) (kept : Int32) (locks : Int32) (seenMany : Int32) (bumpMinute : Int32) (bumpBlock : Int32) (bumpTrains : Int32) (waited : Int32) (keptOut : Int32) (used : Int32) (taped : Int32) (fault : Int32) (costSum : Int64) (safeSum : Int64) (allWays : Int64) (torn : Int32) (tape : Nat → Int32) (x1 : Int32) (x2 : Int32) (Q : Int32 → Prop) (X : Int32 → Int32 → Prop) (G : R_which atR fromR sortR tape x1 x2 Q X) : vy_Met l yX8_which (ws_ yX8_which cX8_which 4 (some .int)) rm_R_which (va_Pc [.ref r, .int x1, .int x2] (wpreE D vwCl (tyL ca) sk sv (dW ad r kb ko kt km ca sizeR madeLocks hasBlocks omened highest atR fromR sortR valueR k_blocks k_guarded k_trains k_omen k_train madeLockA kept locks seenMany bumpMinute bumpBlock bumpTrains waited keptOut used taped fault costSum safeSum allWays torn tape) sz)) (va_Qi (fun (r : Int32) (u : Unit) => Q r) (wpost D vwCl (va_A (dW ad r kb ko kt km ca sizeR madeLocks hasBlocks omened highest atR fromR sortR valueR k_blocks k_guarded k_trains k_omen k_train madeLockA kept locks seenMany bumpMinute bumpBlock bumpTrains waited keptOut used taped fault costSum safeSum allWays torn tape) sz) (fun (u : Unit) => (dW ad r kb ko kt km ca sizeR madeLocks hasBlocks omened highest atR fromR sortR valueR k_blocks k_guarded k_trains k_omen k_train madeLockA kept locks seenMany bumpMinute bumpBlock bumpTrains waited keptOut used taped fault costSum safeSum allWays torn tape))) (va_A (dW ad r kb ko kt km ca sizeR madeLocks hasBlocks omened highest atR fromR sortR valueR k_blocks k_guarded k_trains k_omen k_train madeLockA kept locks seenMany bumpMinute bumpBlock bumpTrains waited keptOut used taped fault costSum safeSum allWays torn tape) sz)) (vx_X (fun (u : Int32 × Int32) => X u.1 u.2) (fltB D vwCl (dK ad ca kept locks seenMany bumpMinute bumpBlock bumpTrains waited keptOut used taped fault costSum safeSum allWays torn tape) (va_A (dW ad r kb ko kt km ca sizeR madeLocks hasBlocks omened highest atR fromR sortR valueR k_blocks k_guarded k_trains k_omen k_train madeLockA kept locks seenMany bumpMinute bumpBlock bumpTrains waited keptOut used taped fault costSum safeSum allWays torn tape) sz)) (va_A (dW ad r kb ko kt km ca sizeR madeLocks hasBlocks omened highest atR fromR sortR valueR k_blocks k_guarded k_trains k_omen k_train madeLockA kept locks seenMany bumpMinute bumpBlock bumpTrains waited keptOut used taped fault costSum safeSum allWays torn tape) sz)) 0 0 1 8 (va_A (dW ad r kb ko kt km ca sizeR madeLocks hasBlocks omened highest atR fromR sortR valueR k_blocks k_guarded k_trains k_omen k_train madeLockA kept locks seenMany bumpMinute bumpBlock bumpTrains waited keptOut used taped fault costSum safeSum allWays torn tape) sz) := by
  refine met_ofX (fun A => (va_Qi (fun (r : Int32) (u : Unit) => Q r) (wpost D vwCl A (fun (u : Unit) => (dW ad r kb ko kt km ca sizeR madeLocks hasBlocks omened highest atR fromR sortR valueR k_blocks k_guarded k_trains k_omen k_train madeLockA kept locks seenMany bumpMinute bumpBlock bumpTrains waited keptOut used taped fault costSum safeSum allWays torn tape))) A)) (fun A => (vx_X (fun (u : Int32 × Int32) => X u.1 u.2) (fltB D vwCl (dK ad ca kept locks seenMany bumpMinute bumpBlock bumpTrains waited keptOut used taped fault costSum safeSum allWays torn tape) A) A)) (by decide) (Nat.le_of_ble_eq_true rfl) ?_
  intro p e s m args below meth c Z A hZ C hE hnh hmn H locs hP hD hS ls hl
  have CE := And.intro C (And.intro hE hnh)
  have hX : ∃ Qc : Array Value → State → Outcome → State → Prop, Z = vy_MQ below Qc (vx_X (fun (u : Int32 × Int32) => X u.1 u.2) (fltB D vwCl (dK ad ca kept locks seenMany bumpMinute bumpBlock bumpTrains waited keptOut used taped fault costSum safeSum allWays torn tape) A) A) args s 0 0 1 8 A := ⟨_, hZ⟩
  have C := CE.1; have hE := CE.2.1; have hnh := CE.2.2; have hx := C.1; have hb := C.2.1; have hr := C.2.2.1; have hlocks := C.2.2.2.1; have hml := C.2.2.2.2.1; have hown := C.2.2.2.2.2.1; have hts := C.2.2.2.2.2.2.1; have hn := C.2.2.2.2.2.2.2.1; have hK := C.2.2.2.2.2.2.2.2.1; have hA := C.2.2.2.2.2.2.2.2.2
  have hl : lv_has ls 4 [(0, .ref r), (1, .int x1), (2, .int x2)] := hl
  unfold R_which at G
  refine lv_iload_n hx hb dX8_which_0 rfl (lv_at hl 1 rfl) ?_
  refine lv_istore_n (lv' := [(3, .int x1), (0, .ref r), (1, .int x1), (2, .int x2)]) hx hb dX8_which_1 rfl hl (by decide) rfl (fun ls hl => ?_)
  obtain ⟨n_4, G⟩ := G
  refine w_R_which_L2 CE (fun x3_5 G ls H locs hl hP hD hS => ?_) hX n_4 _ G _ _ _ (lv_sub hl [1, 3, 0] rfl) hP hD hS
  exact w_R_which_J21 CE hZ hX G (lv_sub hl [0, 1, 2] rfl) hP hD hS
abbrev rm_R_next : Room := { frames := 6, cells := 1, slots := 8, locals := 172 }
set_option maxHeartbeats 4000000 in
theorem w_R_next_L112 {sk sv : Nat → Nat} {p : Program} {l : Launch} {e : Env} {s : State} {m : MethodId} {args : Array Value} {below : List Frame} {meth : Method} {c : Code} {D : va_G} {ad : Nat → Nat} {r : Nat} {kb : Nat} {ko : Nat} {kt : Nat} {km : Nat} {ca : Nat → ClassId} {A : Nat → Prop} {Z : State → Prop} (CE : cx cX8_next 1 none RX8 D vwCl (tyL ca) A p c meth s m args ∧ env sk sv A s s.heap ∧ ∀ x ∈ c.exceptionTable.toList, False) {sizeR : Int32} {madeLocks : Int32} {hasBlocks : Int32} {omened : Int32} {highest : Int32} {fromR : Int32} {sortR : Int32} {k_blocks : Int32} {k_guarded : Int32} {k_trains : Int32} {k_omen : Nat → Int32} {k_train : Nat → Int32} {madeLockA : Nat → Int32} {kept : Int32} {locks : Int32} {seenMany : Int32} {bumpMinute : Int32} {bumpBlock : Int32} {bumpTrains : Int32} {waited : Int32} {keptOut : Int32} {used : Int32} {taped : Int32} {fault : Int32} {costSum : Int64} {safeSum : Int64} {allWays : Int64} {torn : Int32} {tape : Nat → Int32}  {k183 : Int32 → Int32 → Prop} {X : Int32 → Int32 → Prop} (hk183 : ∀ (atR : Int32) (valueR : Int32), k183 atR valueR → ∀ (ls : Array Slot) (H : Heap) (locs : List Loc), lv_has ls 1 [(0, .ref r)] → va_P D vwCl (dW ad r kb ko kt km ca sizeR madeLocks hasBlocks omened highest atR fromR sortR valueR k_blocks k_guarded k_trains k_omen k_train madeLockA kept locks seenMany bumpMinute bumpBlock bumpTrains waited keptOut used taped fault costSum safeSum allWays torn tape) H → va_D A (dW ad r kb ko kt km ca sizeR madeLocks hasBlocks omened highest atR fromR sortR valueR k_blocks k_guarded k_trains k_omen k_train madeLockA kept locks seenMany bumpMinute bumpBlock bumpTrains waited keptOut used taped fault costSum safeSum allWays torn tape) → va_S A s.heap H locs → W p l e rm_R_next s m args below meth c H locs 0 0 Z (F0 m 183 ls [])) (hX : ∃ Qc : Array Value → State → Outcome → State → Prop, Z = vy_MQ below Qc (vx_X (fun (u : Int32 × Int32) => X u.1 u.2) (fltB D vwCl (dK ad ca kept locks seenMany bumpMinute bumpBlock bumpTrains waited keptOut used taped fault costSum safeSum allWays torn tape) A) A) args s 0 0 1 8 A) : ∀ (n : Nat) (atR : Int32) (valueR : Int32), R_next_L112 sizeR fromR tape k183 X n atR valueR → ∀ (ls : Array Slot) (H : Heap) (locs : List Loc), lv_has ls 1 [(0, .ref r)] → va_P D vwCl (dW ad r kb ko kt km ca sizeR madeLocks hasBlocks omened highest atR fromR sortR valueR k_blocks k_guarded k_trains k_omen k_train madeLockA kept locks seenMany bumpMinute bumpBlock bumpTrains waited keptOut used taped fault costSum safeSum allWays torn tape) H → va_D A (dW ad r kb ko kt km ca sizeR madeLocks hasBlocks omened highest atR fromR sortR valueR k_blocks k_guarded k_trains k_omen k_train madeLockA kept locks seenMany bumpMinute bumpBlock bumpTrains waited keptOut used taped fault costSum safeSum allWays torn tape) → va_S A s.heap H locs → W p l e rm_R_next s m args below meth c H locs 0 0 Z (F0 m 112 ls []) := by
  have C := CE.1; have hE := CE.2.1; have hnh := CE.2.2; have hx := C.1; have hb := C.2.1; have hr := C.2.2.1; have hlocks := C.2.2.2.1; have hml := C.2.2.2.2.1; have hown := C.2.2.2.2.2.1; have hts := C.2.2.2.2.2.2.1; have hn := C.2.2.2.2.2.2.2.1; have hK := C.2.2.2.2.2.2.2.2.1; have hA := C.2.2.2.2.2.2.2.2.2
  intro n
  induction n with
  | zero =>
    intro atR valueR G
    exact False.elim G
  | succ n ih =>
    intro atR valueR G ls H locs hl hP hD hS
    unfold R_next_L112 at G
    have hk112 := ih
    refine lv_aload_n hx hb dX8_next_112 rfl (lv_at hl 0 rfl) ?_
    refine lv_bipush (v := 48) hx hb dX8_next_113 (by decide) ?_
    refine lv_bipush (v := 57) hx hb dX8_next_115 (by decide) ?_
    obtain ⟨h_14, G⟩ := G
    refine wc_Vik (As := [.int (48 : Int32), .int (57 : Int32)]) (rest := []) C (met_R_isIn l D ad r kb ko kt km ca H.size sizeR madeLocks hasBlocks omened highest atR fromR sortR valueR k_blocks k_guarded k_trains k_omen k_train madeLockA kept locks seenMany bumpMinute bumpBlock bumpTrains waited keptOut used taped fault costSum safeSum allWays torn tape (48 : Int32) (57 : Int32) h_14) (cwV 2 hts (lw_V q295 q297 qs1 q76 q298) rfl rfl rfl (by decide +kernel) ⟨Nat.le_of_ble_eq_true rfl, Nat.le_of_ble_eq_true rfl⟩) hP hD hS (List.range _) (wc_self _) (wc_nd _) 0 rfl rfl rfl rfl hl.1 (Nat.le_of_ble_eq_true rfl) dX8_next_117 ⟨Nat.le_of_ble_eq_true rfl, Nat.le_of_ble_eq_true rfl⟩ (fun r_15 u H locs hr hP hD hS => ?_)
    subst hr
    refine lv_if_eq (tgt := 183) hx hb dX8_next_120 (by decide) (fun c_16 => ?_) (fun c_16 => ?_)
    · have G := G.1 c_16
      exact hk183 _ _ G _ _ _ (lv_sub hl [0] rfl) hP hD hS
    · have G := G.2 c_16
      refine lv_aload_n hx hb dX8_next_123 rfl (lv_at hl 0 rfl) ?_
      refine lv_aload_n hx hb dX8_next_124 rfl (lv_at hl 0 rfl) ?_
      refine va_get hx hb hts in_X8 hown hK hP 0 rfl rfl 7 (by decide) (hts _ q397) (fun _ h => h) rfl dX8_next_125 ?_
      refine lv_aload_n hx hb dX8_next_128 rfl (lv_at hl 0 rfl) ?_
      refine va_get hx hb hts in_X8 hown hK hP 0 rfl rfl 8 (by decide) (hts _ q398) (fun _ h => h) rfl dX8_next_129 ?_
      refine lv_isub hx hb dX8_next_132 ?_
      refine lv_iconst (v := 2) hx hb dX8_next_133 (by decide) ?_
      obtain ⟨h_18, G⟩ := G
      have hJ : ∀ (H : Heap) (locs : List Loc), va_P D vwCl (dW ad r kb ko kt km ca sizeR madeLocks hasBlocks omened highest atR fromR sortR valueR k_blocks k_guarded k_trains k_omen k_train madeLockA kept locks seenMany bumpMinute bumpBlock bumpTrains waited keptOut used taped fault costSum safeSum allWays torn tape) H → va_D A (dW ad r kb ko kt km ca sizeR madeLocks hasBlocks omened highest atR fromR sortR valueR k_blocks k_guarded k_trains k_omen k_train madeLockA kept locks seenMany bumpMinute bumpBlock bumpTrains waited keptOut used taped fault costSum safeSum allWays torn tape) → va_S A s.heap H locs → ∀ v_19 : Int32, v_19 = (if (2 : Int32) ≤ (atR - fromR) then valueR else ((((10 : Int32) * valueR) + (tape atR.toNatClampNeg)) - (48 : Int32))) → W p l e rm_R_next s m args below meth c H locs 0 0 Z (F0 m 167 ls (.int v_19 :: [.ref r])) := by
        intro H locs hP hD hS v_19 hv
        subst hv
        refine va_put hx hb hts in_X8 tyX8 tyX8_ok nmX8 hown hK hP hD hS 0 rfl rfl 10 (by decide) (hts _ q400) (fun _ h => h) rfl (tyX8_ok 10 (by decide)) rfl rfl (Nat.le_of_ble_eq_true rfl) dX8_next_167 (fun H locs hP hD hS => ?_)
        have hP : va_P D vwCl (dW ad r kb ko kt km ca sizeR madeLocks hasBlocks omened highest atR fromR sortR (if (2 : Int32) ≤ (atR - fromR) then valueR else ((((10 : Int32) * valueR) + (tape atR.toNatClampNeg)) - (48 : Int32))) k_blocks k_guarded k_trains k_omen k_train madeLockA kept locks seenMany bumpMinute bumpBlock bumpTrains waited keptOut used taped fault costSum safeSum allWays torn tape) H := hP
        have hD : va_D A (dW ad r kb ko kt km ca sizeR madeLocks hasBlocks omened highest atR fromR sortR (if (2 : Int32) ≤ (atR - fromR) then valueR else ((((10 : Int32) * valueR) + (tape atR.toNatClampNeg)) - (48 : Int32))) k_blocks k_guarded k_trains k_omen k_train madeLockA kept locks seenMany bumpMinute bumpBlock bumpTrains waited keptOut used taped fault costSum safeSum allWays torn tape) := hD
        refine lv_aload_n hx hb dX8_next_170 rfl (lv_at hl 0 rfl) ?_
        refine lv_dup hx hb dX8_next_171 rfl ?_
        refine va_get hx hb hts in_X8 hown hK hP 0 rfl rfl 7 (by decide) (hts _ q397) (fun _ h => h) rfl dX8_next_172 ?_
        refine lv_iconst (v := 1) hx hb dX8_next_175 (by decide) ?_
        refine lv_iadd hx hb dX8_next_176 ?_
        refine va_put hx hb hts in_X8 tyX8 tyX8_ok nmX8 hown hK hP hD hS 0 rfl rfl 7 (by decide) (hts _ q397) (fun _ h => h) rfl (tyX8_ok 7 (by decide)) rfl rfl (Nat.le_of_ble_eq_true rfl) dX8_next_177 (fun H locs hP hD hS => ?_)
        have hP : va_P D vwCl (dW ad r kb ko kt km ca sizeR madeLocks hasBlocks omened highest (atR + (1 : Int32)) fromR sortR (if (2 : Int32) ≤ (atR - fromR) then valueR else ((((10 : Int32) * valueR) + (tape atR.toNatClampNeg)) - (48 : Int32))) k_blocks k_guarded k_trains k_omen k_train madeLockA kept locks seenMany bumpMinute bumpBlock bumpTrains waited keptOut used taped fault costSum safeSum allWays torn tape) H := hP
        have hD : va_D A (dW ad r kb ko kt km ca sizeR madeLocks hasBlocks omened highest (atR + (1 : Int32)) fromR sortR (if (2 : Int32) ≤ (atR - fromR) then valueR else ((((10 : Int32) * valueR) + (tape atR.toNatClampNeg)) - (48 : Int32))) k_blocks k_guarded k_trains k_omen k_train madeLockA kept locks seenMany bumpMinute bumpBlock bumpTrains waited keptOut used taped fault costSum safeSum allWays torn tape) := hD
        refine lv_goto (tgt := 112) hx hb dX8_next_180 (by decide) ?_
        exact hk112 _ _ G _ _ _ (lv_sub hl [0] rfl) hP hD hS
      refine lv_icmp_ge (tgt := 163) hx hb dX8_next_134 (by decide) (fun c_17 => ?_) (fun c_17 => ?_)
      · refine lv_aload_n hx hb dX8_next_163 rfl (lv_at hl 0 rfl) ?_
        refine va_get hx hb hts in_X8 hown hK hP 0 rfl rfl 10 (by decide) (hts _ q400) (fun _ h => h) rfl dX8_next_164 ?_
        exact hJ _ _ hP hD hS _ (eT c_17 rfl)
      · refine lv_bipush (v := 10) hx hb dX8_next_137 (by decide) ?_
        refine lv_aload_n hx hb dX8_next_139 rfl (lv_at hl 0 rfl) ?_
        refine va_get hx hb hts in_X8 hown hK hP 0 rfl rfl 10 (by decide) (hts _ q400) (fun _ h => h) rfl dX8_next_140 ?_
        refine lv_imul hx hb dX8_next_143 ?_
        refine lv_aload_n hx hb dX8_next_144 rfl (lv_at hl 0 rfl) ?_
        refine va_get hx hb hts in_X8 hown hK hP 0 rfl rfl 11 (by decide) (hts _ q401) (fun _ h => h) rfl dX8_next_145 ?_
        refine va_getN hx hb hts in_X0 hown hK hP 5 rfl rfl 20 (by decide) (va_Nw.use rfl (hn _ q197 rfl)) (fun _ h => h) rfl dX8_next_148 ?_
        refine lv_aload_n hx hb dX8_next_151 rfl (lv_at hl 0 rfl) ?_
        refine va_get hx hb hts in_X8 hown hK hP 0 rfl rfl 7 (by decide) (hts _ q397) (fun _ h => h) rfl dX8_next_152 ?_
        refine va_bald hx hb hK hP 6 2 rfl rfl (h_18 c_17) dX8_next_155 ?_
        refine lv_iadd hx hb dX8_next_156 ?_
        refine lv_bipush (v := 48) hx hb dX8_next_157 (by decide) ?_
        refine lv_isub hx hb dX8_next_159 ?_
        refine lv_goto (tgt := 167) hx hb dX8_next_160 (by decide) ?_
        exact hJ _ _ hP hD hS _ (eF c_17 rfl)
set_option maxHeartbeats 4000000 in
theorem w_R_next_L67 {sk sv : Nat → Nat} {p : Program} {l : Launch} {e : Env} {s : State} {m : MethodId} {args : Array Value} {below : List Frame} {meth : Method} {c : Code} {D : va_G} {ad : Nat → Nat} {r : Nat} {kb : Nat} {ko : Nat} {kt : Nat} {km : Nat} {ca : Nat → ClassId} {A : Nat → Prop} {Z : State → Prop} (CE : cx cX8_next 1 none RX8 D vwCl (tyL ca) A p c meth s m args ∧ env sk sv A s s.heap ∧ ∀ x ∈ c.exceptionTable.toList, False) {sizeR : Int32} {madeLocks : Int32} {hasBlocks : Int32} {omened : Int32} {highest : Int32} {fromR : Int32} {sortR : Int32} {valueR : Int32} {k_blocks : Int32} {k_guarded : Int32} {k_trains : Int32} {k_omen : Nat → Int32} {k_train : Nat → Int32} {madeLockA : Nat → Int32} {kept : Int32} {locks : Int32} {seenMany : Int32} {bumpMinute : Int32} {bumpBlock : Int32} {bumpTrains : Int32} {waited : Int32} {keptOut : Int32} {used : Int32} {taped : Int32} {fault : Int32} {costSum : Int64} {safeSum : Int64} {allWays : Int64} {torn : Int32} {tape : Nat → Int32}  {k237 : Int32 → Prop} {X : Int32 → Int32 → Prop} (hk237 : ∀ (atR : Int32), k237 atR → ∀ (ls : Array Slot) (H : Heap) (locs : List Loc), lv_has ls 1 [] → va_P D vwCl (dW ad r kb ko kt km ca sizeR madeLocks hasBlocks omened highest atR fromR sortR valueR k_blocks k_guarded k_trains k_omen k_train madeLockA kept locks seenMany bumpMinute bumpBlock bumpTrains waited keptOut used taped fault costSum safeSum allWays torn tape) H → va_D A (dW ad r kb ko kt km ca sizeR madeLocks hasBlocks omened highest atR fromR sortR valueR k_blocks k_guarded k_trains k_omen k_train madeLockA kept locks seenMany bumpMinute bumpBlock bumpTrains waited keptOut used taped fault costSum safeSum allWays torn tape) → va_S A s.heap H locs → W p l e rm_R_next s m args below meth c H locs 0 0 Z (F0 m 237 ls [])) (hX : ∃ Qc : Array Value → State → Outcome → State → Prop, Z = vy_MQ below Qc (vx_X (fun (u : Int32 × Int32) => X u.1 u.2) (fltB D vwCl (dK ad ca kept locks seenMany bumpMinute bumpBlock bumpTrains waited keptOut used taped fault costSum safeSum allWays torn tape) A) A) args s 0 0 1 8 A) : ∀ (n : Nat) (atR : Int32), R_next_L67 sizeR tape k237 X n atR → ∀ (ls : Array Slot) (H : Heap) (locs : List Loc), lv_has ls 1 [(0, .ref r)] → va_P D vwCl (dW ad r kb ko kt km ca sizeR madeLocks hasBlocks omened highest atR fromR sortR valueR k_blocks k_guarded k_trains k_omen k_train madeLockA kept locks seenMany bumpMinute bumpBlock bumpTrains waited keptOut used taped fault costSum safeSum allWays torn tape) H → va_D A (dW ad r kb ko kt km ca sizeR madeLocks hasBlocks omened highest atR fromR sortR valueR k_blocks k_guarded k_trains k_omen k_train madeLockA kept locks seenMany bumpMinute bumpBlock bumpTrains waited keptOut used taped fault costSum safeSum allWays torn tape) → va_S A s.heap H locs → W p l e rm_R_next s m args below meth c H locs 0 0 Z (F0 m 67 ls []) := by
  have C := CE.1; have hE := CE.2.1; have hnh := CE.2.2; have hx := C.1; have hb := C.2.1; have hr := C.2.2.1; have hlocks := C.2.2.2.1; have hml := C.2.2.2.2.1; have hown := C.2.2.2.2.2.1; have hts := C.2.2.2.2.2.2.1; have hn := C.2.2.2.2.2.2.2.1; have hK := C.2.2.2.2.2.2.2.2.1; have hA := C.2.2.2.2.2.2.2.2.2
  intro n
  induction n with
  | zero =>
    intro atR G
    exact False.elim G
  | succ n ih =>
    intro atR G ls H locs hl hP hD hS
    unfold R_next_L67 at G
    have hk67 := ih
    refine lv_aload_n hx hb dX8_next_67 rfl (lv_at hl 0 rfl) ?_
    refine lv_bipush (v := 97) hx hb dX8_next_68 (by decide) ?_
    refine lv_bipush (v := 122) hx hb dX8_next_70 (by decide) ?_
    obtain ⟨h_26, G⟩ := G
    refine wc_Vik (As := [.int (97 : Int32), .int (122 : Int32)]) (rest := []) C (met_R_isIn l D ad r kb ko kt km ca H.size sizeR madeLocks hasBlocks omened highest atR fromR sortR valueR k_blocks k_guarded k_trains k_omen k_train madeLockA kept locks seenMany bumpMinute bumpBlock bumpTrains waited keptOut used taped fault costSum safeSum allWays torn tape (97 : Int32) (122 : Int32) h_26) (cwV 2 hts (lw_V q295 q297 qs1 q76 q298) rfl rfl rfl (by decide +kernel) ⟨Nat.le_of_ble_eq_true rfl, Nat.le_of_ble_eq_true rfl⟩) hP hD hS (List.range _) (wc_self _) (wc_nd _) 0 rfl rfl rfl rfl hl.1 (Nat.le_of_ble_eq_true rfl) dX8_next_72 ⟨Nat.le_of_ble_eq_true rfl, Nat.le_of_ble_eq_true rfl⟩ (fun r_27 u H locs hr hP hD hS => ?_)
    subst hr
    refine lv_if_eq (tgt := 237) hx hb dX8_next_75 (by decide) (fun c_28 => ?_) (fun c_28 => ?_)
    · have G := G.1 c_28
      exact hk237 _ G _ _ _ (lv_sub hl [] rfl) hP hD hS
    · have G := G.2 c_28
      refine lv_aload_n hx hb dX8_next_78 rfl (lv_at hl 0 rfl) ?_
      refine lv_dup hx hb dX8_next_79 rfl ?_
      refine va_get hx hb hts in_X8 hown hK hP 0 rfl rfl 7 (by decide) (hts _ q397) (fun _ h => h) rfl dX8_next_80 ?_
      refine lv_iconst (v := 1) hx hb dX8_next_83 (by decide) ?_
      refine lv_iadd hx hb dX8_next_84 ?_
      refine va_put hx hb hts in_X8 tyX8 tyX8_ok nmX8 hown hK hP hD hS 0 rfl rfl 7 (by decide) (hts _ q397) (fun _ h => h) rfl (tyX8_ok 7 (by decide)) rfl rfl (Nat.le_of_ble_eq_true rfl) dX8_next_85 (fun H locs hP hD hS => ?_)
      have hP : va_P D vwCl (dW ad r kb ko kt km ca sizeR madeLocks hasBlocks omened highest (atR + (1 : Int32)) fromR sortR valueR k_blocks k_guarded k_trains k_omen k_train madeLockA kept locks seenMany bumpMinute bumpBlock bumpTrains waited keptOut used taped fault costSum safeSum allWays torn tape) H := hP
      have hD : va_D A (dW ad r kb ko kt km ca sizeR madeLocks hasBlocks omened highest (atR + (1 : Int32)) fromR sortR valueR k_blocks k_guarded k_trains k_omen k_train madeLockA kept locks seenMany bumpMinute bumpBlock bumpTrains waited keptOut used taped fault costSum safeSum allWays torn tape) := hD
      refine lv_goto (tgt := 67) hx hb dX8_next_88 (by decide) ?_
      exact hk67 _ G _ _ _ (lv_sub hl [0] rfl) hP hD hS
set_option maxHeartbeats 4000000 in
theorem w_R_next_L0 {sk sv : Nat → Nat} {p : Program} {l : Launch} {e : Env} {s : State} {m : MethodId} {args : Array Value} {below : List Frame} {meth : Method} {c : Code} {D : va_G} {ad : Nat → Nat} {r : Nat} {kb : Nat} {ko : Nat} {kt : Nat} {km : Nat} {ca : Nat → ClassId} {A : Nat → Prop} {Z : State → Prop} (CE : cx cX8_next 1 none RX8 D vwCl (tyL ca) A p c meth s m args ∧ env sk sv A s s.heap ∧ ∀ x ∈ c.exceptionTable.toList, False) {sizeR : Int32} {madeLocks : Int32} {hasBlocks : Int32} {omened : Int32} {highest : Int32} {fromR : Int32} {sortR : Int32} {valueR : Int32} {k_blocks : Int32} {k_guarded : Int32} {k_trains : Int32} {k_omen : Nat → Int32} {k_train : Nat → Int32} {madeLockA : Nat → Int32} {kept : Int32} {locks : Int32} {seenMany : Int32} {bumpMinute : Int32} {bumpBlock : Int32} {bumpTrains : Int32} {waited : Int32} {keptOut : Int32} {used : Int32} {taped : Int32} {fault : Int32} {costSum : Int64} {safeSum : Int64} {allWays : Int64} {torn : Int32} {tape : Nat → Int32}  {k24 : Int32 → Prop} {X : Int32 → Int32 → Prop} (hk24 : ∀ (atR : Int32), k24 atR → ∀ (ls : Array Slot) (H : Heap) (locs : List Loc), lv_has ls 1 [(0, .ref r)] → va_P D vwCl (dW ad r kb ko kt km ca sizeR madeLocks hasBlocks omened highest atR fromR sortR valueR k_blocks k_guarded k_trains k_omen k_train madeLockA kept locks seenMany bumpMinute bumpBlock bumpTrains waited keptOut used taped fault costSum safeSum allWays torn tape) H → va_D A (dW ad r kb ko kt km ca sizeR madeLocks hasBlocks omened highest atR fromR sortR valueR k_blocks k_guarded k_trains k_omen k_train madeLockA kept locks seenMany bumpMinute bumpBlock bumpTrains waited keptOut used taped fault costSum safeSum allWays torn tape) → va_S A s.heap H locs → W p l e rm_R_next s m args below meth c H locs 0 0 Z (F0 m 24 ls [])) (hX : ∃ Qc : Array Value → State → Outcome → State → Prop, Z = vy_MQ below Qc (vx_X (fun (u : Int32 × Int32) => X u.1 u.2) (fltB D vwCl (dK ad ca kept locks seenMany bumpMinute bumpBlock bumpTrains waited keptOut used taped fault costSum safeSum allWays torn tape) A) A) args s 0 0 1 8 A) : ∀ (n : Nat) (atR : Int32), R_next_L0 sizeR tape k24 X n atR → ∀ (ls : Array Slot) (H : Heap) (locs : List Loc), lv_has ls 1 [(0, .ref r)] → va_P D vwCl (dW ad r kb ko kt km ca sizeR madeLocks hasBlocks omened highest atR fromR sortR valueR k_blocks k_guarded k_trains k_omen k_train madeLockA kept locks seenMany bumpMinute bumpBlock bumpTrains waited keptOut used taped fault costSum safeSum allWays torn tape) H → va_D A (dW ad r kb ko kt km ca sizeR madeLocks hasBlocks omened highest atR fromR sortR valueR k_blocks k_guarded k_trains k_omen k_train madeLockA kept locks seenMany bumpMinute bumpBlock bumpTrains waited keptOut used taped fault costSum safeSum allWays torn tape) → va_S A s.heap H locs → W p l e rm_R_next s m args below meth c H locs 0 0 Z (F0 m 0 ls []) := by
  have C := CE.1; have hE := CE.2.1; have hnh := CE.2.2; have hx := C.1; have hb := C.2.1; have hr := C.2.2.1; have hlocks := C.2.2.2.1; have hml := C.2.2.2.2.1; have hown := C.2.2.2.2.2.1; have hts := C.2.2.2.2.2.2.1; have hn := C.2.2.2.2.2.2.2.1; have hK := C.2.2.2.2.2.2.2.2.1; have hA := C.2.2.2.2.2.2.2.2.2
  intro n
  induction n with
  | zero =>
    intro atR G
    exact False.elim G
  | succ n ih =>
    intro atR G ls H locs hl hP hD hS
    unfold R_next_L0 at G
    have hk0 := ih
    refine lv_aload_n hx hb dX8_next_0 rfl (lv_at hl 0 rfl) ?_
    refine lv_bipush (v := 32) hx hb dX8_next_1 (by decide) ?_
    refine lv_bipush (v := 32) hx hb dX8_next_3 (by decide) ?_
    obtain ⟨h_31, G⟩ := G
    refine wc_Vik (As := [.int (32 : Int32), .int (32 : Int32)]) (rest := []) C (met_R_isIn l D ad r kb ko kt km ca H.size sizeR madeLocks hasBlocks omened highest atR fromR sortR valueR k_blocks k_guarded k_trains k_omen k_train madeLockA kept locks seenMany bumpMinute bumpBlock bumpTrains waited keptOut used taped fault costSum safeSum allWays torn tape (32 : Int32) (32 : Int32) h_31) (cwV 2 hts (lw_V q295 q297 qs1 q76 q298) rfl rfl rfl (by decide +kernel) ⟨Nat.le_of_ble_eq_true rfl, Nat.le_of_ble_eq_true rfl⟩) hP hD hS (List.range _) (wc_self _) (wc_nd _) 0 rfl rfl rfl rfl hl.1 (Nat.le_of_ble_eq_true rfl) dX8_next_5 ⟨Nat.le_of_ble_eq_true rfl, Nat.le_of_ble_eq_true rfl⟩ (fun r_32 u H locs hr hP hD hS => ?_)
    subst hr
    refine lv_if_eq (tgt := 24) hx hb dX8_next_8 (by decide) (fun c_33 => ?_) (fun c_33 => ?_)
    · have G := G.1 c_33
      exact hk24 _ G _ _ _ (lv_sub hl [0] rfl) hP hD hS
    · have G := G.2 c_33
      refine lv_aload_n hx hb dX8_next_11 rfl (lv_at hl 0 rfl) ?_
      refine lv_dup hx hb dX8_next_12 rfl ?_
      refine va_get hx hb hts in_X8 hown hK hP 0 rfl rfl 7 (by decide) (hts _ q397) (fun _ h => h) rfl dX8_next_13 ?_
      refine lv_iconst (v := 1) hx hb dX8_next_16 (by decide) ?_
      refine lv_iadd hx hb dX8_next_17 ?_
      refine va_put hx hb hts in_X8 tyX8 tyX8_ok nmX8 hown hK hP hD hS 0 rfl rfl 7 (by decide) (hts _ q397) (fun _ h => h) rfl (tyX8_ok 7 (by decide)) rfl rfl (Nat.le_of_ble_eq_true rfl) dX8_next_18 (fun H locs hP hD hS => ?_)
      have hP : va_P D vwCl (dW ad r kb ko kt km ca sizeR madeLocks hasBlocks omened highest (atR + (1 : Int32)) fromR sortR valueR k_blocks k_guarded k_trains k_omen k_train madeLockA kept locks seenMany bumpMinute bumpBlock bumpTrains waited keptOut used taped fault costSum safeSum allWays torn tape) H := hP
      have hD : va_D A (dW ad r kb ko kt km ca sizeR madeLocks hasBlocks omened highest (atR + (1 : Int32)) fromR sortR valueR k_blocks k_guarded k_trains k_omen k_train madeLockA kept locks seenMany bumpMinute bumpBlock bumpTrains waited keptOut used taped fault costSum safeSum allWays torn tape) := hD
      refine lv_goto (tgt := 0) hx hb dX8_next_21 (by decide) ?_
      exact hk0 _ G _ _ _ (lv_sub hl [0] rfl) hP hD hS
set_option maxHeartbeats 4000000 in
theorem met_R_next (l : Launch) (D : va_G) (sk sv : Nat → Nat) (ad : Nat → Nat) (r : Nat) (kb : Nat) (ko : Nat) (kt : Nat) (km : Nat) (ca : Nat → ClassId) (sz : Nat) (sizeR : Int32) (madeLocks : Int32) (hasBlocks : Int32) (omened : Int32) (highest : Int32) (atR : Int32) (fromR : Int32) (sortR : Int32) (valueR : Int32) (k_blocks : Int32) (k_guarded : Int32) (k_trains : Int32) (k_omen : Nat → Int32) (k_train : Nat → Int32) (madeLockA : Nat → Int32) (kept : Int32) (locks : Int32) (seenMany : Int32) (bumpMinute : Int32) (bumpBlock : Int32) (bumpTrains : Int32) (waited : Int32) (keptOut : Int32) (used : Int32) (taped : Int32) (fault : Int32) (costSum : Int64) (safeSum : Int64) (allWays : Int64) (torn : Int32) (tape : Nat → Int32)  (Q : Int32 → Int32 → Int32 → Int32 → Prop) (X : Int32 → Int32 → Prop) (G : R_next sizeR atR fromR sortR valueR tape Q X) : vy_Met l yX8_next (ws_ yX8_next cX8_next 1 none) rm_R_next (va_Pc [.ref r] (wpreE D vwCl (tyL ca) sk sv (dW ad r kb ko kt km ca sizeR madeLocks hasBlocks omened highest atR fromR sortR valueR k_blocks k_guarded k_trains k_omen k_train madeLockA kept locks seenMany bumpMinute bumpBlock bumpTrains waited keptOut used taped fault costSum safeSum allWays torn tape) sz)) (va_Qv (fun (u : Int32 × Int32 × Int32 × Int32) => Q u.1 u.2.1 u.2.2.1 u.2.2.2) (wpost D vwCl (va_A (dW ad r kb ko kt km ca sizeR madeLocks hasBlocks omened highest atR fromR sortR valueR k_blocks k_guarded k_trains k_omen k_train madeLockA kept locks seenMany bumpMinute bumpBlock bumpTrains waited keptOut used taped fault costSum safeSum allWays torn tape) sz) (fun (u : Int32 × Int32 × Int32 × Int32) => (dW ad r kb ko kt km ca sizeR madeLocks hasBlocks omened highest u.1 u.2.1 u.2.2.1 u.2.2.2 k_blocks k_guarded k_trains k_omen k_train madeLockA kept locks seenMany bumpMinute bumpBlock bumpTrains waited keptOut used taped fault costSum safeSum allWays torn tape))) (va_A (dW ad r kb ko kt km ca sizeR madeLocks hasBlocks omened highest atR fromR sortR valueR k_blocks k_guarded k_trains k_omen k_train madeLockA kept locks seenMany bumpMinute bumpBlock bumpTrains waited keptOut used taped fault costSum safeSum allWays torn tape) sz)) (vx_X (fun (u : Int32 × Int32) => X u.1 u.2) (fltB D vwCl (dK ad ca kept locks seenMany bumpMinute bumpBlock bumpTrains waited keptOut used taped fault costSum safeSum allWays torn tape) (va_A (dW ad r kb ko kt km ca sizeR madeLocks hasBlocks omened highest atR fromR sortR valueR k_blocks k_guarded k_trains k_omen k_train madeLockA kept locks seenMany bumpMinute bumpBlock bumpTrains waited keptOut used taped fault costSum safeSum allWays torn tape) sz)) (va_A (dW ad r kb ko kt km ca sizeR madeLocks hasBlocks omened highest atR fromR sortR valueR k_blocks k_guarded k_trains k_omen k_train madeLockA kept locks seenMany bumpMinute bumpBlock bumpTrains waited keptOut used taped fault costSum safeSum allWays torn tape) sz)) 0 0 1 8 (va_A (dW ad r kb ko kt km ca sizeR madeLocks hasBlocks omened highest atR fromR sortR valueR k_blocks k_guarded k_trains k_omen k_train madeLockA kept locks seenMany bumpMinute bumpBlock bumpTrains waited keptOut used taped fault costSum safeSum allWays torn tape) sz) := by
  refine met_ofX (fun A => (va_Qv (fun (u : Int32 × Int32 × Int32 × Int32) => Q u.1 u.2.1 u.2.2.1 u.2.2.2) (wpost D vwCl A (fun (u : Int32 × Int32 × Int32 × Int32) => (dW ad r kb ko kt km ca sizeR madeLocks hasBlocks omened highest u.1 u.2.1 u.2.2.1 u.2.2.2 k_blocks k_guarded k_trains k_omen k_train madeLockA kept locks seenMany bumpMinute bumpBlock bumpTrains waited keptOut used taped fault costSum safeSum allWays torn tape))) A)) (fun A => (vx_X (fun (u : Int32 × Int32) => X u.1 u.2) (fltB D vwCl (dK ad ca kept locks seenMany bumpMinute bumpBlock bumpTrains waited keptOut used taped fault costSum safeSum allWays torn tape) A) A)) (by decide) (Nat.le_of_ble_eq_true rfl) ?_
  intro p e s m args below meth c Z A hZ C hE hnh hmn H locs hP hD hS ls hl
  have CE := And.intro C (And.intro hE hnh)
  have hX : ∃ Qc : Array Value → State → Outcome → State → Prop, Z = vy_MQ below Qc (vx_X (fun (u : Int32 × Int32) => X u.1 u.2) (fltB D vwCl (dK ad ca kept locks seenMany bumpMinute bumpBlock bumpTrains waited keptOut used taped fault costSum safeSum allWays torn tape) A) A) args s 0 0 1 8 A := ⟨_, hZ⟩
  have C := CE.1; have hE := CE.2.1; have hnh := CE.2.2; have hx := C.1; have hb := C.2.1; have hr := C.2.2.1; have hlocks := C.2.2.2.1; have hml := C.2.2.2.2.1; have hown := C.2.2.2.2.2.1; have hts := C.2.2.2.2.2.2.1; have hn := C.2.2.2.2.2.2.2.1; have hK := C.2.2.2.2.2.2.2.2.1; have hA := C.2.2.2.2.2.2.2.2.2
  have hl : lv_has ls 1 [(0, .ref r)] := hl
  unfold R_next at G
  refine lv_aload_n hx hb dX8_next_0 rfl (lv_at hl 0 rfl) ?_
  refine lv_bipush (v := 32) hx hb dX8_next_1 (by decide) ?_
  refine lv_bipush (v := 32) hx hb dX8_next_3 (by decide) ?_
  obtain ⟨h_1, G⟩ := G
  refine wc_Vik (As := [.int (32 : Int32), .int (32 : Int32)]) (rest := []) C (met_R_isIn l D ad r kb ko kt km ca H.size sizeR madeLocks hasBlocks omened highest atR fromR sortR valueR k_blocks k_guarded k_trains k_omen k_train madeLockA kept locks seenMany bumpMinute bumpBlock bumpTrains waited keptOut used taped fault costSum safeSum allWays torn tape (32 : Int32) (32 : Int32) h_1) (cwV 2 hts (lw_V q295 q297 qs1 q76 q298) rfl rfl rfl (by decide +kernel) ⟨Nat.le_of_ble_eq_true rfl, Nat.le_of_ble_eq_true rfl⟩) hP hD hS (List.range _) (wc_self _) (wc_nd _) 0 rfl rfl rfl rfl hl.1 (Nat.le_of_ble_eq_true rfl) dX8_next_5 ⟨Nat.le_of_ble_eq_true rfl, Nat.le_of_ble_eq_true rfl⟩ (fun r_2 u H locs hr hP hD hS => ?_)
  subst hr
  refine lv_if_eq (tgt := 24) hx hb dX8_next_8 (by decide) (fun c_3 => ?_) (fun c_3 => ?_)
  · have G := G.1 c_3
    refine lv_aload_n hx hb dX8_next_24 rfl (lv_at hl 0 rfl) ?_
    refine lv_aload_n hx hb dX8_next_25 rfl (lv_at hl 0 rfl) ?_
    refine va_get hx hb hts in_X8 hown hK hP 0 rfl rfl 7 (by decide) (hts _ q397) (fun _ h => h) rfl dX8_next_26 ?_
    refine va_put hx hb hts in_X8 tyX8 tyX8_ok nmX8 hown hK hP hD hS 0 rfl rfl 8 (by decide) (hts _ q398) (fun _ h => h) rfl (tyX8_ok 8 (by decide)) rfl rfl (Nat.le_of_ble_eq_true rfl) dX8_next_29 (fun H locs hP hD hS => ?_)
    have hP : va_P D vwCl (dW ad r kb ko kt km ca sizeR madeLocks hasBlocks omened highest atR atR sortR valueR k_blocks k_guarded k_trains k_omen k_train madeLockA kept locks seenMany bumpMinute bumpBlock bumpTrains waited keptOut used taped fault costSum safeSum allWays torn tape) H := hP
    have hD : va_D A (dW ad r kb ko kt km ca sizeR madeLocks hasBlocks omened highest atR atR sortR valueR k_blocks k_guarded k_trains k_omen k_train madeLockA kept locks seenMany bumpMinute bumpBlock bumpTrains waited keptOut used taped fault costSum safeSum allWays torn tape) := hD
    refine lv_aload_n hx hb dX8_next_32 rfl (lv_at hl 0 rfl) ?_
    refine va_get hx hb hts in_X8 hown hK hP 0 rfl rfl 7 (by decide) (hts _ q397) (fun _ h => h) rfl dX8_next_33 ?_
    refine lv_aload_n hx hb dX8_next_36 rfl (lv_at hl 0 rfl) ?_
    refine va_get hx hb hts in_X8 hown hK hP 0 rfl rfl 0 (by decide) (hts _ q387) (fun _ h => h) rfl dX8_next_37 ?_
    refine lv_icmp_ne (tgt := 51) hx hb dX8_next_40 (by decide) (fun c_4 => ?_) (fun c_4 => ?_)
    · have G := G.2 c_4
      refine lv_aload_n hx hb dX8_next_51 rfl (lv_at hl 0 rfl) ?_
      refine lv_bipush (v := 97) hx hb dX8_next_52 (by decide) ?_
      refine lv_bipush (v := 122) hx hb dX8_next_54 (by decide) ?_
      obtain ⟨h_5, G⟩ := G
      refine wc_Vik (As := [.int (97 : Int32), .int (122 : Int32)]) (rest := []) C (met_R_isIn l D ad r kb ko kt km ca H.size sizeR madeLocks hasBlocks omened highest atR atR sortR valueR k_blocks k_guarded k_trains k_omen k_train madeLockA kept locks seenMany bumpMinute bumpBlock bumpTrains waited keptOut used taped fault costSum safeSum allWays torn tape (97 : Int32) (122 : Int32) h_5) (cwV 2 hts (lw_V q295 q297 qs1 q76 q298) rfl rfl rfl (by decide +kernel) ⟨Nat.le_of_ble_eq_true rfl, Nat.le_of_ble_eq_true rfl⟩) hP hD hS (List.range _) (wc_self _) (wc_nd _) 0 rfl rfl rfl rfl hl.1 (Nat.le_of_ble_eq_true rfl) dX8_next_56 ⟨Nat.le_of_ble_eq_true rfl, Nat.le_of_ble_eq_true rfl⟩ (fun r_6 u H locs hr hP hD hS => ?_)
      subst hr
      refine lv_if_eq (tgt := 91) hx hb dX8_next_59 (by decide) (fun c_7 => ?_) (fun c_7 => ?_)
      · have G := G.1 c_7
        refine lv_aload_n hx hb dX8_next_91 rfl (lv_at hl 0 rfl) ?_
        refine lv_bipush (v := 48) hx hb dX8_next_92 (by decide) ?_
        refine lv_bipush (v := 57) hx hb dX8_next_94 (by decide) ?_
        obtain ⟨h_8, G⟩ := G
        refine wc_Vik (As := [.int (48 : Int32), .int (57 : Int32)]) (rest := []) C (met_R_isIn l D ad r kb ko kt km ca H.size sizeR madeLocks hasBlocks omened highest atR atR sortR valueR k_blocks k_guarded k_trains k_omen k_train madeLockA kept locks seenMany bumpMinute bumpBlock bumpTrains waited keptOut used taped fault costSum safeSum allWays torn tape (48 : Int32) (57 : Int32) h_8) (cwV 2 hts (lw_V q295 q297 qs1 q76 q298) rfl rfl rfl (by decide +kernel) ⟨Nat.le_of_ble_eq_true rfl, Nat.le_of_ble_eq_true rfl⟩) hP hD hS (List.range _) (wc_self _) (wc_nd _) 0 rfl rfl rfl rfl hl.1 (Nat.le_of_ble_eq_true rfl) dX8_next_96 ⟨Nat.le_of_ble_eq_true rfl, Nat.le_of_ble_eq_true rfl⟩ (fun r_9 u H locs hr hP hD hS => ?_)
        subst hr
        refine lv_if_eq (tgt := 209) hx hb dX8_next_99 (by decide) (fun c_10 => ?_) (fun c_10 => ?_)
        · have G := G.1 c_10
          refine lv_aload_n hx hb dX8_next_209 rfl (lv_at hl 0 rfl) ?_
          refine lv_iconst (v := 3) hx hb dX8_next_210 (by decide) ?_
          refine va_put hx hb hts in_X8 tyX8 tyX8_ok nmX8 hown hK hP hD hS 0 rfl rfl 9 (by decide) (hts _ q399) (fun _ h => h) rfl (tyX8_ok 9 (by decide)) rfl rfl (Nat.le_of_ble_eq_true rfl) dX8_next_211 (fun H locs hP hD hS => ?_)
          have hP : va_P D vwCl (dW ad r kb ko kt km ca sizeR madeLocks hasBlocks omened highest atR atR (3 : Int32) valueR k_blocks k_guarded k_trains k_omen k_train madeLockA kept locks seenMany bumpMinute bumpBlock bumpTrains waited keptOut used taped fault costSum safeSum allWays torn tape) H := hP
          have hD : va_D A (dW ad r kb ko kt km ca sizeR madeLocks hasBlocks omened highest atR atR (3 : Int32) valueR k_blocks k_guarded k_trains k_omen k_train madeLockA kept locks seenMany bumpMinute bumpBlock bumpTrains waited keptOut used taped fault costSum safeSum allWays torn tape) := hD
          refine lv_aload_n hx hb dX8_next_214 rfl (lv_at hl 0 rfl) ?_
          refine lv_aload_n hx hb dX8_next_215 rfl (lv_at hl 0 rfl) ?_
          refine lv_bipush (v := 59) hx hb dX8_next_216 (by decide) ?_
          refine lv_bipush (v := 59) hx hb dX8_next_218 (by decide) ?_
          obtain ⟨h_11, G⟩ := G
          refine wc_Vik (As := [.int (59 : Int32), .int (59 : Int32)]) (rest := [.ref r]) C (met_R_isIn l D ad r kb ko kt km ca H.size sizeR madeLocks hasBlocks omened highest atR atR (3 : Int32) valueR k_blocks k_guarded k_trains k_omen k_train madeLockA kept locks seenMany bumpMinute bumpBlock bumpTrains waited keptOut used taped fault costSum safeSum allWays torn tape (59 : Int32) (59 : Int32) h_11) (cwV 2 hts (lw_V q295 q297 qs1 q76 q298) rfl rfl rfl (by decide +kernel) ⟨Nat.le_of_ble_eq_true rfl, Nat.le_of_ble_eq_true rfl⟩) hP hD hS (List.range _) (wc_self _) (wc_nd _) 0 rfl rfl rfl rfl hl.1 (Nat.le_of_ble_eq_true rfl) dX8_next_220 ⟨Nat.le_of_ble_eq_true rfl, Nat.le_of_ble_eq_true rfl⟩ (fun r_12 u H locs hr hP hD hS => ?_)
          subst hr
          refine lv_iconst (v := 1) hx hb dX8_next_223 (by decide) ?_
          refine wy_Vv (As := [.int (R_isIn_e sizeR atR tape (59 : Int32) (59 : Int32)), .int (1 : Int32)]) (rest := []) C hE hnh hX (met_R_need l D sk sv ad r kb ko kt km ca H.size sizeR madeLocks hasBlocks omened highest atR atR (3 : Int32) valueR k_blocks k_guarded k_trains k_omen k_train madeLockA kept locks seenMany bumpMinute bumpBlock bumpTrains waited keptOut used taped fault costSum safeSum allWays torn tape (R_isIn_e sizeR atR tape (59 : Int32) (59 : Int32)) (1 : Int32) _ _ G) (cwV 2 hts (lw_V q299 q301 qs2 q76 q302) rfl rfl rfl (by decide +kernel) ⟨Nat.le_of_ble_eq_true rfl, Nat.le_of_ble_eq_true rfl⟩) hP hD hS 0 rfl rfl rfl rfl hl.1 (Nat.le_of_ble_eq_true rfl) dX8_next_224 ⟨Nat.le_of_ble_eq_true rfl, Nat.le_of_ble_eq_true rfl⟩ (fun u H locs G hP hD hS => ?_)
          have hP : va_P D vwCl (dW ad r kb ko kt km ca sizeR madeLocks hasBlocks omened highest atR atR (3 : Int32) valueR k_blocks k_guarded k_trains k_omen k_train madeLockA kept locks seenMany bumpMinute bumpBlock bumpTrains waited keptOut used taped fault costSum safeSum allWays torn tape) H := hP
          have hD : va_D A (dW ad r kb ko kt km ca sizeR madeLocks hasBlocks omened highest atR atR (3 : Int32) valueR k_blocks k_guarded k_trains k_omen k_train madeLockA kept locks seenMany bumpMinute bumpBlock bumpTrains waited keptOut used taped fault costSum safeSum allWays torn tape) := hD
          refine lv_aload_n hx hb dX8_next_227 rfl (lv_at hl 0 rfl) ?_
          refine lv_dup hx hb dX8_next_228 rfl ?_
          refine va_get hx hb hts in_X8 hown hK hP 0 rfl rfl 7 (by decide) (hts _ q397) (fun _ h => h) rfl dX8_next_229 ?_
          refine lv_iconst (v := 1) hx hb dX8_next_232 (by decide) ?_
          refine lv_iadd hx hb dX8_next_233 ?_
          refine va_put hx hb hts in_X8 tyX8 tyX8_ok nmX8 hown hK hP hD hS 0 rfl rfl 7 (by decide) (hts _ q397) (fun _ h => h) rfl (tyX8_ok 7 (by decide)) rfl rfl (Nat.le_of_ble_eq_true rfl) dX8_next_234 (fun H locs hP hD hS => ?_)
          have hP : va_P D vwCl (dW ad r kb ko kt km ca sizeR madeLocks hasBlocks omened highest (atR + (1 : Int32)) atR (3 : Int32) valueR k_blocks k_guarded k_trains k_omen k_train madeLockA kept locks seenMany bumpMinute bumpBlock bumpTrains waited keptOut used taped fault costSum safeSum allWays torn tape) H := hP
          have hD : va_D A (dW ad r kb ko kt km ca sizeR madeLocks hasBlocks omened highest (atR + (1 : Int32)) atR (3 : Int32) valueR k_blocks k_guarded k_trains k_omen k_train madeLockA kept locks seenMany bumpMinute bumpBlock bumpTrains waited keptOut used taped fault costSum safeSum allWays torn tape) := hD
          rw [hZ]
          refine vy_ret ?_
          exact W.vret hx hb hr (fun t ht hW => ⟨⟨((atR + (1 : Int32)), atR, (3 : Int32), valueR), rfl, G, by rw [ht]; exact hP, hD⟩, hS.F ht⟩) hS.2.2 dX8_next_237 hlocks
        · have G := G.2 c_10
          refine lv_aload_n hx hb dX8_next_102 rfl (lv_at hl 0 rfl) ?_
          refine lv_iconst (v := 2) hx hb dX8_next_103 (by decide) ?_
          refine va_put hx hb hts in_X8 tyX8 tyX8_ok nmX8 hown hK hP hD hS 0 rfl rfl 9 (by decide) (hts _ q399) (fun _ h => h) rfl (tyX8_ok 9 (by decide)) rfl rfl (Nat.le_of_ble_eq_true rfl) dX8_next_104 (fun H locs hP hD hS => ?_)
          have hP : va_P D vwCl (dW ad r kb ko kt km ca sizeR madeLocks hasBlocks omened highest atR atR (2 : Int32) valueR k_blocks k_guarded k_trains k_omen k_train madeLockA kept locks seenMany bumpMinute bumpBlock bumpTrains waited keptOut used taped fault costSum safeSum allWays torn tape) H := hP
          have hD : va_D A (dW ad r kb ko kt km ca sizeR madeLocks hasBlocks omened highest atR atR (2 : Int32) valueR k_blocks k_guarded k_trains k_omen k_train madeLockA kept locks seenMany bumpMinute bumpBlock bumpTrains waited keptOut used taped fault costSum safeSum allWays torn tape) := hD
          refine lv_aload_n hx hb dX8_next_107 rfl (lv_at hl 0 rfl) ?_
          refine lv_iconst (v := 0) hx hb dX8_next_108 (by decide) ?_
          refine va_put hx hb hts in_X8 tyX8 tyX8_ok nmX8 hown hK hP hD hS 0 rfl rfl 10 (by decide) (hts _ q400) (fun _ h => h) rfl (tyX8_ok 10 (by decide)) rfl rfl (Nat.le_of_ble_eq_true rfl) dX8_next_109 (fun H locs hP hD hS => ?_)
          have hP : va_P D vwCl (dW ad r kb ko kt km ca sizeR madeLocks hasBlocks omened highest atR atR (2 : Int32) (0 : Int32) k_blocks k_guarded k_trains k_omen k_train madeLockA kept locks seenMany bumpMinute bumpBlock bumpTrains waited keptOut used taped fault costSum safeSum allWays torn tape) H := hP
          have hD : va_D A (dW ad r kb ko kt km ca sizeR madeLocks hasBlocks omened highest atR atR (2 : Int32) (0 : Int32) k_blocks k_guarded k_trains k_omen k_train madeLockA kept locks seenMany bumpMinute bumpBlock bumpTrains waited keptOut used taped fault costSum safeSum allWays torn tape) := hD
          obtain ⟨n_20, G⟩ := G
          refine w_R_next_L112 CE (fun atR_21 valueR_22 G ls H locs hl hP hD hS => ?_) hX n_20 _ _ G _ _ _ (lv_sub hl [0] rfl) hP hD hS
          refine lv_aload_n hx hb dX8_next_183 rfl (lv_at hl 0 rfl) ?_
          refine lv_aload_n hx hb dX8_next_184 rfl (lv_at hl 0 rfl) ?_
          refine va_get hx hb hts in_X8 hown hK hP 0 rfl rfl 7 (by decide) (hts _ q397) (fun _ h => h) rfl dX8_next_185 ?_
          refine lv_aload_n hx hb dX8_next_188 rfl (lv_at hl 0 rfl) ?_
          refine va_get hx hb hts in_X8 hown hK hP 0 rfl rfl 8 (by decide) (hts _ q398) (fun _ h => h) rfl dX8_next_189 ?_
          refine lv_isub hx hb dX8_next_192 ?_
          refine lv_iconst (v := 3) hx hb dX8_next_193 (by decide) ?_
          have hJ : ∀ (H : Heap) (locs : List Loc), va_P D vwCl (dW ad r kb ko kt km ca sizeR madeLocks hasBlocks omened highest atR_21 atR (2 : Int32) valueR_22 k_blocks k_guarded k_trains k_omen k_train madeLockA kept locks seenMany bumpMinute bumpBlock bumpTrains waited keptOut used taped fault costSum safeSum allWays torn tape) H → va_D A (dW ad r kb ko kt km ca sizeR madeLocks hasBlocks omened highest atR_21 atR (2 : Int32) valueR_22 k_blocks k_guarded k_trains k_omen k_train madeLockA kept locks seenMany bumpMinute bumpBlock bumpTrains waited keptOut used taped fault costSum safeSum allWays torn tape) → va_S A s.heap H locs → ∀ v_25 : Int32, v_25 = (if (3 : Int32) ≤ (atR_21 - atR) then (0 : Int32) else (1 : Int32)) → W p l e rm_R_next s m args below meth c H locs 0 0 Z (F0 m 202 ls (.int v_25 :: [.ref r])) := by
            intro H locs hP hD hS v_25 hv
            subst hv
            refine lv_iconst (v := 1) hx hb dX8_next_202 (by decide) ?_
            refine wy_Vv (As := [.int (if (3 : Int32) ≤ (atR_21 - atR) then (0 : Int32) else (1 : Int32)), .int (1 : Int32)]) (rest := []) C hE hnh hX (met_R_need l D sk sv ad r kb ko kt km ca H.size sizeR madeLocks hasBlocks omened highest atR_21 atR (2 : Int32) valueR_22 k_blocks k_guarded k_trains k_omen k_train madeLockA kept locks seenMany bumpMinute bumpBlock bumpTrains waited keptOut used taped fault costSum safeSum allWays torn tape (if (3 : Int32) ≤ (atR_21 - atR) then (0 : Int32) else (1 : Int32)) (1 : Int32) _ _ G) (cwV 2 hts (lw_V q299 q301 qs2 q76 q302) rfl rfl rfl (by decide +kernel) ⟨Nat.le_of_ble_eq_true rfl, Nat.le_of_ble_eq_true rfl⟩) hP hD hS 0 rfl rfl rfl rfl hl.1 (Nat.le_of_ble_eq_true rfl) dX8_next_203 ⟨Nat.le_of_ble_eq_true rfl, Nat.le_of_ble_eq_true rfl⟩ (fun u H locs G hP hD hS => ?_)
            have hP : va_P D vwCl (dW ad r kb ko kt km ca sizeR madeLocks hasBlocks omened highest atR_21 atR (2 : Int32) valueR_22 k_blocks k_guarded k_trains k_omen k_train madeLockA kept locks seenMany bumpMinute bumpBlock bumpTrains waited keptOut used taped fault costSum safeSum allWays torn tape) H := hP
            have hD : va_D A (dW ad r kb ko kt km ca sizeR madeLocks hasBlocks omened highest atR_21 atR (2 : Int32) valueR_22 k_blocks k_guarded k_trains k_omen k_train madeLockA kept locks seenMany bumpMinute bumpBlock bumpTrains waited keptOut used taped fault costSum safeSum allWays torn tape) := hD
            refine lv_goto (tgt := 237) hx hb dX8_next_206 (by decide) ?_
            rw [hZ]
            refine vy_ret ?_
            exact W.vret hx hb hr (fun t ht hW => ⟨⟨(atR_21, atR, (2 : Int32), valueR_22), rfl, G, by rw [ht]; exact hP, hD⟩, hS.F ht⟩) hS.2.2 dX8_next_237 hlocks
          refine lv_icmp_ge (tgt := 201) hx hb dX8_next_194 (by decide) (fun c_23 => ?_) (fun c_23 => ?_)
          · refine lv_iconst (v := 0) hx hb dX8_next_201 (by decide) ?_
            exact hJ _ _ hP hD hS _ (eT c_23 rfl)
          · refine lv_iconst (v := 1) hx hb dX8_next_197 (by decide) ?_
            refine lv_goto (tgt := 202) hx hb dX8_next_198 (by decide) ?_
            exact hJ _ _ hP hD hS _ (eF c_23 rfl)
      · have G := G.2 c_7
        refine lv_aload_n hx hb dX8_next_62 rfl (lv_at hl 0 rfl) ?_
        refine lv_iconst (v := 1) hx hb dX8_next_63 (by decide) ?_
        refine va_put hx hb hts in_X8 tyX8 tyX8_ok nmX8 hown hK hP hD hS 0 rfl rfl 9 (by decide) (hts _ q399) (fun _ h => h) rfl (tyX8_ok 9 (by decide)) rfl rfl (Nat.le_of_ble_eq_true rfl) dX8_next_64 (fun H locs hP hD hS => ?_)
        have hP : va_P D vwCl (dW ad r kb ko kt km ca sizeR madeLocks hasBlocks omened highest atR atR (1 : Int32) valueR k_blocks k_guarded k_trains k_omen k_train madeLockA kept locks seenMany bumpMinute bumpBlock bumpTrains waited keptOut used taped fault costSum safeSum allWays torn tape) H := hP
        have hD : va_D A (dW ad r kb ko kt km ca sizeR madeLocks hasBlocks omened highest atR atR (1 : Int32) valueR k_blocks k_guarded k_trains k_omen k_train madeLockA kept locks seenMany bumpMinute bumpBlock bumpTrains waited keptOut used taped fault costSum safeSum allWays torn tape) := hD
        obtain ⟨n_29, G⟩ := G
        refine w_R_next_L67 CE (fun atR_30 G ls H locs hl hP hD hS => ?_) hX n_29 _ G _ _ _ (lv_sub hl [0] rfl) hP hD hS
        rw [hZ]
        refine vy_ret ?_
        exact W.vret hx hb hr (fun t ht hW => ⟨⟨(atR_30, atR, (1 : Int32), valueR), rfl, G, by rw [ht]; exact hP, hD⟩, hS.F ht⟩) hS.2.2 dX8_next_237 hlocks
    · have G := G.1 c_4
      refine lv_aload_n hx hb dX8_next_43 rfl (lv_at hl 0 rfl) ?_
      refine lv_iconst (v := 0) hx hb dX8_next_44 (by decide) ?_
      refine va_put hx hb hts in_X8 tyX8 tyX8_ok nmX8 hown hK hP hD hS 0 rfl rfl 9 (by decide) (hts _ q399) (fun _ h => h) rfl (tyX8_ok 9 (by decide)) rfl rfl (Nat.le_of_ble_eq_true rfl) dX8_next_45 (fun H locs hP hD hS => ?_)
      have hP : va_P D vwCl (dW ad r kb ko kt km ca sizeR madeLocks hasBlocks omened highest atR atR (0 : Int32) valueR k_blocks k_guarded k_trains k_omen k_train madeLockA kept locks seenMany bumpMinute bumpBlock bumpTrains waited keptOut used taped fault costSum safeSum allWays torn tape) H := hP
      have hD : va_D A (dW ad r kb ko kt km ca sizeR madeLocks hasBlocks omened highest atR atR (0 : Int32) valueR k_blocks k_guarded k_trains k_omen k_train madeLockA kept locks seenMany bumpMinute bumpBlock bumpTrains waited keptOut used taped fault costSum safeSum allWays torn tape) := hD
      refine lv_goto (tgt := 237) hx hb dX8_next_48 (by decide) ?_
      rw [hZ]
      refine vy_ret ?_
      exact W.vret hx hb hr (fun t ht hW => ⟨⟨(atR, atR, (0 : Int32), valueR), rfl, G, by rw [ht]; exact hP, hD⟩, hS.F ht⟩) hS.2.2 dX8_next_237 hlocks
  · have G := G.2 c_3
    refine lv_aload_n hx hb dX8_next_11 rfl (lv_at hl 0 rfl) ?_
    refine lv_dup hx hb dX8_next_12 rfl ?_
    refine va_get hx hb hts in_X8 hown hK hP 0 rfl rfl 7 (by decide) (hts _ q397) (fun _ h => h) rfl dX8_next_13 ?_
    refine lv_iconst (v := 1) hx hb dX8_next_16 (by decide) ?_
    refine lv_iadd hx hb dX8_next_17 ?_
    refine va_put hx hb hts in_X8 tyX8 tyX8_ok nmX8 hown hK hP hD hS 0 rfl rfl 7 (by decide) (hts _ q397) (fun _ h => h) rfl (tyX8_ok 7 (by decide)) rfl rfl (Nat.le_of_ble_eq_true rfl) dX8_next_18 (fun H locs hP hD hS => ?_)
    have hP : va_P D vwCl (dW ad r kb ko kt km ca sizeR madeLocks hasBlocks omened highest (atR + (1 : Int32)) fromR sortR valueR k_blocks k_guarded k_trains k_omen k_train madeLockA kept locks seenMany bumpMinute bumpBlock bumpTrains waited keptOut used taped fault costSum safeSum allWays torn tape) H := hP
    have hD : va_D A (dW ad r kb ko kt km ca sizeR madeLocks hasBlocks omened highest (atR + (1 : Int32)) fromR sortR valueR k_blocks k_guarded k_trains k_omen k_train madeLockA kept locks seenMany bumpMinute bumpBlock bumpTrains waited keptOut used taped fault costSum safeSum allWays torn tape) := hD
    refine lv_goto (tgt := 0) hx hb dX8_next_21 (by decide) ?_
    obtain ⟨n_34, G⟩ := G
    refine w_R_next_L0 CE (fun atR_35 G ls H locs hl hP hD hS => ?_) hX n_34 _ G _ _ _ (lv_sub hl [0] rfl) hP hD hS
    refine lv_aload_n hx hb dX8_next_24 rfl (lv_at hl 0 rfl) ?_
    refine lv_aload_n hx hb dX8_next_25 rfl (lv_at hl 0 rfl) ?_
    refine va_get hx hb hts in_X8 hown hK hP 0 rfl rfl 7 (by decide) (hts _ q397) (fun _ h => h) rfl dX8_next_26 ?_
    refine va_put hx hb hts in_X8 tyX8 tyX8_ok nmX8 hown hK hP hD hS 0 rfl rfl 8 (by decide) (hts _ q398) (fun _ h => h) rfl (tyX8_ok 8 (by decide)) rfl rfl (Nat.le_of_ble_eq_true rfl) dX8_next_29 (fun H locs hP hD hS => ?_)
    have hP : va_P D vwCl (dW ad r kb ko kt km ca sizeR madeLocks hasBlocks omened highest atR_35 atR_35 sortR valueR k_blocks k_guarded k_trains k_omen k_train madeLockA kept locks seenMany bumpMinute bumpBlock bumpTrains waited keptOut used taped fault costSum safeSum allWays torn tape) H := hP
    have hD : va_D A (dW ad r kb ko kt km ca sizeR madeLocks hasBlocks omened highest atR_35 atR_35 sortR valueR k_blocks k_guarded k_trains k_omen k_train madeLockA kept locks seenMany bumpMinute bumpBlock bumpTrains waited keptOut used taped fault costSum safeSum allWays torn tape) := hD
    refine lv_aload_n hx hb dX8_next_32 rfl (lv_at hl 0 rfl) ?_
    refine va_get hx hb hts in_X8 hown hK hP 0 rfl rfl 7 (by decide) (hts _ q397) (fun _ h => h) rfl dX8_next_33 ?_
    refine lv_aload_n hx hb dX8_next_36 rfl (lv_at hl 0 rfl) ?_
    refine va_get hx hb hts in_X8 hown hK hP 0 rfl rfl 0 (by decide) (hts _ q387) (fun _ h => h) rfl dX8_next_37 ?_
    refine lv_icmp_ne (tgt := 51) hx hb dX8_next_40 (by decide) (fun c_36 => ?_) (fun c_36 => ?_)
    · have G := G.2 c_36
      refine lv_aload_n hx hb dX8_next_51 rfl (lv_at hl 0 rfl) ?_
      refine lv_bipush (v := 97) hx hb dX8_next_52 (by decide) ?_
      refine lv_bipush (v := 122) hx hb dX8_next_54 (by decide) ?_
      obtain ⟨h_37, G⟩ := G
      refine wc_Vik (As := [.int (97 : Int32), .int (122 : Int32)]) (rest := []) C (met_R_isIn l D ad r kb ko kt km ca H.size sizeR madeLocks hasBlocks omened highest atR_35 atR_35 sortR valueR k_blocks k_guarded k_trains k_omen k_train madeLockA kept locks seenMany bumpMinute bumpBlock bumpTrains waited keptOut used taped fault costSum safeSum allWays torn tape (97 : Int32) (122 : Int32) h_37) (cwV 2 hts (lw_V q295 q297 qs1 q76 q298) rfl rfl rfl (by decide +kernel) ⟨Nat.le_of_ble_eq_true rfl, Nat.le_of_ble_eq_true rfl⟩) hP hD hS (List.range _) (wc_self _) (wc_nd _) 0 rfl rfl rfl rfl hl.1 (Nat.le_of_ble_eq_true rfl) dX8_next_56 ⟨Nat.le_of_ble_eq_true rfl, Nat.le_of_ble_eq_true rfl⟩ (fun r_38 u H locs hr hP hD hS => ?_)
      subst hr
      refine lv_if_eq (tgt := 91) hx hb dX8_next_59 (by decide) (fun c_39 => ?_) (fun c_39 => ?_)
      · have G := G.1 c_39
        refine lv_aload_n hx hb dX8_next_91 rfl (lv_at hl 0 rfl) ?_
        refine lv_bipush (v := 48) hx hb dX8_next_92 (by decide) ?_
        refine lv_bipush (v := 57) hx hb dX8_next_94 (by decide) ?_
        obtain ⟨h_40, G⟩ := G
        refine wc_Vik (As := [.int (48 : Int32), .int (57 : Int32)]) (rest := []) C (met_R_isIn l D ad r kb ko kt km ca H.size sizeR madeLocks hasBlocks omened highest atR_35 atR_35 sortR valueR k_blocks k_guarded k_trains k_omen k_train madeLockA kept locks seenMany bumpMinute bumpBlock bumpTrains waited keptOut used taped fault costSum safeSum allWays torn tape (48 : Int32) (57 : Int32) h_40) (cwV 2 hts (lw_V q295 q297 qs1 q76 q298) rfl rfl rfl (by decide +kernel) ⟨Nat.le_of_ble_eq_true rfl, Nat.le_of_ble_eq_true rfl⟩) hP hD hS (List.range _) (wc_self _) (wc_nd _) 0 rfl rfl rfl rfl hl.1 (Nat.le_of_ble_eq_true rfl) dX8_next_96 ⟨Nat.le_of_ble_eq_true rfl, Nat.le_of_ble_eq_true rfl⟩ (fun r_41 u H locs hr hP hD hS => ?_)
        subst hr
        refine lv_if_eq (tgt := 209) hx hb dX8_next_99 (by decide) (fun c_42 => ?_) (fun c_42 => ?_)
        · have G := G.1 c_42
          refine lv_aload_n hx hb dX8_next_209 rfl (lv_at hl 0 rfl) ?_
          refine lv_iconst (v := 3) hx hb dX8_next_210 (by decide) ?_
          refine va_put hx hb hts in_X8 tyX8 tyX8_ok nmX8 hown hK hP hD hS 0 rfl rfl 9 (by decide) (hts _ q399) (fun _ h => h) rfl (tyX8_ok 9 (by decide)) rfl rfl (Nat.le_of_ble_eq_true rfl) dX8_next_211 (fun H locs hP hD hS => ?_)
          have hP : va_P D vwCl (dW ad r kb ko kt km ca sizeR madeLocks hasBlocks omened highest atR_35 atR_35 (3 : Int32) valueR k_blocks k_guarded k_trains k_omen k_train madeLockA kept locks seenMany bumpMinute bumpBlock bumpTrains waited keptOut used taped fault costSum safeSum allWays torn tape) H := hP
          have hD : va_D A (dW ad r kb ko kt km ca sizeR madeLocks hasBlocks omened highest atR_35 atR_35 (3 : Int32) valueR k_blocks k_guarded k_trains k_omen k_train madeLockA kept locks seenMany bumpMinute bumpBlock bumpTrains waited keptOut used taped fault costSum safeSum allWays torn tape) := hD
          refine lv_aload_n hx hb dX8_next_214 rfl (lv_at hl 0 rfl) ?_
          refine lv_aload_n hx hb dX8_next_215 rfl (lv_at hl 0 rfl) ?_
          refine lv_bipush (v := 59) hx hb dX8_next_216 (by decide) ?_
          refine lv_bipush (v := 59) hx hb dX8_next_218 (by decide) ?_
          obtain ⟨h_43, G⟩ := G
          refine wc_Vik (As := [.int (59 : Int32), .int (59 : Int32)]) (rest := [.ref r]) C (met_R_isIn l D ad r kb ko kt km ca H.size sizeR madeLocks hasBlocks omened highest atR_35 atR_35 (3 : Int32) valueR k_blocks k_guarded k_trains k_omen k_train madeLockA kept locks seenMany bumpMinute bumpBlock bumpTrains waited keptOut used taped fault costSum safeSum allWays torn tape (59 : Int32) (59 : Int32) h_43) (cwV 2 hts (lw_V q295 q297 qs1 q76 q298) rfl rfl rfl (by decide +kernel) ⟨Nat.le_of_ble_eq_true rfl, Nat.le_of_ble_eq_true rfl⟩) hP hD hS (List.range _) (wc_self _) (wc_nd _) 0 rfl rfl rfl rfl hl.1 (Nat.le_of_ble_eq_true rfl) dX8_next_220 ⟨Nat.le_of_ble_eq_true rfl, Nat.le_of_ble_eq_true rfl⟩ (fun r_44 u H locs hr hP hD hS => ?_)
          subst hr
          refine lv_iconst (v := 1) hx hb dX8_next_223 (by decide) ?_
          refine wy_Vv (As := [.int (R_isIn_e sizeR atR_35 tape (59 : Int32) (59 : Int32)), .int (1 : Int32)]) (rest := []) C hE hnh hX (met_R_need l D sk sv ad r kb ko kt km ca H.size sizeR madeLocks hasBlocks omened highest atR_35 atR_35 (3 : Int32) valueR k_blocks k_guarded k_trains k_omen k_train madeLockA kept locks seenMany bumpMinute bumpBlock bumpTrains waited keptOut used taped fault costSum safeSum allWays torn tape (R_isIn_e sizeR atR_35 tape (59 : Int32) (59 : Int32)) (1 : Int32) _ _ G) (cwV 2 hts (lw_V q299 q301 qs2 q76 q302) rfl rfl rfl (by decide +kernel) ⟨Nat.le_of_ble_eq_true rfl, Nat.le_of_ble_eq_true rfl⟩) hP hD hS 0 rfl rfl rfl rfl hl.1 (Nat.le_of_ble_eq_true rfl) dX8_next_224 ⟨Nat.le_of_ble_eq_true rfl, Nat.le_of_ble_eq_true rfl⟩ (fun u H locs G hP hD hS => ?_)
          have hP : va_P D vwCl (dW ad r kb ko kt km ca sizeR madeLocks hasBlocks omened highest atR_35 atR_35 (3 : Int32) valueR k_blocks k_guarded k_trains k_omen k_train madeLockA kept locks seenMany bumpMinute bumpBlock bumpTrains waited keptOut used taped fault costSum safeSum allWays torn tape) H := hP
          have hD : va_D A (dW ad r kb ko kt km ca sizeR madeLocks hasBlocks omened highest atR_35 atR_35 (3 : Int32) valueR k_blocks k_guarded k_trains k_omen k_train madeLockA kept locks seenMany bumpMinute bumpBlock bumpTrains waited keptOut used taped fault costSum safeSum allWays torn tape) := hD
          refine lv_aload_n hx hb dX8_next_227 rfl (lv_at hl 0 rfl) ?_
          refine lv_dup hx hb dX8_next_228 rfl ?_
          refine va_get hx hb hts in_X8 hown hK hP 0 rfl rfl 7 (by decide) (hts _ q397) (fun _ h => h) rfl dX8_next_229 ?_
          refine lv_iconst (v := 1) hx hb dX8_next_232 (by decide) ?_
          refine lv_iadd hx hb dX8_next_233 ?_
          refine va_put hx hb hts in_X8 tyX8 tyX8_ok nmX8 hown hK hP hD hS 0 rfl rfl 7 (by decide) (hts _ q397) (fun _ h => h) rfl (tyX8_ok 7 (by decide)) rfl rfl (Nat.le_of_ble_eq_true rfl) dX8_next_234 (fun H locs hP hD hS => ?_)
          have hP : va_P D vwCl (dW ad r kb ko kt km ca sizeR madeLocks hasBlocks omened highest (atR_35 + (1 : Int32)) atR_35 (3 : Int32) valueR k_blocks k_guarded k_trains k_omen k_train madeLockA kept locks seenMany bumpMinute bumpBlock bumpTrains waited keptOut used taped fault costSum safeSum allWays torn tape) H := hP
          have hD : va_D A (dW ad r kb ko kt km ca sizeR madeLocks hasBlocks omened highest (atR_35 + (1 : Int32)) atR_35 (3 : Int32) valueR k_blocks k_guarded k_trains k_omen k_train madeLockA kept locks seenMany bumpMinute bumpBlock bumpTrains waited keptOut used taped fault costSum safeSum allWays torn tape) := hD
          rw [hZ]
          refine vy_ret ?_
          exact W.vret hx hb hr (fun t ht hW => ⟨⟨((atR_35 + (1 : Int32)), atR_35, (3 : Int32), valueR), rfl, G, by rw [ht]; exact hP, hD⟩, hS.F ht⟩) hS.2.2 dX8_next_237 hlocks
        · have G := G.2 c_42
          refine lv_aload_n hx hb dX8_next_102 rfl (lv_at hl 0 rfl) ?_
          refine lv_iconst (v := 2) hx hb dX8_next_103 (by decide) ?_
          refine va_put hx hb hts in_X8 tyX8 tyX8_ok nmX8 hown hK hP hD hS 0 rfl rfl 9 (by decide) (hts _ q399) (fun _ h => h) rfl (tyX8_ok 9 (by decide)) rfl rfl (Nat.le_of_ble_eq_true rfl) dX8_next_104 (fun H locs hP hD hS => ?_)
          have hP : va_P D vwCl (dW ad r kb ko kt km ca sizeR madeLocks hasBlocks omened highest atR_35 atR_35 (2 : Int32) valueR k_blocks k_guarded k_trains k_omen k_train madeLockA kept locks seenMany bumpMinute bumpBlock bumpTrains waited keptOut used taped fault costSum safeSum allWays torn tape) H := hP
          have hD : va_D A (dW ad r kb ko kt km ca sizeR madeLocks hasBlocks omened highest atR_35 atR_35 (2 : Int32) valueR k_blocks k_guarded k_trains k_omen k_train madeLockA kept locks seenMany bumpMinute bumpBlock bumpTrains waited keptOut used taped fault costSum safeSum allWays torn tape) := hD
          refine lv_aload_n hx hb dX8_next_107 rfl (lv_at hl 0 rfl) ?_
          refine lv_iconst (v := 0) hx hb dX8_next_108 (by decide) ?_
          refine va_put hx hb hts in_X8 tyX8 tyX8_ok nmX8 hown hK hP hD hS 0 rfl rfl 10 (by decide) (hts _ q400) (fun _ h => h) rfl (tyX8_ok 10 (by decide)) rfl rfl (Nat.le_of_ble_eq_true rfl) dX8_next_109 (fun H locs hP hD hS => ?_)
          have hP : va_P D vwCl (dW ad r kb ko kt km ca sizeR madeLocks hasBlocks omened highest atR_35 atR_35 (2 : Int32) (0 : Int32) k_blocks k_guarded k_trains k_omen k_train madeLockA kept locks seenMany bumpMinute bumpBlock bumpTrains waited keptOut used taped fault costSum safeSum allWays torn tape) H := hP
          have hD : va_D A (dW ad r kb ko kt km ca sizeR madeLocks hasBlocks omened highest atR_35 atR_35 (2 : Int32) (0 : Int32) k_blocks k_guarded k_trains k_omen k_train madeLockA kept locks seenMany bumpMinute bumpBlock bumpTrains waited keptOut used taped fault costSum safeSum allWays torn tape) := hD
          obtain ⟨n_46, G⟩ := G
          refine w_R_next_L112 CE (fun atR_47 valueR_48 G ls H locs hl hP hD hS => ?_) hX n_46 _ _ G _ _ _ (lv_sub hl [0] rfl) hP hD hS
          refine lv_aload_n hx hb dX8_next_183 rfl (lv_at hl 0 rfl) ?_
          refine lv_aload_n hx hb dX8_next_184 rfl (lv_at hl 0 rfl) ?_
          refine va_get hx hb hts in_X8 hown hK hP 0 rfl rfl 7 (by decide) (hts _ q397) (fun _ h => h) rfl dX8_next_185 ?_
          refine lv_aload_n hx hb dX8_next_188 rfl (lv_at hl 0 rfl) ?_
          refine va_get hx hb hts in_X8 hown hK hP 0 rfl rfl 8 (by decide) (hts _ q398) (fun _ h => h) rfl dX8_next_189 ?_
          refine lv_isub hx hb dX8_next_192 ?_
          refine lv_iconst (v := 3) hx hb dX8_next_193 (by decide) ?_
          have hJ : ∀ (H : Heap) (locs : List Loc), va_P D vwCl (dW ad r kb ko kt km ca sizeR madeLocks hasBlocks omened highest atR_47 atR_35 (2 : Int32) valueR_48 k_blocks k_guarded k_trains k_omen k_train madeLockA kept locks seenMany bumpMinute bumpBlock bumpTrains waited keptOut used taped fault costSum safeSum allWays torn tape) H → va_D A (dW ad r kb ko kt km ca sizeR madeLocks hasBlocks omened highest atR_47 atR_35 (2 : Int32) valueR_48 k_blocks k_guarded k_trains k_omen k_train madeLockA kept locks seenMany bumpMinute bumpBlock bumpTrains waited keptOut used taped fault costSum safeSum allWays torn tape) → va_S A s.heap H locs → ∀ v_51 : Int32, v_51 = (if (3 : Int32) ≤ (atR_47 - atR_35) then (0 : Int32) else (1 : Int32)) → W p l e rm_R_next s m args below meth c H locs 0 0 Z (F0 m 202 ls (.int v_51 :: [.ref r])) := by
            intro H locs hP hD hS v_51 hv
            subst hv
            refine lv_iconst (v := 1) hx hb dX8_next_202 (by decide) ?_
            refine wy_Vv (As := [.int (if (3 : Int32) ≤ (atR_47 - atR_35) then (0 : Int32) else (1 : Int32)), .int (1 : Int32)]) (rest := []) C hE hnh hX (met_R_need l D sk sv ad r kb ko kt km ca H.size sizeR madeLocks hasBlocks omened highest atR_47 atR_35 (2 : Int32) valueR_48 k_blocks k_guarded k_trains k_omen k_train madeLockA kept locks seenMany bumpMinute bumpBlock bumpTrains waited keptOut used taped fault costSum safeSum allWays torn tape (if (3 : Int32) ≤ (atR_47 - atR_35) then (0 : Int32) else (1 : Int32)) (1 : Int32) _ _ G) (cwV 2 hts (lw_V q299 q301 qs2 q76 q302) rfl rfl rfl (by decide +kernel) ⟨Nat.le_of_ble_eq_true rfl, Nat.le_of_ble_eq_true rfl⟩) hP hD hS 0 rfl rfl rfl rfl hl.1 (Nat.le_of_ble_eq_true rfl) dX8_next_203 ⟨Nat.le_of_ble_eq_true rfl, Nat.le_of_ble_eq_true rfl⟩ (fun u H locs G hP hD hS => ?_)
            have hP : va_P D vwCl (dW ad r kb ko kt km ca sizeR madeLocks hasBlocks omened highest atR_47 atR_35 (2 : Int32) valueR_48 k_blocks k_guarded k_trains k_omen k_train madeLockA kept locks seenMany bumpMinute bumpBlock bumpTrains waited keptOut used taped fault costSum safeSum allWays torn tape) H := hP
            have hD : va_D A (dW ad r kb ko kt km ca sizeR madeLocks hasBlocks omened highest atR_47 atR_35 (2 : Int32) valueR_48 k_blocks k_guarded k_trains k_omen k_train madeLockA kept locks seenMany bumpMinute bumpBlock bumpTrains waited keptOut used taped fault costSum safeSum allWays torn tape) := hD
            refine lv_goto (tgt := 237) hx hb dX8_next_206 (by decide) ?_
            rw [hZ]
            refine vy_ret ?_
            exact W.vret hx hb hr (fun t ht hW => ⟨⟨(atR_47, atR_35, (2 : Int32), valueR_48), rfl, G, by rw [ht]; exact hP, hD⟩, hS.F ht⟩) hS.2.2 dX8_next_237 hlocks
          refine lv_icmp_ge (tgt := 201) hx hb dX8_next_194 (by decide) (fun c_49 => ?_) (fun c_49 => ?_)
          · refine lv_iconst (v := 0) hx hb dX8_next_201 (by decide) ?_
            exact hJ _ _ hP hD hS _ (eT c_49 rfl)
          · refine lv_iconst (v := 1) hx hb dX8_next_197 (by decide) ?_
            refine lv_goto (tgt := 202) hx hb dX8_next_198 (by decide) ?_
            exact hJ _ _ hP hD hS _ (eF c_49 rfl)
      · have G := G.2 c_39
        refine lv_aload_n hx hb dX8_next_62 rfl (lv_at hl 0 rfl) ?_
        refine lv_iconst (v := 1) hx hb dX8_next_63 (by decide) ?_
        refine va_put hx hb hts in_X8 tyX8 tyX8_ok nmX8 hown hK hP hD hS 0 rfl rfl 9 (by decide) (hts _ q399) (fun _ h => h) rfl (tyX8_ok 9 (by decide)) rfl rfl (Nat.le_of_ble_eq_true rfl) dX8_next_64 (fun H locs hP hD hS => ?_)
        have hP : va_P D vwCl (dW ad r kb ko kt km ca sizeR madeLocks hasBlocks omened highest atR_35 atR_35 (1 : Int32) valueR k_blocks k_guarded k_trains k_omen k_train madeLockA kept locks seenMany bumpMinute bumpBlock bumpTrains waited keptOut used taped fault costSum safeSum allWays torn tape) H := hP
        have hD : va_D A (dW ad r kb ko kt km ca sizeR madeLocks hasBlocks omened highest atR_35 atR_35 (1 : Int32) valueR k_blocks k_guarded k_trains k_omen k_train madeLockA kept locks seenMany bumpMinute bumpBlock bumpTrains waited keptOut used taped fault costSum safeSum allWays torn tape) := hD
        obtain ⟨n_52, G⟩ := G
        refine w_R_next_L67 CE (fun atR_53 G ls H locs hl hP hD hS => ?_) hX n_52 _ G _ _ _ (lv_sub hl [0] rfl) hP hD hS
        rw [hZ]
        refine vy_ret ?_
        exact W.vret hx hb hr (fun t ht hW => ⟨⟨(atR_53, atR_35, (1 : Int32), valueR), rfl, G, by rw [ht]; exact hP, hD⟩, hS.F ht⟩) hS.2.2 dX8_next_237 hlocks
    · have G := G.1 c_36
      refine lv_aload_n hx hb dX8_next_43 rfl (lv_at hl 0 rfl) ?_
      refine lv_iconst (v := 0) hx hb dX8_next_44 (by decide) ?_
      refine va_put hx hb hts in_X8 tyX8 tyX8_ok nmX8 hown hK hP hD hS 0 rfl rfl 9 (by decide) (hts _ q399) (fun _ h => h) rfl (tyX8_ok 9 (by decide)) rfl rfl (Nat.le_of_ble_eq_true rfl) dX8_next_45 (fun H locs hP hD hS => ?_)
      have hP : va_P D vwCl (dW ad r kb ko kt km ca sizeR madeLocks hasBlocks omened highest atR_35 atR_35 (0 : Int32) valueR k_blocks k_guarded k_trains k_omen k_train madeLockA kept locks seenMany bumpMinute bumpBlock bumpTrains waited keptOut used taped fault costSum safeSum allWays torn tape) H := hP
      have hD : va_D A (dW ad r kb ko kt km ca sizeR madeLocks hasBlocks omened highest atR_35 atR_35 (0 : Int32) valueR k_blocks k_guarded k_trains k_omen k_train madeLockA kept locks seenMany bumpMinute bumpBlock bumpTrains waited keptOut used taped fault costSum safeSum allWays torn tape) := hD
      refine lv_goto (tgt := 237) hx hb dX8_next_48 (by decide) ?_
      rw [hZ]
      refine vy_ret ?_
      exact W.vret hx hb hr (fun t ht hW => ⟨⟨(atR_35, atR_35, (0 : Int32), valueR), rfl, G, by rw [ht]; exact hP, hD⟩, hS.F ht⟩) hS.2.2 dX8_next_237 hlocks
abbrev rm_R_looked : Room := { frames := 6, cells := 1, slots := 8, locals := 172 }
set_option maxHeartbeats 4000000 in
theorem met_R_looked (l : Launch) (D : va_G) (sk sv : Nat → Nat) (ad : Nat → Nat) (r : Nat) (kb : Nat) (ko : Nat) (kt : Nat) (km : Nat) (ca : Nat → ClassId) (sz : Nat) (sizeR : Int32) (madeLocks : Int32) (hasBlocks : Int32) (omened : Int32) (highest : Int32) (atR : Int32) (fromR : Int32) (sortR : Int32) (valueR : Int32) (k_blocks : Int32) (k_guarded : Int32) (k_trains : Int32) (k_omen : Nat → Int32) (k_train : Nat → Int32) (madeLockA : Nat → Int32) (kept : Int32) (locks : Int32) (seenMany : Int32) (bumpMinute : Int32) (bumpBlock : Int32) (bumpTrains : Int32) (waited : Int32) (keptOut : Int32) (used : Int32) (taped : Int32) (fault : Int32) (costSum : Int64) (safeSum : Int64) (allWays : Int64) (torn : Int32) (tape : Nat → Int32) (x1 : Int32) (x2 : Int32) (Q : Int32 → Prop) (X : Int32 → Int32 → Prop) (G : R_looked fromR sortR valueR x1 x2 Q X) : vy_Met l yX8_looked (ws_ yX8_looked cX8_looked 3 (some .int)) rm_R_looked (va_Pc [.ref r, .int x1, .int x2] (wpreE D vwCl (tyL ca) sk sv (dW ad r kb ko kt km ca sizeR madeLocks hasBlocks omened highest atR fromR sortR valueR k_blocks k_guarded k_trains k_omen k_train madeLockA kept locks seenMany bumpMinute bumpBlock bumpTrains waited keptOut used taped fault costSum safeSum allWays torn tape) sz)) (va_Qi (fun (r : Int32) (u : Unit) => Q r) (wpost D vwCl (va_A (dW ad r kb ko kt km ca sizeR madeLocks hasBlocks omened highest atR fromR sortR valueR k_blocks k_guarded k_trains k_omen k_train madeLockA kept locks seenMany bumpMinute bumpBlock bumpTrains waited keptOut used taped fault costSum safeSum allWays torn tape) sz) (fun (u : Unit) => (dW ad r kb ko kt km ca sizeR madeLocks hasBlocks omened highest atR fromR sortR valueR k_blocks k_guarded k_trains k_omen k_train madeLockA kept locks seenMany bumpMinute bumpBlock bumpTrains waited keptOut used taped fault costSum safeSum allWays torn tape))) (va_A (dW ad r kb ko kt km ca sizeR madeLocks hasBlocks omened highest atR fromR sortR valueR k_blocks k_guarded k_trains k_omen k_train madeLockA kept locks seenMany bumpMinute bumpBlock bumpTrains waited keptOut used taped fault costSum safeSum allWays torn tape) sz)) (vx_X (fun (u : Int32 × Int32) => X u.1 u.2) (fltB D vwCl (dK ad ca kept locks seenMany bumpMinute bumpBlock bumpTrains waited keptOut used taped fault costSum safeSum allWays torn tape) (va_A (dW ad r kb ko kt km ca sizeR madeLocks hasBlocks omened highest atR fromR sortR valueR k_blocks k_guarded k_trains k_omen k_train madeLockA kept locks seenMany bumpMinute bumpBlock bumpTrains waited keptOut used taped fault costSum safeSum allWays torn tape) sz)) (va_A (dW ad r kb ko kt km ca sizeR madeLocks hasBlocks omened highest atR fromR sortR valueR k_blocks k_guarded k_trains k_omen k_train madeLockA kept locks seenMany bumpMinute bumpBlock bumpTrains waited keptOut used taped fault costSum safeSum allWays torn tape) sz)) 0 0 1 8 (va_A (dW ad r kb ko kt km ca sizeR madeLocks hasBlocks omened highest atR fromR sortR valueR k_blocks k_guarded k_trains k_omen k_train madeLockA kept locks seenMany bumpMinute bumpBlock bumpTrains waited keptOut used taped fault costSum safeSum allWays torn tape) sz) := by
  refine met_ofX (fun A => (va_Qi (fun (r : Int32) (u : Unit) => Q r) (wpost D vwCl A (fun (u : Unit) => (dW ad r kb ko kt km ca sizeR madeLocks hasBlocks omened highest atR fromR sortR valueR k_blocks k_guarded k_trains k_omen k_train madeLockA kept locks seenMany bumpMinute bumpBlock bumpTrains waited keptOut used taped fault costSum safeSum allWays torn tape))) A)) (fun A => (vx_X (fun (u : Int32 × Int32) => X u.1 u.2) (fltB D vwCl (dK ad ca kept locks seenMany bumpMinute bumpBlock bumpTrains waited keptOut used taped fault costSum safeSum allWays torn tape) A) A)) (by decide) (Nat.le_of_ble_eq_true rfl) ?_
  intro p e s m args below meth c Z A hZ C hE hnh hmn H locs hP hD hS ls hl
  have CE := And.intro C (And.intro hE hnh)
  have hX : ∃ Qc : Array Value → State → Outcome → State → Prop, Z = vy_MQ below Qc (vx_X (fun (u : Int32 × Int32) => X u.1 u.2) (fltB D vwCl (dK ad ca kept locks seenMany bumpMinute bumpBlock bumpTrains waited keptOut used taped fault costSum safeSum allWays torn tape) A) A) args s 0 0 1 8 A := ⟨_, hZ⟩
  have C := CE.1; have hE := CE.2.1; have hnh := CE.2.2; have hx := C.1; have hb := C.2.1; have hr := C.2.2.1; have hlocks := C.2.2.2.1; have hml := C.2.2.2.2.1; have hown := C.2.2.2.2.2.1; have hts := C.2.2.2.2.2.2.1; have hn := C.2.2.2.2.2.2.2.1; have hK := C.2.2.2.2.2.2.2.2.1; have hA := C.2.2.2.2.2.2.2.2.2
  have hl : lv_has ls 3 [(0, .ref r), (1, .int x1), (2, .int x2)] := hl
  unfold R_looked at G
  refine lv_aload_n hx hb dX8_looked_0 rfl (lv_at hl 0 rfl) ?_
  refine lv_aload_n hx hb dX8_looked_1 rfl (lv_at hl 0 rfl) ?_
  refine va_get hx hb hts in_X8 hown hK hP 0 rfl rfl 9 (by decide) (hts _ q399) (fun _ h => h) rfl dX8_looked_2 ?_
  refine lv_iconst (v := 2) hx hb dX8_looked_5 (by decide) ?_
  have hJ : ∀ (H : Heap) (locs : List Loc), va_P D vwCl (dW ad r kb ko kt km ca sizeR madeLocks hasBlocks omened highest atR fromR sortR valueR k_blocks k_guarded k_trains k_omen k_train madeLockA kept locks seenMany bumpMinute bumpBlock bumpTrains waited keptOut used taped fault costSum safeSum allWays torn tape) H → va_D A (dW ad r kb ko kt km ca sizeR madeLocks hasBlocks omened highest atR fromR sortR valueR k_blocks k_guarded k_trains k_omen k_train madeLockA kept locks seenMany bumpMinute bumpBlock bumpTrains waited keptOut used taped fault costSum safeSum allWays torn tape) → va_S A s.heap H locs → ∀ v_5 : Int32, v_5 = (if sortR = (2 : Int32) then (1 : Int32) else (0 : Int32)) → W p l e rm_R_looked s m args below meth c H locs 0 0 Z (F0 m 14 ls (.int v_5 :: [.ref r])) := by
    intro H locs hP hD hS v_5 hv
    subst hv
    refine lv_iconst (v := 2) hx hb dX8_looked_14 (by decide) ?_
    refine wy_Vv (As := [.int (if sortR = (2 : Int32) then (1 : Int32) else (0 : Int32)), .int (2 : Int32)]) (rest := []) C hE hnh hX (met_R_need l D sk sv ad r kb ko kt km ca H.size sizeR madeLocks hasBlocks omened highest atR fromR sortR valueR k_blocks k_guarded k_trains k_omen k_train madeLockA kept locks seenMany bumpMinute bumpBlock bumpTrains waited keptOut used taped fault costSum safeSum allWays torn tape (if sortR = (2 : Int32) then (1 : Int32) else (0 : Int32)) (2 : Int32) _ _ G) (cwV 2 hts (lw_V q299 q301 qs2 q76 q302) rfl rfl rfl (by decide +kernel) ⟨Nat.le_of_ble_eq_true rfl, Nat.le_of_ble_eq_true rfl⟩) hP hD hS 0 rfl rfl rfl rfl hl.1 (Nat.le_of_ble_eq_true rfl) dX8_looked_15 ⟨Nat.le_of_ble_eq_true rfl, Nat.le_of_ble_eq_true rfl⟩ (fun u H locs G hP hD hS => ?_)
    have hP : va_P D vwCl (dW ad r kb ko kt km ca sizeR madeLocks hasBlocks omened highest atR fromR sortR valueR k_blocks k_guarded k_trains k_omen k_train madeLockA kept locks seenMany bumpMinute bumpBlock bumpTrains waited keptOut used taped fault costSum safeSum allWays torn tape) H := hP
    have hD : va_D A (dW ad r kb ko kt km ca sizeR madeLocks hasBlocks omened highest atR fromR sortR valueR k_blocks k_guarded k_trains k_omen k_train madeLockA kept locks seenMany bumpMinute bumpBlock bumpTrains waited keptOut used taped fault costSum safeSum allWays torn tape) := hD
    refine lv_aload_n hx hb dX8_looked_18 rfl (lv_at hl 0 rfl) ?_
    refine lv_aload_n hx hb dX8_looked_19 rfl (lv_at hl 0 rfl) ?_
    refine va_get hx hb hts in_X8 hown hK hP 0 rfl rfl 10 (by decide) (hts _ q400) (fun _ h => h) rfl dX8_looked_20 ?_
    refine lv_i2l hx hb dX8_looked_23 rfl ?_
    refine lv_iload_n hx hb dX8_looked_24 rfl (lv_at hl 1 rfl) ?_
    refine lv_i2l hx hb dX8_looked_25 rfl ?_
    refine lv_iload_n hx hb dX8_looked_26 rfl (lv_at hl 2 rfl) ?_
    refine lv_i2l hx hb dX8_looked_27 rfl ?_
    refine wc_Nik (As := [.long ((valueR).toInt64), .long ((x1).toInt64), .long ((x2).toInt64)]) (rest := [.ref r]) C (met_C_in l D ca H.size ((valueR).toInt64) ((x1).toInt64) ((x2).toInt64)) ⟨va_cnB 3 hts (lw_meth q273) rfl rfl rfl (hn _ q524 rfl) (hts _ q68) (by decide +kernel) ⟨Nat.le_of_ble_eq_true rfl, Nat.le_of_ble_eq_true rfl⟩, hts _ q272, trivial⟩ hP hD hS [] rfl (by decide) rfl rfl hl.1 (Nat.le_of_ble_eq_true rfl) dX8_looked_28 ⟨Nat.le_of_ble_eq_true rfl, Nat.le_of_ble_eq_true rfl⟩ (fun r_3 u H locs hr hP hD hS => ?_)
    subst hr
    refine lv_iconst (v := 3) hx hb dX8_looked_31 (by decide) ?_
    refine wy_Vv (As := [.int (C_in_e ((valueR).toInt64) ((x1).toInt64) ((x2).toInt64)), .int (3 : Int32)]) (rest := []) C hE hnh hX (met_R_need l D sk sv ad r kb ko kt km ca H.size sizeR madeLocks hasBlocks omened highest atR fromR sortR valueR k_blocks k_guarded k_trains k_omen k_train madeLockA kept locks seenMany bumpMinute bumpBlock bumpTrains waited keptOut used taped fault costSum safeSum allWays torn tape (C_in_e ((valueR).toInt64) ((x1).toInt64) ((x2).toInt64)) (3 : Int32) _ _ G) (cwV 2 hts (lw_V q299 q301 qs2 q76 q302) rfl rfl rfl (by decide +kernel) ⟨Nat.le_of_ble_eq_true rfl, Nat.le_of_ble_eq_true rfl⟩) hP hD hS 0 rfl rfl rfl rfl hl.1 (Nat.le_of_ble_eq_true rfl) dX8_looked_32 ⟨Nat.le_of_ble_eq_true rfl, Nat.le_of_ble_eq_true rfl⟩ (fun u H locs G hP hD hS => ?_)
    have hP : va_P D vwCl (dW ad r kb ko kt km ca sizeR madeLocks hasBlocks omened highest atR fromR sortR valueR k_blocks k_guarded k_trains k_omen k_train madeLockA kept locks seenMany bumpMinute bumpBlock bumpTrains waited keptOut used taped fault costSum safeSum allWays torn tape) H := hP
    have hD : va_D A (dW ad r kb ko kt km ca sizeR madeLocks hasBlocks omened highest atR fromR sortR valueR k_blocks k_guarded k_trains k_omen k_train madeLockA kept locks seenMany bumpMinute bumpBlock bumpTrains waited keptOut used taped fault costSum safeSum allWays torn tape) := hD
    refine lv_aload_n hx hb dX8_looked_35 rfl (lv_at hl 0 rfl) ?_
    refine va_get hx hb hts in_X8 hown hK hP 0 rfl rfl 10 (by decide) (hts _ q400) (fun _ h => h) rfl dX8_looked_36 ?_
    rw [hZ]
    refine vy_ret ?_
    exact W.iret hx hb hr (fun t ht hW => ⟨⟨valueR, (), rfl, G, by rw [ht]; exact hP, hD⟩, hS.F ht⟩) hS.2.2 dX8_looked_39 hlocks
  refine lv_icmp_ne (tgt := 13) hx hb dX8_looked_6 (by decide) (fun c_1 => ?_) (fun c_1 => ?_)
  · refine lv_iconst (v := 0) hx hb dX8_looked_13 (by decide) ?_
    exact hJ _ _ hP hD hS _ (eF c_1 rfl)
  · refine lv_iconst (v := 1) hx hb dX8_looked_9 (by decide) ?_
    refine lv_goto (tgt := 14) hx hb dX8_looked_10 (by decide) ?_
    exact hJ _ _ hP hD hS _ (eT c_1 rfl)
