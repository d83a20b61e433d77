set_option maxRecDepth 100000
abbrev rm_M_waits : Room := { frames := 2, cells := 0, slots := 0, locals := 25 }
set_option maxHeartbeats 4000000 in
theorem met_M_waits (l : Launch) (D : va_G) (ad : Nat → Nat) (ca : Nat → ClassId) (sz : Nat) (blocks : Int32) (trainMany : Int32) (lockMany : Int32) (readBlocks : Int32) (readTrains : Int32) (readLockMany : Int32) (blocksTold : Int32) (omensTold : Int32) (highBlock : Int32) (taped : Int32) (fault : Int32) (broken : Int32) (brokenAt : Int32) (spot : Int32) (here : Int32) (token : Int32) (value : Int32) (bumpAt : Int32) (bumpIn : Int32) (bumpOf : Int32) (waited : Int32) (keptOut : Int32) (visited : Int32) (seenMany : Int32) (drawn : Int32) (torn : Int32) (state : Nat → Int32) (locks : Nat → Int32) (waits : Nat → Int32) (readPage : Nat → Int32) (readLocks : Nat → Int32) (tape : Nat → Int32) (cuts : Nat → Int32) (letters : Nat → Int32) (place : Nat → Int32) (left : Nat → Int32) (hasSeen : Nat → Int32) (homeAt : Nat → Int32) (places : Nat → Int32) (seen : Nat → Int32) (wouldBe : Nat → Int32) (isKept : Nat → Int32) (lanes : Nat → Int32) (lengths : Nat → Int32) (cells : Nat → Int32) (x1 : Int32) (x2 : Int32) (hside : M_waits_s waits x1 x2) : Met l yX7_waits (ws_ yX7_waits cX7_waits 3 (some .int)) rm_M_waits (va_Pc [.ref (ad 0), .int x1, .int x2] (wpre D vwCl (tyL ca) (mW ad ca blocks trainMany lockMany readBlocks readTrains readLockMany blocksTold omensTold highBlock taped fault broken brokenAt spot here token value bumpAt bumpIn bumpOf waited keptOut visited seenMany drawn torn state locks waits readPage readLocks tape cuts letters place left hasSeen homeAt places seen wouldBe isKept lanes lengths cells) sz)) (va_Qi (fun (r : Int32) (u : Unit) => r = M_waits_e waits x1 x2) (wpost D vwCl (va_A (mW ad ca blocks trainMany lockMany readBlocks readTrains readLockMany blocksTold omensTold highBlock taped fault broken brokenAt spot here token value bumpAt bumpIn bumpOf waited keptOut visited seenMany drawn torn state locks waits readPage readLocks tape cuts letters place left hasSeen homeAt places seen wouldBe isKept lanes lengths cells) sz) (fun (u : Unit) => (mW ad ca blocks trainMany lockMany readBlocks readTrains readLockMany blocksTold omensTold highBlock taped fault broken brokenAt spot here token value bumpAt bumpIn bumpOf waited keptOut visited seenMany drawn torn state locks waits readPage readLocks tape cuts letters place left hasSeen homeAt places seen wouldBe isKept lanes lengths cells))) (va_A (mW ad ca blocks trainMany lockMany readBlocks readTrains readLockMany blocksTold omensTold highBlock taped fault broken brokenAt spot here token value bumpAt bumpIn bumpOf waited keptOut visited seenMany drawn torn state locks waits readPage readLocks tape cuts letters place left hasSeen homeAt places seen wouldBe isKept lanes lengths cells) sz)) 0 0 (va_A (mW ad ca blocks trainMany lockMany readBlocks readTrains readLockMany blocksTold omensTold highBlock taped fault broken brokenAt spot here token value bumpAt bumpIn bumpOf waited keptOut visited seenMany drawn torn state locks waits readPage readLocks tape cuts letters place left hasSeen homeAt places seen wouldBe isKept lanes lengths cells) sz) := by
  refine met_of (fun A => (va_Qi (fun (r : Int32) (u : Unit) => r = M_waits_e waits x1 x2) (wpost D vwCl A (fun (u : Unit) => (mW ad ca blocks trainMany lockMany readBlocks readTrains readLockMany blocksTold omensTold highBlock taped fault broken brokenAt spot here token value bumpAt bumpIn bumpOf waited keptOut visited seenMany drawn torn state locks waits readPage readLocks tape cuts letters place left hasSeen homeAt places seen wouldBe isKept lanes lengths cells))) A)) (by decide) (Nat.le_of_ble_eq_true rfl) ?_
  intro p e s m args below meth c Z A hZ C H locs hP hD hS ls hl
  have hx := C.1; have hb := C.2.1; have hr := C.2.2.1; have hlocks := C.2.2.2.1; have hml := C.2.2.2.2.1; have hown := C.2.2.2.2.2.1; have hts := C.2.2.2.2.2.2.1; have hn := C.2.2.2.2.2.2.2.1; have hK := C.2.2.2.2.2.2.2.2.1; have hA := C.2.2.2.2.2.2.2.2.2
  have hl : lv_has ls 3 [(0, .ref (ad 0)), (1, .int x1), (2, .int x2)] := hl
  have h_5 := hside
  refine lv_iload_n hx hb dX7_waits_0 rfl (lv_at hl 1 rfl) ?_
  refine lv_i2l hx hb dX7_waits_1 rfl ?_
  refine lv_lconst (v := 0) hx hb dX7_waits_2 (by decide) ?_
  refine lv_ldc2 hx hb hown (hts _ q1168) dX7_waits_3 ?_
  refine wc_Sik (As := [.long ((x1).toInt64), .long (0 : Int64), .long (3 : Int64)]) (rest := []) C (met_M_in l D ca H.size ((x1).toInt64) (0 : Int64) (3 : Int64)) (va_cwS 3 hts (lw_S q1069 q1070 q75 q1071) rfl rfl rfl (by decide +kernel) ⟨Nat.le_of_ble_eq_true rfl, Nat.le_of_ble_eq_true rfl⟩) hP hD hS [] rfl (by decide) rfl rfl hl.1 (Nat.le_of_ble_eq_true rfl) dX7_waits_6 ⟨Nat.le_of_ble_eq_true rfl, Nat.le_of_ble_eq_true rfl⟩ (fun r_1 u H locs hr hP hD hS => ?_)
  subst hr
  refine lv_if_eq (tgt := 37) hx hb dX7_waits_9 (by decide) (fun c_2 => ?_) (fun c_2 => ?_)
  · refine lv_iconst (v := -1) hx hb dX7_waits_37 (by decide) ?_
    rw [hZ]
    exact W.iret hx hb hr (fun t ht hW => ⟨⟨(-1 : Int32), (), rfl, (eT c_2 rfl), by rw [ht]; exact hP, hD⟩, hS.F ht⟩) hS.2.2 dX7_waits_38 hlocks
  · refine lv_iload_n hx hb dX7_waits_12 rfl (lv_at hl 2 rfl) ?_
    refine lv_i2l hx hb dX7_waits_13 rfl ?_
    refine lv_lconst (v := 0) hx hb dX7_waits_14 (by decide) ?_
    refine lv_ldc2 hx hb hown (hts _ q1105) dX7_waits_15 ?_
    refine wc_Sik (As := [.long ((x2).toInt64), .long (0 : Int64), .long (4 : Int64)]) (rest := []) C (met_M_in l D ca H.size ((x2).toInt64) (0 : Int64) (4 : Int64)) (va_cwS 3 hts (lw_S q1069 q1070 q75 q1071) rfl rfl rfl (by decide +kernel) ⟨Nat.le_of_ble_eq_true rfl, Nat.le_of_ble_eq_true rfl⟩) hP hD hS [] rfl (by decide) rfl rfl hl.1 (Nat.le_of_ble_eq_true rfl) dX7_waits_18 ⟨Nat.le_of_ble_eq_true rfl, Nat.le_of_ble_eq_true rfl⟩ (fun r_3 u H locs hr hP hD hS => ?_)
    subst hr
    refine lv_if_eq (tgt := 37) hx hb dX7_waits_21 (by decide) (fun c_4 => ?_) (fun c_4 => ?_)
    · refine lv_iconst (v := -1) hx hb dX7_waits_37 (by decide) ?_
      rw [hZ]
      exact W.iret hx hb hr (fun t ht hW => ⟨⟨(-1 : Int32), (), rfl, (eF c_2 (eT c_4 rfl)), by rw [ht]; exact hP, hD⟩, hS.F ht⟩) hS.2.2 dX7_waits_38 hlocks
    · refine lv_aload_n hx hb dX7_waits_24 rfl (lv_at hl 0 rfl) ?_
      refine va_get hx hb hts in_X7 hown hK hP 0 rfl rfl 5 (by decide) (hts _ q933) (fun _ h => h) rfl dX7_waits_25 ?_
      refine lv_iconst (v := 5) hx hb dX7_waits_28 (by decide) ?_
      refine lv_iload_n hx hb dX7_waits_29 rfl (lv_at hl 1 rfl) ?_
      refine lv_imul hx hb dX7_waits_30 ?_
      refine lv_iload_n hx hb dX7_waits_31 rfl (lv_at hl 2 rfl) ?_
      refine lv_iadd hx hb dX7_waits_32 ?_
      refine va_iald hx hb hK hP 3 0 rfl rfl (h_5 c_2 c_4) dX7_waits_33 ?_
      refine lv_goto (tgt := 38) hx hb dX7_waits_34 (by decide) ?_
      rw [hZ]
      exact W.iret hx hb hr (fun t ht hW => ⟨⟨(waits (((5 : Int32) * x1) + x2).toNatClampNeg), (), rfl, (eF c_2 (eF c_4 rfl)), by rw [ht]; exact hP, hD⟩, hS.F ht⟩) hS.2.2 dX7_waits_38 hlocks
abbrev rm_M_hangs : Room := { frames := 3, cells := 0, slots := 0, locals := 46 }
set_option maxHeartbeats 4000000 in
theorem w_M_hangs_J42 {p : Program} {l : Launch} {e : Env} {s : State} {m : MethodId} {args : Array Value} {below : List Frame} {meth : Method} {c : Code} {D : va_G} {ad : Nat → Nat} {ca : Nat → ClassId} {A : Nat → Prop} {Z : State → Prop} (C : cx cX7_hangs 4 (some .int) RX7 D vwCl (tyL ca) A p c meth s m args) {blocks : Int32} {trainMany : Int32} {lockMany : Int32} {readBlocks : Int32} {readTrains : Int32} {readLockMany : Int32} {blocksTold : Int32} {omensTold : Int32} {highBlock : Int32} {taped : Int32} {fault : Int32} {broken : Int32} {brokenAt : Int32} {spot : Int32} {here : Int32} {token : Int32} {value : Int32} {bumpAt : Int32} {bumpIn : Int32} {bumpOf : Int32} {waited : Int32} {keptOut : Int32} {visited : Int32} {seenMany : Int32} {drawn : Int32} {torn : Int32} {state : Nat → Int32} {locks : Nat → Int32} {waits : Nat → Int32} {readPage : Nat → Int32} {readLocks : Nat → Int32} {tape : Nat → Int32} {cuts : Nat → Int32} {letters : Nat → Int32} {place : Nat → Int32} {left : Nat → Int32} {hasSeen : Nat → Int32} {homeAt : Nat → Int32} {places : Nat → Int32} {seen : Nat → Int32} {wouldBe : Nat → Int32} {isKept : Nat → Int32} {lanes : Nat → Int32} {lengths : Nat → Int32} {cells : Nat → Int32} {x1 : Int32} {x2 : Int32}  {Q : Int32 → (Nat → Int32) → Prop} (hZ : Z = MQ below (va_Qi (fun (r : Int32) (u : (Nat → Int32)) => Q r u) (wpost D vwCl A (fun (u : (Nat → Int32)) => (mW ad ca blocks trainMany lockMany readBlocks readTrains readLockMany blocksTold omensTold highBlock taped fault broken brokenAt spot here token value bumpAt bumpIn bumpOf waited keptOut visited seenMany drawn torn u locks waits readPage readLocks tape cuts letters place left hasSeen homeAt places seen wouldBe isKept lanes lengths cells))) A) args s 0 0 A) (G : M_hangs_J42 state x1 x2 Q) {ls : Array Slot} {H : Heap} {locs : List Loc} (hl : lv_has ls 4 [(0, .ref (ad 0)), (1, .int x1), (2, .int x2)]) (hP : va_P D vwCl (mW ad ca blocks trainMany lockMany readBlocks readTrains readLockMany blocksTold omensTold highBlock taped fault broken brokenAt spot here token value bumpAt bumpIn bumpOf waited keptOut visited seenMany drawn torn state locks waits readPage readLocks tape cuts letters place left hasSeen homeAt places seen wouldBe isKept lanes lengths cells) H) (hD : va_D A (mW ad ca blocks trainMany lockMany readBlocks readTrains readLockMany blocksTold omensTold highBlock taped fault broken brokenAt spot here token value bumpAt bumpIn bumpOf waited keptOut visited seenMany drawn torn state locks waits readPage readLocks tape cuts letters place left hasSeen homeAt places seen wouldBe isKept lanes lengths cells)) (hS : va_S A s.heap H locs) : W p l e rm_M_hangs s m args below meth c H locs 0 0 Z (F0 m 42 ls []) := by
  have hx := C.1; have hb := C.2.1; have hr := C.2.2.1; have hlocks := C.2.2.2.1; have hml := C.2.2.2.2.1; have hown := C.2.2.2.2.2.1; have hts := C.2.2.2.2.2.2.1; have hn := C.2.2.2.2.2.2.2.1; have hK := C.2.2.2.2.2.2.2.2.1; have hA := C.2.2.2.2.2.2.2.2.2
  unfold M_hangs_J42 at G
  refine lv_aload_n hx hb dX7_hangs_42 rfl (lv_at hl 0 rfl) ?_
  refine va_get hx hb hts in_X7 hown hK hP 0 rfl rfl 0 (by decide) (hts _ q928) (fun _ h => h) rfl dX7_hangs_43 ?_
  refine lv_iload_n hx hb dX7_hangs_46 rfl (lv_at hl 1 rfl) ?_
  obtain ⟨h_6, G⟩ := G
  refine va_iald hx hb hK hP 1 0 rfl rfl h_6 dX7_hangs_47 ?_
  refine lv_istore_n (lv' := [(3, .int (state x1.toNatClampNeg)), (0, .ref (ad 0)), (1, .int x1), (2, .int x2)]) hx hb dX7_hangs_48 rfl hl (by decide) rfl (fun ls hl => ?_)
  refine lv_aload_n hx hb dX7_hangs_49 rfl (lv_at hl 1 rfl) ?_
  refine va_get hx hb hts in_X7 hown hK hP 0 rfl rfl 0 (by decide) (hts _ q928) (fun _ h => h) rfl dX7_hangs_50 ?_
  refine lv_iload_n hx hb dX7_hangs_53 rfl (lv_at hl 2 rfl) ?_
  refine lv_iload_n hx hb dX7_hangs_54 rfl (lv_at hl 3 rfl) ?_
  obtain ⟨h_7, G⟩ := G
  refine va_iast hx hb hK hP hD hS 1 0 rfl rfl h_7 dX7_hangs_55 (fun H locs hP hD hS => ?_)
  have hP : va_P D vwCl (mW ad ca blocks trainMany lockMany readBlocks readTrains readLockMany blocksTold omensTold highBlock taped fault broken brokenAt spot here token value bumpAt bumpIn bumpOf waited keptOut visited seenMany drawn torn (upd state x1.toNatClampNeg x2) locks waits readPage readLocks tape cuts letters place left hasSeen homeAt places seen wouldBe isKept lanes lengths cells) H := hP
  have hD : va_D A (mW ad ca blocks trainMany lockMany readBlocks readTrains readLockMany blocksTold omensTold highBlock taped fault broken brokenAt spot here token value bumpAt bumpIn bumpOf waited keptOut visited seenMany drawn torn (upd state x1.toNatClampNeg x2) locks waits readPage readLocks tape cuts letters place left hasSeen homeAt places seen wouldBe isKept lanes lengths cells) := hD
  refine lv_iload_n hx hb dX7_hangs_56 rfl (lv_at hl 0 rfl) ?_
  rw [hZ]
  exact W.iret hx hb hr (fun t ht hW => ⟨⟨(state x1.toNatClampNeg), (upd state x1.toNatClampNeg x2), rfl, G, by rw [ht]; exact hP, hD⟩, hS.F ht⟩) hS.2.2 dX7_hangs_57 hlocks
set_option maxHeartbeats 4000000 in
theorem met_M_hangs (l : Launch) (D : va_G) (ad : Nat → Nat) (ca : Nat → ClassId) (sz : Nat) (blocks : Int32) (trainMany : Int32) (lockMany : Int32) (readBlocks : Int32) (readTrains : Int32) (readLockMany : Int32) (blocksTold : Int32) (omensTold : Int32) (highBlock : Int32) (taped : Int32) (fault : Int32) (broken : Int32) (brokenAt : Int32) (spot : Int32) (here : Int32) (token : Int32) (value : Int32) (bumpAt : Int32) (bumpIn : Int32) (bumpOf : Int32) (waited : Int32) (keptOut : Int32) (visited : Int32) (seenMany : Int32) (drawn : Int32) (torn : Int32) (state : Nat → Int32) (locks : Nat → Int32) (waits : Nat → Int32) (readPage : Nat → Int32) (readLocks : Nat → Int32) (tape : Nat → Int32) (cuts : Nat → Int32) (letters : Nat → Int32) (place : Nat → Int32) (left : Nat → Int32) (hasSeen : Nat → Int32) (homeAt : Nat → Int32) (places : Nat → Int32) (seen : Nat → Int32) (wouldBe : Nat → Int32) (isKept : Nat → Int32) (lanes : Nat → Int32) (lengths : Nat → Int32) (cells : Nat → Int32) (x1 : Int32) (x2 : Int32) (Q : Int32 → (Nat → Int32) → Prop) (G : M_hangs blocks lockMany state locks x1 x2 Q) : Met l yX7_hangs (ws_ yX7_hangs cX7_hangs 4 (some .int)) rm_M_hangs (va_Pc [.ref (ad 0), .int x1, .int x2] (wpre D vwCl (tyL ca) (mW ad ca blocks trainMany lockMany readBlocks readTrains readLockMany blocksTold omensTold highBlock taped fault broken brokenAt spot here token value bumpAt bumpIn bumpOf waited keptOut visited seenMany drawn torn state locks waits readPage readLocks tape cuts letters place left hasSeen homeAt places seen wouldBe isKept lanes lengths cells) sz)) (va_Qi (fun (r : Int32) (u : (Nat → Int32)) => Q r u) (wpost D vwCl (va_A (mW ad ca blocks trainMany lockMany readBlocks readTrains readLockMany blocksTold omensTold highBlock taped fault broken brokenAt spot here token value bumpAt bumpIn bumpOf waited keptOut visited seenMany drawn torn state locks waits readPage readLocks tape cuts letters place left hasSeen homeAt places seen wouldBe isKept lanes lengths cells) sz) (fun (u : (Nat → Int32)) => (mW ad ca blocks trainMany lockMany readBlocks readTrains readLockMany blocksTold omensTold highBlock taped fault broken brokenAt spot here token value bumpAt bumpIn bumpOf waited keptOut visited seenMany drawn torn u locks waits readPage readLocks tape cuts letters place left hasSeen homeAt places seen wouldBe isKept lanes lengths cells))) (va_A (mW ad ca blocks trainMany lockMany readBlocks readTrains readLockMany blocksTold omensTold highBlock taped fault broken brokenAt spot here token value bumpAt bumpIn bumpOf waited keptOut visited seenMany drawn torn state locks waits readPage readLocks tape cuts letters place left hasSeen homeAt places seen wouldBe isKept lanes lengths cells) sz)) 0 0 (va_A (mW ad ca blocks trainMany lockMany readBlocks readTrains readLockMany blocksTold omensTold highBlock taped fault broken brokenAt spot here token value bumpAt bumpIn bumpOf waited keptOut visited seenMany drawn torn state locks waits readPage readLocks tape cuts letters place left hasSeen homeAt places seen wouldBe isKept lanes lengths cells) sz) := by
  refine met_of (fun A => (va_Qi (fun (r : Int32) (u : (Nat → Int32)) => Q r u) (wpost D vwCl A (fun (u : (Nat → Int32)) => (mW ad ca blocks trainMany lockMany readBlocks readTrains readLockMany blocksTold omensTold highBlock taped fault broken brokenAt spot here token value bumpAt bumpIn bumpOf waited keptOut visited seenMany drawn torn u locks waits readPage readLocks tape cuts letters place left hasSeen homeAt places seen wouldBe isKept lanes lengths cells))) A)) (by decide) (Nat.le_of_ble_eq_true rfl) ?_
  intro p e s m args below meth c Z A hZ C H locs hP hD hS ls hl
  have hx := C.1; have hb := C.2.1; have hr := C.2.2.1; have hlocks := C.2.2.2.1; have hml := C.2.2.2.2.1; have hown := C.2.2.2.2.2.1; have hts := C.2.2.2.2.2.2.1; have hn := C.2.2.2.2.2.2.2.1; have hK := C.2.2.2.2.2.2.2.2.1; have hA := C.2.2.2.2.2.2.2.2.2
  have hl : lv_has ls 4 [(0, .ref (ad 0)), (1, .int x1), (2, .int x2)] := hl
  unfold M_hangs at G
  refine lv_aload_n hx hb dX7_hangs_0 rfl (lv_at hl 0 rfl) ?_
  refine lv_iload_n hx hb dX7_hangs_1 rfl (lv_at hl 1 rfl) ?_
  refine wc_Vik (As := [.int x1]) (rest := []) C (met_M_isBlock l D ad ca H.size blocks trainMany lockMany readBlocks readTrains readLockMany blocksTold omensTold highBlock taped fault broken brokenAt spot here token value bumpAt bumpIn bumpOf waited keptOut visited seenMany drawn torn state locks waits readPage readLocks tape cuts letters place left hasSeen homeAt places seen wouldBe isKept lanes lengths cells x1) (cwV 1 hts (lw_V q1147 q1149 qs48 q75 q1150) rfl rfl rfl (by decide +kernel) ⟨Nat.le_of_ble_eq_true rfl, Nat.le_of_ble_eq_true rfl⟩) hP hD hS (List.range _) (wc_self _) (wc_nd _) 0 rfl rfl rfl rfl hl.1 (Nat.le_of_ble_eq_true rfl) dX7_hangs_2 ⟨Nat.le_of_ble_eq_true rfl, Nat.le_of_ble_eq_true rfl⟩ (fun r_1 u H locs hr hP hD hS => ?_)
  subst hr
  refine lv_if_eq (tgt := 20) hx hb dX7_hangs_5 (by decide) (fun c_2 => ?_) (fun c_2 => ?_)
  · have G := G.1 c_2
    refine lv_iconst (v := -1) hx hb dX7_hangs_20 (by decide) ?_
    rw [hZ]
    exact W.iret hx hb hr (fun t ht hW => ⟨⟨(-1 : Int32), state, rfl, G, by rw [ht]; exact hP, hD⟩, hS.F ht⟩) hS.2.2 dX7_hangs_21 hlocks
  · have G := G.2 c_2
    refine lv_iload_n hx hb dX7_hangs_8 rfl (lv_at hl 2 rfl) ?_
    refine lv_i2l hx hb dX7_hangs_9 rfl ?_
    refine lv_lconst (v := 0) hx hb dX7_hangs_10 (by decide) ?_
    refine lv_ldc2 hx hb hown (hts _ q1105) dX7_hangs_11 ?_
    refine wc_Sik (As := [.long ((x2).toInt64), .long (0 : Int64), .long (4 : Int64)]) (rest := []) C (met_M_in l D ca H.size ((x2).toInt64) (0 : Int64) (4 : Int64)) (va_cwS 3 hts (lw_S q1069 q1070 q75 q1071) rfl rfl rfl (by decide +kernel) ⟨Nat.le_of_ble_eq_true rfl, Nat.le_of_ble_eq_true rfl⟩) hP hD hS [] rfl (by decide) rfl rfl hl.1 (Nat.le_of_ble_eq_true rfl) dX7_hangs_14 ⟨Nat.le_of_ble_eq_true rfl, Nat.le_of_ble_eq_true rfl⟩ (fun r_3 u H locs hr hP hD hS => ?_)
    subst hr
    refine lv_if_ne (tgt := 22) hx hb dX7_hangs_17 (by decide) (fun c_4 => ?_) (fun c_4 => ?_)
    · have G := G.2 c_4
      refine lv_iload_n hx hb dX7_hangs_22 rfl (lv_at hl 2 rfl) ?_
      refine lv_if_le (tgt := 42) hx hb dX7_hangs_23 (by decide) (fun c_5 => ?_) (fun c_5 => ?_)
      · have G := G.1 c_5
        exact w_M_hangs_J42 C hZ G (lv_sub hl [0, 1, 2] rfl) hP hD hS
      · have G := G.2 c_5
        refine lv_aload_n hx hb dX7_hangs_26 rfl (lv_at hl 0 rfl) ?_
        refine lv_iload_n hx hb dX7_hangs_27 rfl (lv_at hl 1 rfl) ?_
        refine wc_Vik (As := [.int x1]) (rest := []) C (met_M_lockedWith l D ad ca H.size blocks trainMany lockMany readBlocks readTrains readLockMany blocksTold omensTold highBlock taped fault broken brokenAt spot here token value bumpAt bumpIn bumpOf waited keptOut visited seenMany drawn torn state locks waits readPage readLocks tape cuts letters place left hasSeen homeAt places seen wouldBe isKept lanes lengths cells x1 _ G) (cwV 1 hts (lw_V q1152 q1154 qs49 q75 q1155) rfl rfl rfl (by decide +kernel) ⟨Nat.le_of_ble_eq_true rfl, Nat.le_of_ble_eq_true rfl⟩) hP hD hS (List.range _) (wc_self _) (wc_nd _) 0 rfl rfl rfl rfl hl.1 (Nat.le_of_ble_eq_true rfl) dX7_hangs_28 ⟨Nat.le_of_ble_eq_true rfl, Nat.le_of_ble_eq_true rfl⟩ (fun r_8 u H locs G hP hD hS => ?_)
        refine lv_aload_n hx hb dX7_hangs_31 rfl (lv_at hl 0 rfl) ?_
        refine wc_Vik (As := []) (rest := [.int r_8]) C (met_M_omens l D ad ca H.size blocks trainMany lockMany readBlocks readTrains readLockMany blocksTold omensTold highBlock taped fault broken brokenAt spot here token value bumpAt bumpIn bumpOf waited keptOut visited seenMany drawn torn state locks waits readPage readLocks tape cuts letters place left hasSeen homeAt places seen wouldBe isKept lanes lengths cells _ G) (cwV 0 hts (lw_V q1139 q1141 qs47 q75 q1142) rfl rfl rfl (by decide +kernel) ⟨Nat.le_of_ble_eq_true rfl, Nat.le_of_ble_eq_true rfl⟩) hP hD hS (List.range _) (wc_self _) (wc_nd _) 0 rfl rfl rfl rfl hl.1 (Nat.le_of_ble_eq_true rfl) dX7_hangs_32 ⟨Nat.le_of_ble_eq_true rfl, Nat.le_of_ble_eq_true rfl⟩ (fun r_9 u H locs G hP hD hS => ?_)
        refine lv_iand hx hb dX7_hangs_35 ?_
        refine lv_if_eq (tgt := 42) hx hb dX7_hangs_36 (by decide) (fun c_10 => ?_) (fun c_10 => ?_)
        · have G := G.1 c_10
          exact w_M_hangs_J42 C hZ G (lv_sub hl [0, 1, 2] rfl) hP hD hS
        · have G := G.2 c_10
          refine lv_bipush (v := -2) hx hb dX7_hangs_39 (by decide) ?_
          rw [hZ]
          exact W.iret hx hb hr (fun t ht hW => ⟨⟨(-2 : Int32), state, rfl, G, by rw [ht]; exact hP, hD⟩, hS.F ht⟩) hS.2.2 dX7_hangs_41 hlocks
    · have G := G.1 c_4
      refine lv_iconst (v := -1) hx hb dX7_hangs_20 (by decide) ?_
      rw [hZ]
      exact W.iret hx hb hr (fun t ht hW => ⟨⟨(-1 : Int32), state, rfl, G, by rw [ht]; exact hP, hD⟩, hS.F ht⟩) hS.2.2 dX7_hangs_21 hlocks
abbrev rm_M_hang : Room := { frames := 4, cells := 0, slots := 0, locals := 69 }
set_option maxHeartbeats 4000000 in
theorem met_M_hang (l : Launch) (D : va_G) (ad : Nat → Nat) (ca : Nat → ClassId) (sz : Nat) (blocks : Int32) (trainMany : Int32) (lockMany : Int32) (readBlocks : Int32) (readTrains : Int32) (readLockMany : Int32) (blocksTold : Int32) (omensTold : Int32) (highBlock : Int32) (taped : Int32) (fault : Int32) (broken : Int32) (brokenAt : Int32) (spot : Int32) (here : Int32) (token : Int32) (value : Int32) (bumpAt : Int32) (bumpIn : Int32) (bumpOf : Int32) (waited : Int32) (keptOut : Int32) (visited : Int32) (seenMany : Int32) (drawn : Int32) (torn : Int32) (state : Nat → Int32) (locks : Nat → Int32) (waits : Nat → Int32) (readPage : Nat → Int32) (readLocks : Nat → Int32) (tape : Nat → Int32) (cuts : Nat → Int32) (letters : Nat → Int32) (place : Nat → Int32) (left : Nat → Int32) (hasSeen : Nat → Int32) (homeAt : Nat → Int32) (places : Nat → Int32) (seen : Nat → Int32) (wouldBe : Nat → Int32) (isKept : Nat → Int32) (lanes : Nat → Int32) (lengths : Nat → Int32) (cells : Nat → Int32) (x1 : Int32) (x2 : Int32) (Q : Int32 → (Nat → Int32) → Prop) (G : M_hang blocks lockMany state locks x1 x2 Q) : Met l yX7_hang (ws_ yX7_hang cX7_hang 3 (some .int)) rm_M_hang (va_Pc [.ref (ad 0), .int x1, .int x2] (wpre D vwCl (tyL ca) (mW ad ca blocks trainMany lockMany readBlocks readTrains readLockMany blocksTold omensTold highBlock taped fault broken brokenAt spot here token value bumpAt bumpIn bumpOf waited keptOut visited seenMany drawn torn state locks waits readPage readLocks tape cuts letters place left hasSeen homeAt places seen wouldBe isKept lanes lengths cells) sz)) (va_Qi (fun (r : Int32) (u : (Nat → Int32)) => Q r u) (wpost D vwCl (va_A (mW ad ca blocks trainMany lockMany readBlocks readTrains readLockMany blocksTold omensTold highBlock taped fault broken brokenAt spot here token value bumpAt bumpIn bumpOf waited keptOut visited seenMany drawn torn state locks waits readPage readLocks tape cuts letters place left hasSeen homeAt places seen wouldBe isKept lanes lengths cells) sz) (fun (u : (Nat → Int32)) => (mW ad ca blocks trainMany lockMany readBlocks readTrains readLockMany blocksTold omensTold highBlock taped fault broken brokenAt spot here token value bumpAt bumpIn bumpOf waited keptOut visited seenMany drawn torn u locks waits readPage readLocks tape cuts letters place left hasSeen homeAt places seen wouldBe isKept lanes lengths cells))) (va_A (mW ad ca blocks trainMany lockMany readBlocks readTrains readLockMany blocksTold omensTold highBlock taped fault broken brokenAt spot here token value bumpAt bumpIn bumpOf waited keptOut visited seenMany drawn torn state locks waits readPage readLocks tape cuts letters place left hasSeen homeAt places seen wouldBe isKept lanes lengths cells) sz)) 0 0 (va_A (mW ad ca blocks trainMany lockMany readBlocks readTrains readLockMany blocksTold omensTold highBlock taped fault broken brokenAt spot here token value bumpAt bumpIn bumpOf waited keptOut visited seenMany drawn torn state locks waits readPage readLocks tape cuts letters place left hasSeen homeAt places seen wouldBe isKept lanes lengths cells) sz) := by
  refine met_of (fun A => (va_Qi (fun (r : Int32) (u : (Nat → Int32)) => Q r u) (wpost D vwCl A (fun (u : (Nat → Int32)) => (mW ad ca blocks trainMany lockMany readBlocks readTrains readLockMany blocksTold omensTold highBlock taped fault broken brokenAt spot here token value bumpAt bumpIn bumpOf waited keptOut visited seenMany drawn torn u locks waits readPage readLocks tape cuts letters place left hasSeen homeAt places seen wouldBe isKept lanes lengths cells))) A)) (by decide) (Nat.le_of_ble_eq_true rfl) ?_
  intro p e s m args below meth c Z A hZ C H locs hP hD hS ls hl
  have hx := C.1; have hb := C.2.1; have hr := C.2.2.1; have hlocks := C.2.2.2.1; have hml := C.2.2.2.2.1; have hown := C.2.2.2.2.2.1; have hts := C.2.2.2.2.2.2.1; have hn := C.2.2.2.2.2.2.2.1; have hK := C.2.2.2.2.2.2.2.2.1; have hA := C.2.2.2.2.2.2.2.2.2
  have hl : lv_has ls 3 [(0, .ref (ad 0)), (1, .int x1), (2, .int x2)] := hl
  unfold M_hang at G
  refine lv_aload_n hx hb dX7_hang_0 rfl (lv_at hl 0 rfl) ?_
  refine lv_iload_n hx hb dX7_hang_1 rfl (lv_at hl 1 rfl) ?_
  refine lv_iload_n hx hb dX7_hang_2 rfl (lv_at hl 2 rfl) ?_
  refine wc_Vi (As := [.int x1, .int x2]) (rest := []) C (met_M_hangs l D ad ca H.size blocks trainMany lockMany readBlocks readTrains readLockMany blocksTold omensTold highBlock taped fault broken brokenAt spot here token value bumpAt bumpIn bumpOf waited keptOut visited seenMany drawn torn state locks waits readPage readLocks tape cuts letters place left hasSeen homeAt places seen wouldBe isKept lanes lengths cells x1 x2 _ G) (cwV 2 hts (lw_V q1177 q1179 qs51 q75 q1180) rfl rfl rfl (by decide +kernel) ⟨Nat.le_of_ble_eq_true rfl, Nat.le_of_ble_eq_true rfl⟩) hP hD hS 0 rfl rfl rfl rfl hl.1 (Nat.le_of_ble_eq_true rfl) dX7_hang_3 ⟨Nat.le_of_ble_eq_true rfl, Nat.le_of_ble_eq_true rfl⟩ (fun r_1 u H locs G hP hD hS => ?_)
  obtain ⟨state_2, rfl⟩ : ∃ z, z = u := ⟨u, rfl⟩
  have hP : va_P D vwCl (mW ad ca blocks trainMany lockMany readBlocks readTrains readLockMany blocksTold omensTold highBlock taped fault broken brokenAt spot here token value bumpAt bumpIn bumpOf waited keptOut visited seenMany drawn torn state_2 locks waits readPage readLocks tape cuts letters place left hasSeen homeAt places seen wouldBe isKept lanes lengths cells) H := hP
  have hD : va_D A (mW ad ca blocks trainMany lockMany readBlocks readTrains readLockMany blocksTold omensTold highBlock taped fault broken brokenAt spot here token value bumpAt bumpIn bumpOf waited keptOut visited seenMany drawn torn state_2 locks waits readPage readLocks tape cuts letters place left hasSeen homeAt places seen wouldBe isKept lanes lengths cells) := hD
  rw [hZ]
  exact W.iret hx hb hr (fun t ht hW => ⟨⟨r_1, state_2, rfl, G, by rw [ht]; exact hP, hD⟩, hS.F ht⟩) hS.2.2 dX7_hang_6 hlocks
abbrev rm_M_guard : Room := { frames := 3, cells := 0, slots := 0, locals := 46 }
set_option maxHeartbeats 4000000 in
theorem met_M_guard (l : Launch) (D : va_G) (ad : Nat → Nat) (ca : Nat → ClassId) (sz : Nat) (blocks : Int32) (trainMany : Int32) (lockMany : Int32) (readBlocks : Int32) (readTrains : Int32) (readLockMany : Int32) (blocksTold : Int32) (omensTold : Int32) (highBlock : Int32) (taped : Int32) (fault : Int32) (broken : Int32) (brokenAt : Int32) (spot : Int32) (here : Int32) (token : Int32) (value : Int32) (bumpAt : Int32) (bumpIn : Int32) (bumpOf : Int32) (waited : Int32) (keptOut : Int32) (visited : Int32) (seenMany : Int32) (drawn : Int32) (torn : Int32) (state : Nat → Int32) (locks : Nat → Int32) (waits : Nat → Int32) (readPage : Nat → Int32) (readLocks : Nat → Int32) (tape : Nat → Int32) (cuts : Nat → Int32) (letters : Nat → Int32) (place : Nat → Int32) (left : Nat → Int32) (hasSeen : Nat → Int32) (homeAt : Nat → Int32) (places : Nat → Int32) (seen : Nat → Int32) (wouldBe : Nat → Int32) (isKept : Nat → Int32) (lanes : Nat → Int32) (lengths : Nat → Int32) (cells : Nat → Int32) (x1 : Int32) (x2 : Int32) (Q : Int32 → (Nat → Int32) → Prop) (G : M_guard blocks state x1 x2 Q) : Met l yX7_guard (ws_ yX7_guard cX7_guard 4 (some .int)) rm_M_guard (va_Pc [.ref (ad 0), .int x1, .int x2] (wpre D vwCl (tyL ca) (mW ad ca blocks trainMany lockMany readBlocks readTrains readLockMany blocksTold omensTold highBlock taped fault broken brokenAt spot here token value bumpAt bumpIn bumpOf waited keptOut visited seenMany drawn torn state locks waits readPage readLocks tape cuts letters place left hasSeen homeAt places seen wouldBe isKept lanes lengths cells) sz)) (va_Qi (fun (r : Int32) (u : (Nat → Int32)) => Q r u) (wpost D vwCl (va_A (mW ad ca blocks trainMany lockMany readBlocks readTrains readLockMany blocksTold omensTold highBlock taped fault broken brokenAt spot here token value bumpAt bumpIn bumpOf waited keptOut visited seenMany drawn torn state locks waits readPage readLocks tape cuts letters place left hasSeen homeAt places seen wouldBe isKept lanes lengths cells) sz) (fun (u : (Nat → Int32)) => (mW ad ca blocks trainMany lockMany readBlocks readTrains readLockMany blocksTold omensTold highBlock taped fault broken brokenAt spot here token value bumpAt bumpIn bumpOf waited keptOut visited seenMany drawn torn u locks waits readPage readLocks tape cuts letters place left hasSeen homeAt places seen wouldBe isKept lanes lengths cells))) (va_A (mW ad ca blocks trainMany lockMany readBlocks readTrains readLockMany blocksTold omensTold highBlock taped fault broken brokenAt spot here token value bumpAt bumpIn bumpOf waited keptOut visited seenMany drawn torn state locks waits readPage readLocks tape cuts letters place left hasSeen homeAt places seen wouldBe isKept lanes lengths cells) sz)) 0 0 (va_A (mW ad ca blocks trainMany lockMany readBlocks readTrains readLockMany blocksTold omensTold highBlock taped fault broken brokenAt spot here token value bumpAt bumpIn bumpOf waited keptOut visited seenMany drawn torn state locks waits readPage readLocks tape cuts letters place left hasSeen homeAt places seen wouldBe isKept lanes lengths cells) sz) := by
  refine met_of (fun A => (va_Qi (fun (r : Int32) (u : (Nat → Int32)) => Q r u) (wpost D vwCl A (fun (u : (Nat → Int32)) => (mW ad ca blocks trainMany lockMany readBlocks readTrains readLockMany blocksTold omensTold highBlock taped fault broken brokenAt spot here token value bumpAt bumpIn bumpOf waited keptOut visited seenMany drawn torn u locks waits readPage readLocks tape cuts letters place left hasSeen homeAt places seen wouldBe isKept lanes lengths cells))) A)) (by decide) (Nat.le_of_ble_eq_true rfl) ?_
  intro p e s m args below meth c Z A hZ C H locs hP hD hS ls hl
  have hx := C.1; have hb := C.2.1; have hr := C.2.2.1; have hlocks := C.2.2.2.1; have hml := C.2.2.2.2.1; have hown := C.2.2.2.2.2.1; have hts := C.2.2.2.2.2.2.1; have hn := C.2.2.2.2.2.2.2.1; have hK := C.2.2.2.2.2.2.2.2.1; have hA := C.2.2.2.2.2.2.2.2.2
  have hl : lv_has ls 4 [(0, .ref (ad 0)), (1, .int x1), (2, .int x2)] := hl
  unfold M_guard at G
  refine lv_aload_n hx hb dX7_guard_0 rfl (lv_at hl 0 rfl) ?_
  refine lv_iload_n hx hb dX7_guard_1 rfl (lv_at hl 1 rfl) ?_
  refine wc_Vik (As := [.int x1]) (rest := []) C (met_M_isBlock l D ad ca H.size blocks trainMany lockMany readBlocks readTrains readLockMany blocksTold omensTold highBlock taped fault broken brokenAt spot here token value bumpAt bumpIn bumpOf waited keptOut visited seenMany drawn torn state locks waits readPage readLocks tape cuts letters place left hasSeen homeAt places seen wouldBe isKept lanes lengths cells x1) (cwV 1 hts (lw_V q1147 q1149 qs48 q75 q1150) rfl rfl rfl (by decide +kernel) ⟨Nat.le_of_ble_eq_true rfl, Nat.le_of_ble_eq_true rfl⟩) hP hD hS (List.range _) (wc_self _) (wc_nd _) 0 rfl rfl rfl rfl hl.1 (Nat.le_of_ble_eq_true rfl) dX7_guard_2 ⟨Nat.le_of_ble_eq_true rfl, Nat.le_of_ble_eq_true rfl⟩ (fun r_1 u H locs hr hP hD hS => ?_)
  subst hr
  refine lv_if_ne (tgt := 10) hx hb dX7_guard_5 (by decide) (fun c_2 => ?_) (fun c_2 => ?_)
  · have G := G.2 c_2
    refine lv_aload_n hx hb dX7_guard_10 rfl (lv_at hl 0 rfl) ?_
    refine va_get hx hb hts in_X7 hown hK hP 0 rfl rfl 0 (by decide) (hts _ q928) (fun _ h => h) rfl dX7_guard_11 ?_
    refine lv_bipush (v := 8) hx hb dX7_guard_14 (by decide) ?_
    refine va_iald hx hb hK hP 1 0 rfl rfl vi_8_125 dX7_guard_16 ?_
    refine lv_iload_n hx hb dX7_guard_17 rfl (lv_at hl 1 rfl) ?_
    refine lv_ishr hx hb dX7_guard_18 ?_
    refine lv_iconst (v := 1) hx hb dX7_guard_19 (by decide) ?_
    refine lv_iand hx hb dX7_guard_20 ?_
    refine lv_istore_n (lv' := [(3, .int (((state (8 : Int32).toNatClampNeg) >>> (x1 &&& 31)) &&& (1 : Int32))), (0, .ref (ad 0)), (1, .int x1), (2, .int x2)]) hx hb dX7_guard_21 rfl hl (by decide) rfl (fun ls hl => ?_)
    refine lv_aload_n hx hb dX7_guard_22 rfl (lv_at hl 1 rfl) ?_
    refine va_get hx hb hts in_X7 hown hK hP 0 rfl rfl 0 (by decide) (hts _ q928) (fun _ h => h) rfl dX7_guard_23 ?_
    refine lv_bipush (v := 8) hx hb dX7_guard_26 (by decide) ?_
    refine lv_aload_n hx hb dX7_guard_28 rfl (lv_at hl 1 rfl) ?_
    refine va_get hx hb hts in_X7 hown hK hP 0 rfl rfl 0 (by decide) (hts _ q928) (fun _ h => h) rfl dX7_guard_29 ?_
    refine lv_bipush (v := 8) hx hb dX7_guard_32 (by decide) ?_
    refine va_iald hx hb hK hP 1 0 rfl rfl vi_8_125 dX7_guard_34 ?_
    refine lv_iconst (v := 1) hx hb dX7_guard_35 (by decide) ?_
    refine lv_iload_n hx hb dX7_guard_36 rfl (lv_at hl 2 rfl) ?_
    refine lv_ishl hx hb dX7_guard_37 ?_
    refine lv_iconst (v := -1) hx hb dX7_guard_38 (by decide) ?_
    refine lv_ixor hx hb dX7_guard_39 ?_
    refine lv_iand hx hb dX7_guard_40 ?_
    refine lv_iload_n hx hb dX7_guard_41 rfl (lv_at hl 3 rfl) ?_
    have hJ : ∀ (H : Heap) (locs : List Loc), va_P D vwCl (mW ad ca blocks trainMany lockMany readBlocks readTrains readLockMany blocksTold omensTold highBlock taped fault broken brokenAt spot here token value bumpAt bumpIn bumpOf waited keptOut visited seenMany drawn torn state locks waits readPage readLocks tape cuts letters place left hasSeen homeAt places seen wouldBe isKept lanes lengths cells) H → va_D A (mW ad ca blocks trainMany lockMany readBlocks readTrains readLockMany blocksTold omensTold highBlock taped fault broken brokenAt spot here token value bumpAt bumpIn bumpOf waited keptOut visited seenMany drawn torn state locks waits readPage readLocks tape cuts letters place left hasSeen homeAt places seen wouldBe isKept lanes lengths cells) → va_S A s.heap H locs → ∀ v_4 : Int32, v_4 = (if x2 = 0 then (0 : Int32) else ((1 : Int32) <<< (x1 &&& 31))) → W p l e rm_M_guard s m args below meth c H locs 0 0 Z (F0 m 52 ls (.int v_4 :: [.int ((state (8 : Int32).toNatClampNeg) &&& (((1 : Int32) <<< (x1 &&& 31)) ^^^ (-1 : Int32))), .int (8 : Int32), .ref (ad 1)])) := by
      intro H locs hP hD hS v_4 hv
      subst hv
      refine lv_ior hx hb dX7_guard_52 ?_
      refine va_iast hx hb hK hP hD hS 1 0 rfl rfl vi_8_125 dX7_guard_53 (fun H locs hP hD hS => ?_)
      have hP : va_P D vwCl (mW ad ca blocks trainMany lockMany readBlocks readTrains readLockMany blocksTold omensTold highBlock taped fault broken brokenAt spot here token value bumpAt bumpIn bumpOf waited keptOut visited seenMany drawn torn (upd state (8 : Int32).toNatClampNeg (((state (8 : Int32).toNatClampNeg) &&& (((1 : Int32) <<< (x1 &&& 31)) ^^^ (-1 : Int32))) ||| (if x2 = 0 then (0 : Int32) else ((1 : Int32) <<< (x1 &&& 31))))) locks waits readPage readLocks tape cuts letters place left hasSeen homeAt places seen wouldBe isKept lanes lengths cells) H := hP
      have hD : va_D A (mW ad ca blocks trainMany lockMany readBlocks readTrains readLockMany blocksTold omensTold highBlock taped fault broken brokenAt spot here token value bumpAt bumpIn bumpOf waited keptOut visited seenMany drawn torn (upd state (8 : Int32).toNatClampNeg (((state (8 : Int32).toNatClampNeg) &&& (((1 : Int32) <<< (x1 &&& 31)) ^^^ (-1 : Int32))) ||| (if x2 = 0 then (0 : Int32) else ((1 : Int32) <<< (x1 &&& 31))))) locks waits readPage readLocks tape cuts letters place left hasSeen homeAt places seen wouldBe isKept lanes lengths cells) := hD
      refine lv_iload_n hx hb dX7_guard_54 rfl (lv_at hl 0 rfl) ?_
      rw [hZ]
      exact W.iret hx hb hr (fun t ht hW => ⟨⟨(((state (8 : Int32).toNatClampNeg) >>> (x1 &&& 31)) &&& (1 : Int32)), (upd state (8 : Int32).toNatClampNeg (((state (8 : Int32).toNatClampNeg) &&& (((1 : Int32) <<< (x1 &&& 31)) ^^^ (-1 : Int32))) ||| (if x2 = 0 then (0 : Int32) else ((1 : Int32) <<< (x1 &&& 31))))), rfl, G, by rw [ht]; exact hP, hD⟩, hS.F ht⟩) hS.2.2 dX7_guard_55 hlocks
    refine lv_if_eq (tgt := 51) hx hb dX7_guard_42 (by decide) (fun c_3 => ?_) (fun c_3 => ?_)
    · refine lv_iconst (v := 0) hx hb dX7_guard_51 (by decide) ?_
      exact hJ _ _ hP hD hS _ (eT c_3 rfl)
    · refine lv_iconst (v := 1) hx hb dX7_guard_45 (by decide) ?_
      refine lv_iload_n hx hb dX7_guard_46 rfl (lv_at hl 2 rfl) ?_
      refine lv_ishl hx hb dX7_guard_47 ?_
      refine lv_goto (tgt := 52) hx hb dX7_guard_48 (by decide) ?_
      exact hJ _ _ hP hD hS _ (eF c_3 rfl)
  · have G := G.1 c_2
    refine lv_iconst (v := -1) hx hb dX7_guard_8 (by decide) ?_
    rw [hZ]
    exact W.iret hx hb hr (fun t ht hW => ⟨⟨(-1 : Int32), state, rfl, G, by rw [ht]; exact hP, hD⟩, hS.F ht⟩) hS.2.2 dX7_guard_9 hlocks
abbrev rm_M_set : Room := { frames := 3, cells := 0, slots := 0, locals := 46 }
set_option maxHeartbeats 4000000 in
theorem met_M_set (l : Launch) (D : va_G) (ad : Nat → Nat) (ca : Nat → ClassId) (sz : Nat) (blocks : Int32) (trainMany : Int32) (lockMany : Int32) (readBlocks : Int32) (readTrains : Int32) (readLockMany : Int32) (blocksTold : Int32) (omensTold : Int32) (highBlock : Int32) (taped : Int32) (fault : Int32) (broken : Int32) (brokenAt : Int32) (spot : Int32) (here : Int32) (token : Int32) (value : Int32) (bumpAt : Int32) (bumpIn : Int32) (bumpOf : Int32) (waited : Int32) (keptOut : Int32) (visited : Int32) (seenMany : Int32) (drawn : Int32) (torn : Int32) (state : Nat → Int32) (locks : Nat → Int32) (waits : Nat → Int32) (readPage : Nat → Int32) (readLocks : Nat → Int32) (tape : Nat → Int32) (cuts : Nat → Int32) (letters : Nat → Int32) (place : Nat → Int32) (left : Nat → Int32) (hasSeen : Nat → Int32) (homeAt : Nat → Int32) (places : Nat → Int32) (seen : Nat → Int32) (wouldBe : Nat → Int32) (isKept : Nat → Int32) (lanes : Nat → Int32) (lengths : Nat → Int32) (cells : Nat → Int32) (x1 : Int32) (x2 : Int32) (x3 : Int32) (Q : Int32 → (Nat → Int32) → Prop) (G : M_set trainMany state x1 x2 x3 Q) : Met l yX7_set (ws_ yX7_set cX7_set 5 (some .int)) rm_M_set (va_Pc [.ref (ad 0), .int x1, .int x2, .int x3] (wpre D vwCl (tyL ca) (mW ad ca blocks trainMany lockMany readBlocks readTrains readLockMany blocksTold omensTold highBlock taped fault broken brokenAt spot here token value bumpAt bumpIn bumpOf waited keptOut visited seenMany drawn torn state locks waits readPage readLocks tape cuts letters place left hasSeen homeAt places seen wouldBe isKept lanes lengths cells) sz)) (va_Qi (fun (r : Int32) (u : (Nat → Int32)) => Q r u) (wpost D vwCl (va_A (mW ad ca blocks trainMany lockMany readBlocks readTrains readLockMany blocksTold omensTold highBlock taped fault broken brokenAt spot here token value bumpAt bumpIn bumpOf waited keptOut visited seenMany drawn torn state locks waits readPage readLocks tape cuts letters place left hasSeen homeAt places seen wouldBe isKept lanes lengths cells) sz) (fun (u : (Nat → Int32)) => (mW ad ca blocks trainMany lockMany readBlocks readTrains readLockMany blocksTold omensTold highBlock taped fault broken brokenAt spot here token value bumpAt bumpIn bumpOf waited keptOut visited seenMany drawn torn u locks waits readPage readLocks tape cuts letters place left hasSeen homeAt places seen wouldBe isKept lanes lengths cells))) (va_A (mW ad ca blocks trainMany lockMany readBlocks readTrains readLockMany blocksTold omensTold highBlock taped fault broken brokenAt spot here token value bumpAt bumpIn bumpOf waited keptOut visited seenMany drawn torn state locks waits readPage readLocks tape cuts letters place left hasSeen homeAt places seen wouldBe isKept lanes lengths cells) sz)) 0 0 (va_A (mW ad ca blocks trainMany lockMany readBlocks readTrains readLockMany blocksTold omensTold highBlock taped fault broken brokenAt spot here token value bumpAt bumpIn bumpOf waited keptOut visited seenMany drawn torn state locks waits readPage readLocks tape cuts letters place left hasSeen homeAt places seen wouldBe isKept lanes lengths cells) sz) := by
  refine met_of (fun A => (va_Qi (fun (r : Int32) (u : (Nat → Int32)) => Q r u) (wpost D vwCl A (fun (u : (Nat → Int32)) => (mW ad ca blocks trainMany lockMany readBlocks readTrains readLockMany blocksTold omensTold highBlock taped fault broken brokenAt spot here token value bumpAt bumpIn bumpOf waited keptOut visited seenMany drawn torn u locks waits readPage readLocks tape cuts letters place left hasSeen homeAt places seen wouldBe isKept lanes lengths cells))) A)) (by decide) (Nat.le_of_ble_eq_true rfl) ?_
  intro p e s m args below meth c Z A hZ C H locs hP hD hS ls hl
  have hx := C.1; have hb := C.2.1; have hr := C.2.2.1; have hlocks := C.2.2.2.1; have hml := C.2.2.2.2.1; have hown := C.2.2.2.2.2.1; have hts := C.2.2.2.2.2.2.1; have hn := C.2.2.2.2.2.2.2.1; have hK := C.2.2.2.2.2.2.2.2.1; have hA := C.2.2.2.2.2.2.2.2.2
  have hl : lv_has ls 5 [(0, .ref (ad 0)), (1, .int x1), (2, .int x2), (3, .int x3)] := hl
  unfold M_set at G
  refine lv_aload_n hx hb dX7_set_0 rfl (lv_at hl 0 rfl) ?_
  refine lv_iload_n hx hb dX7_set_1 rfl (lv_at hl 1 rfl) ?_
  refine wc_Vik (As := [.int x1]) (rest := []) C (met_M_isTrain l D ad ca H.size blocks trainMany lockMany readBlocks readTrains readLockMany blocksTold omensTold highBlock taped fault broken brokenAt spot here token value bumpAt bumpIn bumpOf waited keptOut visited seenMany drawn torn state locks waits readPage readLocks tape cuts letters place left hasSeen homeAt places seen wouldBe isKept lanes lengths cells x1) (cwV 1 hts (lw_V q1164 q1166 qs50 q75 q1167) rfl rfl rfl (by decide +kernel) ⟨Nat.le_of_ble_eq_true rfl, Nat.le_of_ble_eq_true rfl⟩) hP hD hS (List.range _) (wc_self _) (wc_nd _) 0 rfl rfl rfl rfl hl.1 (Nat.le_of_ble_eq_true rfl) dX7_set_2 ⟨Nat.le_of_ble_eq_true rfl, Nat.le_of_ble_eq_true rfl⟩ (fun r_1 u H locs hr hP hD hS => ?_)
  subst hr
  refine lv_if_eq (tgt := 51) hx hb dX7_set_5 (by decide) (fun c_2 => ?_) (fun c_2 => ?_)
  · have G := G.1 c_2
    refine lv_iconst (v := -1) hx hb dX7_set_51 (by decide) ?_
    rw [hZ]
    exact W.iret hx hb hr (fun t ht hW => ⟨⟨(-1 : Int32), state, rfl, G, by rw [ht]; exact hP, hD⟩, hS.F ht⟩) hS.2.2 dX7_set_52 hlocks
  · have G := G.2 c_2
    refine lv_iload_n hx hb dX7_set_8 rfl (lv_at hl 2 rfl) ?_
    refine lv_i2l hx hb dX7_set_9 rfl ?_
    refine lv_lconst (v := 0) hx hb dX7_set_10 (by decide) ?_
    refine lv_ldc2 hx hb hown (hts _ q1168) dX7_set_11 ?_
    refine wc_Sik (As := [.long ((x2).toInt64), .long (0 : Int64), .long (3 : Int64)]) (rest := []) C (met_M_in l D ca H.size ((x2).toInt64) (0 : Int64) (3 : Int64)) (va_cwS 3 hts (lw_S q1069 q1070 q75 q1071) rfl rfl rfl (by decide +kernel) ⟨Nat.le_of_ble_eq_true rfl, Nat.le_of_ble_eq_true rfl⟩) hP hD hS [] rfl (by decide) rfl rfl hl.1 (Nat.le_of_ble_eq_true rfl) dX7_set_14 ⟨Nat.le_of_ble_eq_true rfl, Nat.le_of_ble_eq_true rfl⟩ (fun r_3 u H locs hr hP hD hS => ?_)
    subst hr
    refine lv_if_eq (tgt := 51) hx hb dX7_set_17 (by decide) (fun c_4 => ?_) (fun c_4 => ?_)
    · have G := G.1 c_4
      refine lv_iconst (v := -1) hx hb dX7_set_51 (by decide) ?_
      rw [hZ]
      exact W.iret hx hb hr (fun t ht hW => ⟨⟨(-1 : Int32), state, rfl, G, by rw [ht]; exact hP, hD⟩, hS.F ht⟩) hS.2.2 dX7_set_52 hlocks
    · have G := G.2 c_4
      refine lv_iload_n hx hb dX7_set_20 rfl (lv_at hl 3 rfl) ?_
      refine lv_i2l hx hb dX7_set_21 rfl ?_
      refine lv_lconst (v := 0) hx hb dX7_set_22 (by decide) ?_
      refine lv_iload_n hx hb dX7_set_23 rfl (lv_at hl 2 rfl) ?_
      have hJ : ∀ (H : Heap) (locs : List Loc), va_P D vwCl (mW ad ca blocks trainMany lockMany readBlocks readTrains readLockMany blocksTold omensTold highBlock taped fault broken brokenAt spot here token value bumpAt bumpIn bumpOf waited keptOut visited seenMany drawn torn state locks waits readPage readLocks tape cuts letters place left hasSeen homeAt places seen wouldBe isKept lanes lengths cells) H → va_D A (mW ad ca blocks trainMany lockMany readBlocks readTrains readLockMany blocksTold omensTold highBlock taped fault broken brokenAt spot here token value bumpAt bumpIn bumpOf waited keptOut visited seenMany drawn torn state locks waits readPage readLocks tape cuts letters place left hasSeen homeAt places seen wouldBe isKept lanes lengths cells) → va_S A s.heap H locs → ∀ v_11 : Int64, v_11 = (if x2 = 0 then (3 : Int64) else (if x2 = (1 : Int32) then (1 : Int64) else (9 : Int64))) → W p l e rm_M_set s m args below meth c H locs 0 0 Z (F0 m 45 ls (.long v_11 :: [.long (0 : Int64), .long ((x3).toInt64)])) := by
        intro H locs hP hD hS v_11 hv
        subst hv
        refine wc_Sik (As := [.long ((x3).toInt64), .long (0 : Int64), .long (if x2 = 0 then (3 : Int64) else (if x2 = (1 : Int32) then (1 : Int64) else (9 : Int64)))]) (rest := []) C (met_M_in l D ca H.size ((x3).toInt64) (0 : Int64) (if x2 = 0 then (3 : Int64) else (if x2 = (1 : Int32) then (1 : Int64) else (9 : Int64)))) (va_cwS 3 hts (lw_S q1069 q1070 q75 q1071) rfl rfl rfl (by decide +kernel) ⟨Nat.le_of_ble_eq_true rfl, Nat.le_of_ble_eq_true rfl⟩) hP hD hS [] rfl (by decide) rfl rfl hl.1 (Nat.le_of_ble_eq_true rfl) dX7_set_45 ⟨Nat.le_of_ble_eq_true rfl, Nat.le_of_ble_eq_true rfl⟩ (fun r_7 u H locs hr hP hD hS => ?_)
        subst hr
        refine lv_if_ne (tgt := 53) hx hb dX7_set_48 (by decide) (fun c_8 => ?_) (fun c_8 => ?_)
        · have G := G.2 c_8
          refine lv_aload_n hx hb dX7_set_53 rfl (lv_at hl 0 rfl) ?_
          refine va_get hx hb hts in_X7 hown hK hP 0 rfl rfl 0 (by decide) (hts _ q928) (fun _ h => h) rfl dX7_set_54 ?_
          refine lv_bipush (v := 9) hx hb dX7_set_57 (by decide) ?_
          refine lv_iconst (v := 4) hx hb dX7_set_59 (by decide) ?_
          refine lv_iload_n hx hb dX7_set_60 rfl (lv_at hl 2 rfl) ?_
          refine lv_imul hx hb dX7_set_61 ?_
          refine lv_iadd hx hb dX7_set_62 ?_
          refine lv_iload_n hx hb dX7_set_63 rfl (lv_at hl 1 rfl) ?_
          refine lv_iadd hx hb dX7_set_64 ?_
          obtain ⟨h_9, G⟩ := G
          refine va_iald hx hb hK hP 1 0 rfl rfl h_9 dX7_set_65 ?_
          refine lv_istore (lv' := [(4, .int (state (((9 : Int32) + ((4 : Int32) * x2)) + x1).toNatClampNeg)), (0, .ref (ad 0)), (1, .int x1), (2, .int x2), (3, .int x3)]) hx hb dX7_set_66 hl (by decide) rfl (fun ls hl => ?_)
          refine lv_aload_n hx hb dX7_set_68 rfl (lv_at hl 1 rfl) ?_
          refine va_get hx hb hts in_X7 hown hK hP 0 rfl rfl 0 (by decide) (hts _ q928) (fun _ h => h) rfl dX7_set_69 ?_
          refine lv_bipush (v := 9) hx hb dX7_set_72 (by decide) ?_
          refine lv_iconst (v := 4) hx hb dX7_set_74 (by decide) ?_
          refine lv_iload_n hx hb dX7_set_75 rfl (lv_at hl 3 rfl) ?_
          refine lv_imul hx hb dX7_set_76 ?_
          refine lv_iadd hx hb dX7_set_77 ?_
          refine lv_iload_n hx hb dX7_set_78 rfl (lv_at hl 2 rfl) ?_
          refine lv_iadd hx hb dX7_set_79 ?_
          refine lv_iload_n hx hb dX7_set_80 rfl (lv_at hl 4 rfl) ?_
          obtain ⟨h_10, G⟩ := G
          refine va_iast hx hb hK hP hD hS 1 0 rfl rfl h_10 dX7_set_81 (fun H locs hP hD hS => ?_)
          have hP : va_P D vwCl (mW ad ca blocks trainMany lockMany readBlocks readTrains readLockMany blocksTold omensTold highBlock taped fault broken brokenAt spot here token value bumpAt bumpIn bumpOf waited keptOut visited seenMany drawn torn (upd state (((9 : Int32) + ((4 : Int32) * x2)) + x1).toNatClampNeg x3) locks waits readPage readLocks tape cuts letters place left hasSeen homeAt places seen wouldBe isKept lanes lengths cells) H := hP
          have hD : va_D A (mW ad ca blocks trainMany lockMany readBlocks readTrains readLockMany blocksTold omensTold highBlock taped fault broken brokenAt spot here token value bumpAt bumpIn bumpOf waited keptOut visited seenMany drawn torn (upd state (((9 : Int32) + ((4 : Int32) * x2)) + x1).toNatClampNeg x3) locks waits readPage readLocks tape cuts letters place left hasSeen homeAt places seen wouldBe isKept lanes lengths cells) := hD
          refine lv_iload hx hb dX7_set_82 (lv_at hl 0 rfl) ?_
          rw [hZ]
          exact W.iret hx hb hr (fun t ht hW => ⟨⟨(state (((9 : Int32) + ((4 : Int32) * x2)) + x1).toNatClampNeg), (upd state (((9 : Int32) + ((4 : Int32) * x2)) + x1).toNatClampNeg x3), rfl, G, by rw [ht]; exact hP, hD⟩, hS.F ht⟩) hS.2.2 dX7_set_84 hlocks
        · have G := G.1 c_8
          refine lv_iconst (v := -1) hx hb dX7_set_51 (by decide) ?_
          rw [hZ]
          exact W.iret hx hb hr (fun t ht hW => ⟨⟨(-1 : Int32), state, rfl, G, by rw [ht]; exact hP, hD⟩, hS.F ht⟩) hS.2.2 dX7_set_52 hlocks
      refine lv_if_ne (tgt := 33) hx hb dX7_set_24 (by decide) (fun c_5 => ?_) (fun c_5 => ?_)
      · refine lv_iload_n hx hb dX7_set_33 rfl (lv_at hl 2 rfl) ?_
        refine lv_iconst (v := 1) hx hb dX7_set_34 (by decide) ?_
        refine lv_icmp_ne (tgt := 42) hx hb dX7_set_35 (by decide) (fun c_6 => ?_) (fun c_6 => ?_)
        · refine lv_ldc2 hx hb hown (hts _ q1189) dX7_set_42 ?_
          exact hJ _ _ hP hD hS _ (eF c_5 (eF c_6 rfl))
        · refine lv_lconst (v := 1) hx hb dX7_set_38 (by decide) ?_
          refine lv_goto (tgt := 45) hx hb dX7_set_39 (by decide) ?_
          exact hJ _ _ hP hD hS _ (eF c_5 (eT c_6 rfl))
      · refine lv_ldc2 hx hb hown (hts _ q1168) dX7_set_27 ?_
        refine lv_goto (tgt := 45) hx hb dX7_set_30 (by decide) ?_
        exact hJ _ _ hP hD hS _ (eT c_5 rfl)
abbrev rm_M_isUp : Room := { frames := 1, cells := 0, slots := 0, locals := 0 }
set_option maxHeartbeats 4000000 in
theorem met_M_isUp (l : Launch) (D : va_G) (ad : Nat → Nat) (ca : Nat → ClassId) (sz : Nat) (blocks : Int32) (trainMany : Int32) (lockMany : Int32) (readBlocks : Int32) (readTrains : Int32) (readLockMany : Int32) (blocksTold : Int32) (omensTold : Int32) (highBlock : Int32) (taped : Int32) (fault : Int32) (broken : Int32) (brokenAt : Int32) (spot : Int32) (here : Int32) (token : Int32) (value : Int32) (bumpAt : Int32) (bumpIn : Int32) (bumpOf : Int32) (waited : Int32) (keptOut : Int32) (visited : Int32) (seenMany : Int32) (drawn : Int32) (torn : Int32) (state : Nat → Int32) (locks : Nat → Int32) (waits : Nat → Int32) (readPage : Nat → Int32) (readLocks : Nat → Int32) (tape : Nat → Int32) (cuts : Nat → Int32) (letters : Nat → Int32) (place : Nat → Int32) (left : Nat → Int32) (hasSeen : Nat → Int32) (homeAt : Nat → Int32) (places : Nat → Int32) (seen : Nat → Int32) (wouldBe : Nat → Int32) (isKept : Nat → Int32) (lanes : Nat → Int32) (lengths : Nat → Int32) (cells : Nat → Int32) (x1 : Int32) (hside : M_isUp_s state x1) : Met l yX7_isUp (ws_ yX7_isUp cX7_isUp 2 (some .boolean)) rm_M_isUp (va_Pc [.ref (ad 0), .int x1] (wpre D vwCl (tyL ca) (mW ad ca blocks trainMany lockMany readBlocks readTrains readLockMany blocksTold omensTold highBlock taped fault broken brokenAt spot here token value bumpAt bumpIn bumpOf waited keptOut visited seenMany drawn torn state locks waits readPage readLocks tape cuts letters place left hasSeen homeAt places seen wouldBe isKept lanes lengths cells) sz)) (va_Qi (fun (r : Int32) (u : Unit) => r = M_isUp_e state x1) (wpost D vwCl (va_A (mW ad ca blocks trainMany lockMany readBlocks readTrains readLockMany blocksTold omensTold highBlock taped fault broken brokenAt spot here token value bumpAt bumpIn bumpOf waited keptOut visited seenMany drawn torn state locks waits readPage readLocks tape cuts letters place left hasSeen homeAt places seen wouldBe isKept lanes lengths cells) sz) (fun (u : Unit) => (mW ad ca blocks trainMany lockMany readBlocks readTrains readLockMany blocksTold omensTold highBlock taped fault broken brokenAt spot here token value bumpAt bumpIn bumpOf waited keptOut visited seenMany drawn torn state locks waits readPage readLocks tape cuts letters place left hasSeen homeAt places seen wouldBe isKept lanes lengths cells))) (va_A (mW ad ca blocks trainMany lockMany readBlocks readTrains readLockMany blocksTold omensTold highBlock taped fault broken brokenAt spot here token value bumpAt bumpIn bumpOf waited keptOut visited seenMany drawn torn state locks waits readPage readLocks tape cuts letters place left hasSeen homeAt places seen wouldBe isKept lanes lengths cells) sz)) 0 0 (va_A (mW ad ca blocks trainMany lockMany readBlocks readTrains readLockMany blocksTold omensTold highBlock taped fault broken brokenAt spot here token value bumpAt bumpIn bumpOf waited keptOut visited seenMany drawn torn state locks waits readPage readLocks tape cuts letters place left hasSeen homeAt places seen wouldBe isKept lanes lengths cells) sz) := by
  refine met_of (fun A => (va_Qi (fun (r : Int32) (u : Unit) => r = M_isUp_e state x1) (wpost D vwCl A (fun (u : Unit) => (mW ad ca blocks trainMany lockMany readBlocks readTrains readLockMany blocksTold omensTold highBlock taped fault broken brokenAt spot here token value bumpAt bumpIn bumpOf waited keptOut visited seenMany drawn torn state locks waits readPage readLocks tape cuts letters place left hasSeen homeAt places seen wouldBe isKept lanes lengths cells))) A)) (by decide) (Nat.le_of_ble_eq_true rfl) ?_
  intro p e s m args below meth c Z A hZ C H locs hP hD hS ls hl
  have hx := C.1; have hb := C.2.1; have hr := C.2.2.1; have hlocks := C.2.2.2.1; have hml := C.2.2.2.2.1; have hown := C.2.2.2.2.2.1; have hts := C.2.2.2.2.2.2.1; have hn := C.2.2.2.2.2.2.2.1; have hK := C.2.2.2.2.2.2.2.2.1; have hA := C.2.2.2.2.2.2.2.2.2
  have hl : lv_has ls 2 [(0, .ref (ad 0)), (1, .int x1)] := hl
  have h_1 := hside
  refine lv_aload_n hx hb dX7_isUp_0 rfl (lv_at hl 0 rfl) ?_
  refine va_get hx hb hts in_X7 hown hK hP 0 rfl rfl 0 (by decide) (hts _ q928) (fun _ h => h) rfl dX7_isUp_1 ?_
  refine lv_bipush (v := 13) hx hb dX7_isUp_4 (by decide) ?_
  refine lv_iload_n hx hb dX7_isUp_6 rfl (lv_at hl 1 rfl) ?_
  refine lv_iadd hx hb dX7_isUp_7 ?_
  refine va_iald hx hb hK hP 1 0 rfl rfl h_1 dX7_isUp_8 ?_
  refine lv_if_ne (tgt := 16) hx hb dX7_isUp_9 (by decide) (fun c_2 => ?_) (fun c_2 => ?_)
  · refine lv_iconst (v := 0) hx hb dX7_isUp_16 (by decide) ?_
    rw [hZ]
    exact W.zret hx hb hr (zb_n zb_0) (fun t ht hW => ⟨⟨(0 : Int32), (), rfl, (eF c_2 rfl), by rw [ht]; exact hP, hD⟩, hS.F ht⟩) hS.2.2 dX7_isUp_17 hlocks
  · refine lv_iconst (v := 1) hx hb dX7_isUp_12 (by decide) ?_
    refine lv_goto (tgt := 17) hx hb dX7_isUp_13 (by decide) ?_
    rw [hZ]
    exact W.zret hx hb hr (zb_n zb_1) (fun t ht hW => ⟨⟨(1 : Int32), (), rfl, (eT c_2 rfl), by rw [ht]; exact hP, hD⟩, hS.F ht⟩) hS.2.2 dX7_isUp_17 hlocks
abbrev rm_M_nextBlock : Room := { frames := 2, cells := 0, slots := 0, locals := 21 }
set_option maxHeartbeats 4000000 in
theorem met_M_nextBlock (l : Launch) (D : va_G) (ad : Nat → Nat) (ca : Nat → ClassId) (sz : Nat) (blocks : Int32) (trainMany : Int32) (lockMany : Int32) (readBlocks : Int32) (readTrains : Int32) (readLockMany : Int32) (blocksTold : Int32) (omensTold : Int32) (highBlock : Int32) (taped : Int32) (fault : Int32) (broken : Int32) (brokenAt : Int32) (spot : Int32) (here : Int32) (token : Int32) (value : Int32) (bumpAt : Int32) (bumpIn : Int32) (bumpOf : Int32) (waited : Int32) (keptOut : Int32) (visited : Int32) (seenMany : Int32) (drawn : Int32) (torn : Int32) (state : Nat → Int32) (locks : Nat → Int32) (waits : Nat → Int32) (readPage : Nat → Int32) (readLocks : Nat → Int32) (tape : Nat → Int32) (cuts : Nat → Int32) (letters : Nat → Int32) (place : Nat → Int32) (left : Nat → Int32) (hasSeen : Nat → Int32) (homeAt : Nat → Int32) (places : Nat → Int32) (seen : Nat → Int32) (wouldBe : Nat → Int32) (isKept : Nat → Int32) (lanes : Nat → Int32) (lengths : Nat → Int32) (cells : Nat → Int32) (x1 : Int32) (hside : M_nextBlock_s blocks state place x1) : Met l yX7_nextBlock (ws_ yX7_nextBlock cX7_nextBlock 2 (some .int)) rm_M_nextBlock (va_Pc [.ref (ad 0), .int x1] (wpre D vwCl (tyL ca) (mW ad ca blocks trainMany lockMany readBlocks readTrains readLockMany blocksTold omensTold highBlock taped fault broken brokenAt spot here token value bumpAt bumpIn bumpOf waited keptOut visited seenMany drawn torn state locks waits readPage readLocks tape cuts letters place left hasSeen homeAt places seen wouldBe isKept lanes lengths cells) sz)) (va_Qi (fun (r : Int32) (u : Unit) => r = M_nextBlock_e blocks state place x1) (wpost D vwCl (va_A (mW ad ca blocks trainMany lockMany readBlocks readTrains readLockMany blocksTold omensTold highBlock taped fault broken brokenAt spot here token value bumpAt bumpIn bumpOf waited keptOut visited seenMany drawn torn state locks waits readPage readLocks tape cuts letters place left hasSeen homeAt places seen wouldBe isKept lanes lengths cells) sz) (fun (u : Unit) => (mW ad ca blocks trainMany lockMany readBlocks readTrains readLockMany blocksTold omensTold highBlock taped fault broken brokenAt spot here token value bumpAt bumpIn bumpOf waited keptOut visited seenMany drawn torn state locks waits readPage readLocks tape cuts letters place left hasSeen homeAt places seen wouldBe isKept lanes lengths cells))) (va_A (mW ad ca blocks trainMany lockMany readBlocks readTrains readLockMany blocksTold omensTold highBlock taped fault broken brokenAt spot here token value bumpAt bumpIn bumpOf waited keptOut visited seenMany drawn torn state locks waits readPage readLocks tape cuts letters place left hasSeen homeAt places seen wouldBe isKept lanes lengths cells) sz)) 0 0 (va_A (mW ad ca blocks trainMany lockMany readBlocks readTrains readLockMany blocksTold omensTold highBlock taped fault broken brokenAt spot here token value bumpAt bumpIn bumpOf waited keptOut visited seenMany drawn torn state locks waits readPage readLocks tape cuts letters place left hasSeen homeAt places seen wouldBe isKept lanes lengths cells) sz) := by
  refine met_of (fun A => (va_Qi (fun (r : Int32) (u : Unit) => r = M_nextBlock_e blocks state place x1) (wpost D vwCl A (fun (u : Unit) => (mW ad ca blocks trainMany lockMany readBlocks readTrains readLockMany blocksTold omensTold highBlock taped fault broken brokenAt spot here token value bumpAt bumpIn bumpOf waited keptOut visited seenMany drawn torn state locks waits readPage readLocks tape cuts letters place left hasSeen homeAt places seen wouldBe isKept lanes lengths cells))) A)) (by decide) (Nat.le_of_ble_eq_true rfl) ?_
  intro p e s m args below meth c Z A hZ C H locs hP hD hS ls hl
  have hx := C.1; have hb := C.2.1; have hr := C.2.2.1; have hlocks := C.2.2.2.1; have hml := C.2.2.2.2.1; have hown := C.2.2.2.2.2.1; have hts := C.2.2.2.2.2.2.1; have hn := C.2.2.2.2.2.2.2.1; have hK := C.2.2.2.2.2.2.2.2.1; have hA := C.2.2.2.2.2.2.2.2.2
  have hl : lv_has ls 2 [(0, .ref (ad 0)), (1, .int x1)] := hl
  obtain ⟨h_1, h_3, h_6, h_7, h_8⟩ := hside
  refine lv_aload_n hx hb dX7_nextBlock_0 rfl (lv_at hl 0 rfl) ?_
  refine va_get hx hb hts in_X7 hown hK hP 0 rfl rfl 25 (by decide) (hts _ q953) (fun _ h => h) rfl dX7_nextBlock_1 ?_
  refine lv_iload_n hx hb dX7_nextBlock_4 rfl (lv_at hl 1 rfl) ?_
  refine va_iald hx hb hK hP 9 0 rfl rfl h_1 dX7_nextBlock_5 ?_
  refine lv_bipush (v := -4) hx hb dX7_nextBlock_6 (by decide) ?_
  refine lv_icmp_ne (tgt := 32) hx hb dX7_nextBlock_8 (by decide) (fun c_2 => ?_) (fun c_2 => ?_)
  · refine lv_aload_n hx hb dX7_nextBlock_32 rfl (lv_at hl 0 rfl) ?_
    refine lv_iload_n hx hb dX7_nextBlock_33 rfl (lv_at hl 1 rfl) ?_
    refine wc_Vik (As := [.int x1]) (rest := []) C (met_M_isUp l D ad ca H.size blocks trainMany lockMany readBlocks readTrains readLockMany blocksTold omensTold highBlock taped fault broken brokenAt spot here token value bumpAt bumpIn bumpOf waited keptOut visited seenMany drawn torn state locks waits readPage readLocks tape cuts letters place left hasSeen homeAt places seen wouldBe isKept lanes lengths cells x1 (h_3 c_2)) (cwV 1 hts (lw_V q1202 q1204 qs54 q75 q1205) rfl rfl rfl (by decide +kernel) ⟨Nat.le_of_ble_eq_true rfl, Nat.le_of_ble_eq_true rfl⟩) hP hD hS (List.range _) (wc_self _) (wc_nd _) 0 rfl rfl rfl rfl hl.1 (Nat.le_of_ble_eq_true rfl) dX7_nextBlock_34 ⟨Nat.le_of_ble_eq_true rfl, Nat.le_of_ble_eq_true rfl⟩ (fun r_4 u H locs hr hP hD hS => ?_)
    subst hr
    refine lv_if_eq (tgt := 51) hx hb dX7_nextBlock_37 (by decide) (fun c_5 => ?_) (fun c_5 => ?_)
    · refine lv_aload_n hx hb dX7_nextBlock_51 rfl (lv_at hl 0 rfl) ?_
      refine va_get hx hb hts in_X7 hown hK hP 0 rfl rfl 25 (by decide) (hts _ q953) (fun _ h => h) rfl dX7_nextBlock_52 ?_
      refine lv_iload_n hx hb dX7_nextBlock_55 rfl (lv_at hl 1 rfl) ?_
      refine va_iald hx hb hK hP 9 0 rfl rfl (h_6 c_2 c_5) dX7_nextBlock_56 ?_
      refine lv_iconst (v := 1) hx hb dX7_nextBlock_57 (by decide) ?_
      refine lv_isub hx hb dX7_nextBlock_58 ?_
      rw [hZ]
      exact W.iret hx hb hr (fun t ht hW => ⟨⟨((place x1.toNatClampNeg) - (1 : Int32)), (), rfl, (eF c_2 (eT c_5 rfl)), by rw [ht]; exact hP, hD⟩, hS.F ht⟩) hS.2.2 dX7_nextBlock_59 hlocks
    · refine lv_aload_n hx hb dX7_nextBlock_40 rfl (lv_at hl 0 rfl) ?_
      refine va_get hx hb hts in_X7 hown hK hP 0 rfl rfl 25 (by decide) (hts _ q953) (fun _ h => h) rfl dX7_nextBlock_41 ?_
      refine lv_iload_n hx hb dX7_nextBlock_44 rfl (lv_at hl 1 rfl) ?_
      refine va_iald hx hb hK hP 9 0 rfl rfl (h_7 c_2 c_5) dX7_nextBlock_45 ?_
      refine lv_iconst (v := 1) hx hb dX7_nextBlock_46 (by decide) ?_
      refine lv_iadd hx hb dX7_nextBlock_47 ?_
      refine lv_goto (tgt := 59) hx hb dX7_nextBlock_48 (by decide) ?_
      rw [hZ]
      exact W.iret hx hb hr (fun t ht hW => ⟨⟨((place x1.toNatClampNeg) + (1 : Int32)), (), rfl, (eF c_2 (eF c_5 rfl)), by rw [ht]; exact hP, hD⟩, hS.F ht⟩) hS.2.2 dX7_nextBlock_59 hlocks
  · refine lv_aload_n hx hb dX7_nextBlock_11 rfl (lv_at hl 0 rfl) ?_
    refine lv_iload_n hx hb dX7_nextBlock_12 rfl (lv_at hl 1 rfl) ?_
    refine wc_Vik (As := [.int x1]) (rest := []) C (met_M_isUp l D ad ca H.size blocks trainMany lockMany readBlocks readTrains readLockMany blocksTold omensTold highBlock taped fault broken brokenAt spot here token value bumpAt bumpIn bumpOf waited keptOut visited seenMany drawn torn state locks waits readPage readLocks tape cuts letters place left hasSeen homeAt places seen wouldBe isKept lanes lengths cells x1 (h_8 c_2)) (cwV 1 hts (lw_V q1202 q1204 qs54 q75 q1205) rfl rfl rfl (by decide +kernel) ⟨Nat.le_of_ble_eq_true rfl, Nat.le_of_ble_eq_true rfl⟩) hP hD hS (List.range _) (wc_self _) (wc_nd _) 0 rfl rfl rfl rfl hl.1 (Nat.le_of_ble_eq_true rfl) dX7_nextBlock_13 ⟨Nat.le_of_ble_eq_true rfl, Nat.le_of_ble_eq_true rfl⟩ (fun r_9 u H locs hr hP hD hS => ?_)
    subst hr
    refine lv_if_eq (tgt := 23) hx hb dX7_nextBlock_16 (by decide) (fun c_10 => ?_) (fun c_10 => ?_)
    · refine lv_aload_n hx hb dX7_nextBlock_23 rfl (lv_at hl 0 rfl) ?_
      refine va_get hx hb hts in_X7 hown hK hP 0 rfl rfl 1 (by decide) (hts _ q929) (fun _ h => h) rfl dX7_nextBlock_24 ?_
      refine lv_iconst (v := 1) hx hb dX7_nextBlock_27 (by decide) ?_
      refine lv_isub hx hb dX7_nextBlock_28 ?_
      refine lv_goto (tgt := 59) hx hb dX7_nextBlock_29 (by decide) ?_
      rw [hZ]
      exact W.iret hx hb hr (fun t ht hW => ⟨⟨(blocks - (1 : Int32)), (), rfl, (eT c_2 (eT c_10 rfl)), by rw [ht]; exact hP, hD⟩, hS.F ht⟩) hS.2.2 dX7_nextBlock_59 hlocks
    · refine lv_iconst (v := 0) hx hb dX7_nextBlock_19 (by decide) ?_
      refine lv_goto (tgt := 59) hx hb dX7_nextBlock_20 (by decide) ?_
      rw [hZ]
      exact W.iret hx hb hr (fun t ht hW => ⟨⟨(0 : Int32), (), rfl, (eT c_2 (eF c_10 rfl)), by rw [ht]; exact hP, hD⟩, hS.F ht⟩) hS.2.2 dX7_nextBlock_59 hlocks
abbrev rm_M_otherIn : Room := { frames := 1, cells := 0, slots := 0, locals := 0 }
set_option maxHeartbeats 4000000 in
theorem w_M_otherIn_L6 {p : Program} {l : Launch} {e : Env} {s : State} {m : MethodId} {args : Array Value} {below : List Frame} {meth : Method} {c : Code} {D : va_G} {ad : Nat → Nat} {ca : Nat → ClassId} {A : Nat → Prop} {Z : State → Prop} (C : cx cX7_otherIn 5 (some .int) RX7 D vwCl (tyL ca) A p c meth s m args) {blocks : Int32} {trainMany : Int32} {lockMany : Int32} {readBlocks : Int32} {readTrains : Int32} {readLockMany : Int32} {blocksTold : Int32} {omensTold : Int32} {highBlock : Int32} {taped : Int32} {fault : Int32} {broken : Int32} {brokenAt : Int32} {spot : Int32} {here : Int32} {token : Int32} {value : Int32} {bumpAt : Int32} {bumpIn : Int32} {bumpOf : Int32} {waited : Int32} {keptOut : Int32} {visited : Int32} {seenMany : Int32} {drawn : Int32} {torn : Int32} {state : Nat → Int32} {locks : Nat → Int32} {waits : Nat → Int32} {readPage : Nat → Int32} {readLocks : Nat → Int32} {tape : Nat → Int32} {cuts : Nat → Int32} {letters : Nat → Int32} {place : Nat → Int32} {left : Nat → Int32} {hasSeen : Nat → Int32} {homeAt : Nat → Int32} {places : Nat → Int32} {seen : Nat → Int32} {wouldBe : Nat → Int32} {isKept : Nat → Int32} {lanes : Nat → Int32} {lengths : Nat → Int32} {cells : Nat → Int32} {x1 : Int32} {x2 : Int32} {k45 : Int32 → Prop} (hk45 : ∀ (x3 : Int32), k45 x3 → ∀ (ls : Array Slot) (H : Heap) (locs : List Loc), lv_has ls 5 [(3, .int x3)] → va_P D vwCl (mW ad ca blocks trainMany lockMany readBlocks readTrains readLockMany blocksTold omensTold highBlock taped fault broken brokenAt spot here token value bumpAt bumpIn bumpOf waited keptOut visited seenMany drawn torn state locks waits readPage readLocks tape cuts letters place left hasSeen homeAt places seen wouldBe isKept lanes lengths cells) H → va_D A (mW ad ca blocks trainMany lockMany readBlocks readTrains readLockMany blocksTold omensTold highBlock taped fault broken brokenAt spot here token value bumpAt bumpIn bumpOf waited keptOut visited seenMany drawn torn state locks waits readPage readLocks tape cuts letters place left hasSeen homeAt places seen wouldBe isKept lanes lengths cells) → va_S A s.heap H locs → W p l e rm_M_otherIn s m args below meth c H locs 0 0 Z (F0 m 45 ls [])) : ∀ (n : Nat) (x3 : Int32) (x4 : Int32), M_otherIn_L6 trainMany place x1 x2 k45 n x3 x4 → ∀ (ls : Array Slot) (H : Heap) (locs : List Loc), lv_has ls 5 [(0, .ref (ad 0)), (1, .int x1), (2, .int x2), (3, .int x3), (4, .int x4)] → va_P D vwCl (mW ad ca blocks trainMany lockMany readBlocks readTrains readLockMany blocksTold omensTold highBlock taped fault broken brokenAt spot here token value bumpAt bumpIn bumpOf waited keptOut visited seenMany drawn torn state locks waits readPage readLocks tape cuts letters place left hasSeen homeAt places seen wouldBe isKept lanes lengths cells) H → va_D A (mW ad ca blocks trainMany lockMany readBlocks readTrains readLockMany blocksTold omensTold highBlock taped fault broken brokenAt spot here token value bumpAt bumpIn bumpOf waited keptOut visited seenMany drawn torn state locks waits readPage readLocks tape cuts letters place left hasSeen homeAt places seen wouldBe isKept lanes lengths cells) → va_S A s.heap H locs → W p l e rm_M_otherIn s m args below meth c H locs 0 0 Z (F0 m 6 ls []) := by
  have hx := C.1; have hb := C.2.1; have hr := C.2.2.1; have hlocks := C.2.2.2.1; have hml := C.2.2.2.2.1; have hown := C.2.2.2.2.2.1; have hts := C.2.2.2.2.2.2.1; have hn := C.2.2.2.2.2.2.2.1; have hK := C.2.2.2.2.2.2.2.2.1; have hA := C.2.2.2.2.2.2.2.2.2
  intro n
  induction n with
  | zero =>
    intro x3 x4 G
    exact False.elim G
  | succ n ih =>
    intro x3 x4 G ls H locs hl hP hD hS
    unfold M_otherIn_L6 at G
    have hk6 := ih
    refine lv_iload hx hb dX7_otherIn_6 (lv_at hl 4 rfl) ?_
    refine lv_aload_n hx hb dX7_otherIn_8 rfl (lv_at hl 0 rfl) ?_
    refine va_get hx hb hts in_X7 hown hK hP 0 rfl rfl 2 (by decide) (hts _ q930) (fun _ h => h) rfl dX7_otherIn_9 ?_
    refine lv_icmp_ge (tgt := 45) hx hb dX7_otherIn_12 (by decide) (fun c_1 => ?_) (fun c_1 => ?_)
    · have G := G.1 c_1
      exact hk45 _ G _ _ _ (lv_sub hl [3] rfl) hP hD hS
    · have G := G.2 c_1
      refine lv_iload hx hb dX7_otherIn_15 (lv_at hl 4 rfl) ?_
      refine lv_iload_n hx hb dX7_otherIn_17 rfl (lv_at hl 1 rfl) ?_
      obtain ⟨h_3, G⟩ := G
      have hJ : ∀ (H : Heap) (locs : List Loc), va_P D vwCl (mW ad ca blocks trainMany lockMany readBlocks readTrains readLockMany blocksTold omensTold highBlock taped fault broken brokenAt spot here token value bumpAt bumpIn bumpOf waited keptOut visited seenMany drawn torn state locks waits readPage readLocks tape cuts letters place left hasSeen homeAt places seen wouldBe isKept lanes lengths cells) H → va_D A (mW ad ca blocks trainMany lockMany readBlocks readTrains readLockMany blocksTold omensTold highBlock taped fault broken brokenAt spot here token value bumpAt bumpIn bumpOf waited keptOut visited seenMany drawn torn state locks waits readPage readLocks tape cuts letters place left hasSeen homeAt places seen wouldBe isKept lanes lengths cells) → va_S A s.heap H locs → ∀ v_5 : Int32, v_5 = (if x4 = x1 then x3 else (if (place x4.toNatClampNeg) = x2 then x4 else x3)) → W p l e rm_M_otherIn s m args below meth c H locs 0 0 Z (F0 m 38 ls (.int v_5 :: [])) := by
        intro H locs hP hD hS v_5 hv
        subst hv
        refine lv_istore_n (lv' := [(3, .int (if x4 = x1 then x3 else (if (place x4.toNatClampNeg) = x2 then x4 else x3))), (0, .ref (ad 0)), (1, .int x1), (2, .int x2), (4, .int x4)]) hx hb dX7_otherIn_38 rfl hl (by decide) rfl (fun ls hl => ?_)
        refine lv_iinc (v := (x4 + (1 : Int32))) (lv' := [(4, .int (x4 + (1 : Int32))), (3, .int (if x4 = x1 then x3 else (if (place x4.toNatClampNeg) = x2 then x4 else x3))), (0, .ref (ad 0)), (1, .int x1), (2, .int x2)]) hx hb dX7_otherIn_39 hl (k := 4) rfl rfl (by decide) rfl (fun ls hl => ?_)
        refine lv_goto (tgt := 6) hx hb dX7_otherIn_42 (by decide) ?_
        exact hk6 _ _ G _ _ _ (lv_sub hl [2, 3, 4, 1, 0] rfl) hP hD hS
      refine lv_icmp_eq (tgt := 37) hx hb dX7_otherIn_18 (by decide) (fun c_2 => ?_) (fun c_2 => ?_)
      · refine lv_iload_n hx hb dX7_otherIn_37 rfl (lv_at hl 3 rfl) ?_
        exact hJ _ _ hP hD hS _ (eT c_2 rfl)
      · refine lv_aload_n hx hb dX7_otherIn_21 rfl (lv_at hl 0 rfl) ?_
        refine va_get hx hb hts in_X7 hown hK hP 0 rfl rfl 25 (by decide) (hts _ q953) (fun _ h => h) rfl dX7_otherIn_22 ?_
        refine lv_iload hx hb dX7_otherIn_25 (lv_at hl 4 rfl) ?_
        refine va_iald hx hb hK hP 9 0 rfl rfl (h_3 c_2) dX7_otherIn_27 ?_
        refine lv_iload_n hx hb dX7_otherIn_28 rfl (lv_at hl 2 rfl) ?_
        refine lv_icmp_ne (tgt := 37) hx hb dX7_otherIn_29 (by decide) (fun c_4 => ?_) (fun c_4 => ?_)
        · refine lv_iload_n hx hb dX7_otherIn_37 rfl (lv_at hl 3 rfl) ?_
          exact hJ _ _ hP hD hS _ (eF c_2 (eF c_4 rfl))
        · refine lv_iload hx hb dX7_otherIn_32 (lv_at hl 4 rfl) ?_
          refine lv_goto (tgt := 38) hx hb dX7_otherIn_34 (by decide) ?_
          exact hJ _ _ hP hD hS _ (eF c_2 (eT c_4 rfl))
set_option maxHeartbeats 4000000 in
theorem met_M_otherIn (l : Launch) (D : va_G) (ad : Nat → Nat) (ca : Nat → ClassId) (sz : Nat) (blocks : Int32) (trainMany : Int32) (lockMany : Int32) (readBlocks : Int32) (readTrains : Int32) (readLockMany : Int32) (blocksTold : Int32) (omensTold : Int32) (highBlock : Int32) (taped : Int32) (fault : Int32) (broken : Int32) (brokenAt : Int32) (spot : Int32) (here : Int32) (token : Int32) (value : Int32) (bumpAt : Int32) (bumpIn : Int32) (bumpOf : Int32) (waited : Int32) (keptOut : Int32) (visited : Int32) (seenMany : Int32) (drawn : Int32) (torn : Int32) (state : Nat → Int32) (locks : Nat → Int32) (waits : Nat → Int32) (readPage : Nat → Int32) (readLocks : Nat → Int32) (tape : Nat → Int32) (cuts : Nat → Int32) (letters : Nat → Int32) (place : Nat → Int32) (left : Nat → Int32) (hasSeen : Nat → Int32) (homeAt : Nat → Int32) (places : Nat → Int32) (seen : Nat → Int32) (wouldBe : Nat → Int32) (isKept : Nat → Int32) (lanes : Nat → Int32) (lengths : Nat → Int32) (cells : Nat → Int32) (x1 : Int32) (x2 : Int32) (Q : Int32 → Prop) (G : M_otherIn trainMany place x1 x2 Q) : Met l yX7_otherIn (ws_ yX7_otherIn cX7_otherIn 5 (some .int)) rm_M_otherIn (va_Pc [.ref (ad 0), .int x1, .int x2] (wpre D vwCl (tyL ca) (mW ad ca blocks trainMany lockMany readBlocks readTrains readLockMany blocksTold omensTold highBlock taped fault broken brokenAt spot here token value bumpAt bumpIn bumpOf waited keptOut visited seenMany drawn torn state locks waits readPage readLocks tape cuts letters place left hasSeen homeAt places seen wouldBe isKept lanes lengths cells) sz)) (va_Qi (fun (r : Int32) (u : Unit) => Q r) (wpost D vwCl (va_A (mW ad ca blocks trainMany lockMany readBlocks readTrains readLockMany blocksTold omensTold highBlock taped fault broken brokenAt spot here token value bumpAt bumpIn bumpOf waited keptOut visited seenMany drawn torn state locks waits readPage readLocks tape cuts letters place left hasSeen homeAt places seen wouldBe isKept lanes lengths cells) sz) (fun (u : Unit) => (mW ad ca blocks trainMany lockMany readBlocks readTrains readLockMany blocksTold omensTold highBlock taped fault broken brokenAt spot here token value bumpAt bumpIn bumpOf waited keptOut visited seenMany drawn torn state locks waits readPage readLocks tape cuts letters place left hasSeen homeAt places seen wouldBe isKept lanes lengths cells))) (va_A (mW ad ca blocks trainMany lockMany readBlocks readTrains readLockMany blocksTold omensTold highBlock taped fault broken brokenAt spot here token value bumpAt bumpIn bumpOf waited keptOut visited seenMany drawn torn state locks waits readPage readLocks tape cuts letters place left hasSeen homeAt places seen wouldBe isKept lanes lengths cells) sz)) 0 0 (va_A (mW ad ca blocks trainMany lockMany readBlocks readTrains readLockMany blocksTold omensTold highBlock taped fault broken brokenAt spot here token value bumpAt bumpIn bumpOf waited keptOut visited seenMany drawn torn state locks waits readPage readLocks tape cuts letters place left hasSeen homeAt places seen wouldBe isKept lanes lengths cells) sz) := by
  refine met_of (fun A => (va_Qi (fun (r : Int32) (u : Unit) => Q r) (wpost D vwCl A (fun (u : Unit) => (mW ad ca blocks trainMany lockMany readBlocks readTrains readLockMany blocksTold omensTold highBlock taped fault broken brokenAt spot here token value bumpAt bumpIn bumpOf waited keptOut visited seenMany drawn torn state locks waits readPage readLocks tape cuts letters place left hasSeen homeAt places seen wouldBe isKept lanes lengths cells))) A)) (by decide) (Nat.le_of_ble_eq_true rfl) ?_
  intro p e s m args below meth c Z A hZ C H locs hP hD hS ls hl
  have hx := C.1; have hb := C.2.1; have hr := C.2.2.1; have hlocks := C.2.2.2.1; have hml := C.2.2.2.2.1; have hown := C.2.2.2.2.2.1; have hts := C.2.2.2.2.2.2.1; have hn := C.2.2.2.2.2.2.2.1; have hK := C.2.2.2.2.2.2.2.2.1; have hA := C.2.2.2.2.2.2.2.2.2
  have hl : lv_has ls 5 [(0, .ref (ad 0)), (1, .int x1), (2, .int x2)] := hl
  unfold M_otherIn at G
  refine lv_bipush (v := -4) hx hb dX7_otherIn_0 (by decide) ?_
  refine lv_istore_n (lv' := [(3, .int (-4 : Int32)), (0, .ref (ad 0)), (1, .int x1), (2, .int x2)]) hx hb dX7_otherIn_2 rfl hl (by decide) rfl (fun ls hl => ?_)
  refine lv_iconst (v := 0) hx hb dX7_otherIn_3 (by decide) ?_
  refine lv_istore (lv' := [(4, .int (0 : Int32)), (3, .int (-4 : Int32)), (0, .ref (ad 0)), (1, .int x1), (2, .int x2)]) hx hb dX7_otherIn_4 hl (by decide) rfl (fun ls hl => ?_)
  obtain ⟨n_6, G⟩ := G
  refine w_M_otherIn_L6 C (fun x3_7 G ls H locs hl hP hD hS => ?_) n_6 _ _ G _ _ _ (lv_sub hl [2, 3, 4, 1, 0] rfl) hP hD hS
  refine lv_iload_n hx hb dX7_otherIn_45 rfl (lv_at hl 0 rfl) ?_
  rw [hZ]
  exact W.iret hx hb hr (fun t ht hW => ⟨⟨x3_7, (), rfl, G, by rw [ht]; exact hP, hD⟩, hS.F ht⟩) hS.2.2 dX7_otherIn_46 hlocks
abbrev rm_M_moves : Room := { frames := 3, cells := 0, slots := 0, locals := 42 }
set_option maxHeartbeats 4000000 in
theorem w_M_moves_J94 {p : Program} {l : Launch} {e : Env} {s : State} {m : MethodId} {args : Array Value} {below : List Frame} {meth : Method} {c : Code} {D : va_G} {ad : Nat → Nat} {ca : Nat → ClassId} {A : Nat → Prop} {Z : State → Prop} (C : cx cX7_moves 5 none RX7 D vwCl (tyL ca) A p c meth s m args) {blocks : Int32} {trainMany : Int32} {lockMany : Int32} {readBlocks : Int32} {readTrains : Int32} {readLockMany : Int32} {blocksTold : Int32} {omensTold : Int32} {highBlock : Int32} {taped : Int32} {fault : Int32} {broken : Int32} {brokenAt : Int32} {spot : Int32} {here : Int32} {token : Int32} {value : Int32} {bumpAt : Int32} {bumpIn : Int32} {bumpOf : Int32} {waited : Int32} {keptOut : Int32} {visited : Int32} {seenMany : Int32} {drawn : Int32} {torn : Int32} {state : Nat → Int32} {locks : Nat → Int32} {waits : Nat → Int32} {readPage : Nat → Int32} {readLocks : Nat → Int32} {tape : Nat → Int32} {cuts : Nat → Int32} {letters : Nat → Int32} {place : Nat → Int32} {left : Nat → Int32} {hasSeen : Nat → Int32} {homeAt : Nat → Int32} {places : Nat → Int32} {seen : Nat → Int32} {wouldBe : Nat → Int32} {isKept : Nat → Int32} {lanes : Nat → Int32} {lengths : Nat → Int32} {cells : Nat → Int32} {x1 : Int32} {x2 : Int32} {x3 : Int32}  {Q : Int32 → Int32 → Int32 → Int32 → Int32 → Int32 → (Nat → Int32) → (Nat → Int32) → (Nat → Int32) → (Nat → Int32) → Prop} (hZ : Z = MQ below (va_Qv (fun (u : Int32 × Int32 × Int32 × Int32 × Int32 × Int32 × (Nat → Int32) × (Nat → Int32) × (Nat → Int32) × (Nat → Int32)) => Q u.1 u.2.1 u.2.2.1 u.2.2.2.1 u.2.2.2.2.1 u.2.2.2.2.2.1 u.2.2.2.2.2.2.1 u.2.2.2.2.2.2.2.1 u.2.2.2.2.2.2.2.2.1 u.2.2.2.2.2.2.2.2.2) (wpost D vwCl A (fun (u : Int32 × Int32 × Int32 × Int32 × Int32 × Int32 × (Nat → Int32) × (Nat → Int32) × (Nat → Int32) × (Nat → Int32)) => (mW ad ca blocks trainMany lockMany readBlocks readTrains readLockMany blocksTold omensTold highBlock taped fault broken brokenAt spot here token value u.1 u.2.1 u.2.2.1 u.2.2.2.1 u.2.2.2.2.1 u.2.2.2.2.2.1 seenMany drawn torn state locks waits readPage readLocks tape cuts letters u.2.2.2.2.2.2.1 u.2.2.2.2.2.2.2.1 u.2.2.2.2.2.2.2.2.1 u.2.2.2.2.2.2.2.2.2 places seen wouldBe isKept lanes lengths cells))) A) args s 0 0 A) (G : M_moves_J94 trainMany bumpAt bumpIn bumpOf waited keptOut visited state place left hasSeen homeAt x1 x2 x3 Q) {ls : Array Slot} {H : Heap} {locs : List Loc} (hl : lv_has ls 5 [(0, .ref (ad 0)), (1, .int x1), (2, .int x2), (3, .int x3)]) (hP : va_P D vwCl (mW ad ca blocks trainMany lockMany readBlocks readTrains readLockMany blocksTold omensTold highBlock taped fault broken brokenAt spot here token value bumpAt bumpIn bumpOf waited keptOut visited seenMany drawn torn state locks waits readPage readLocks tape cuts letters place left hasSeen homeAt places seen wouldBe isKept lanes lengths cells) H) (hD : va_D A (mW ad ca blocks trainMany lockMany readBlocks readTrains readLockMany blocksTold omensTold highBlock taped fault broken brokenAt spot here token value bumpAt bumpIn bumpOf waited keptOut visited seenMany drawn torn state locks waits readPage readLocks tape cuts letters place left hasSeen homeAt places seen wouldBe isKept lanes lengths cells)) (hS : va_S A s.heap H locs) : W p l e rm_M_moves s m args below meth c H locs 0 0 Z (F0 m 94 ls []) := by
  have hx := C.1; have hb := C.2.1; have hr := C.2.2.1; have hlocks := C.2.2.2.1; have hml := C.2.2.2.2.1; have hown := C.2.2.2.2.2.1; have hts := C.2.2.2.2.2.2.1; have hn := C.2.2.2.2.2.2.2.1; have hK := C.2.2.2.2.2.2.2.2.1; have hA := C.2.2.2.2.2.2.2.2.2
  unfold M_moves_J94 at G
  refine lv_aload_n hx hb dX7_moves_94 rfl (lv_at hl 0 rfl) ?_
  refine va_get hx hb hts in_X7 hown hK hP 0 rfl rfl 26 (by decide) (hts _ q954) (fun _ h => h) rfl dX7_moves_95 ?_
  refine lv_iload_n hx hb dX7_moves_98 rfl (lv_at hl 1 rfl) ?_
  obtain ⟨h_10, G⟩ := G
  refine va_iald hx hb hK hP 10 0 rfl rfl h_10 dX7_moves_99 ?_
  refine lv_if_le (tgt := 124) hx hb dX7_moves_100 (by decide) (fun c_11 => ?_) (fun c_11 => ?_)
  · have G := G.1 c_11
    refine lv_aload_n hx hb dX7_moves_124 rfl (lv_at hl 0 rfl) ?_
    refine lv_iload_n hx hb dX7_moves_125 rfl (lv_at hl 1 rfl) ?_
    refine lv_iload_n hx hb dX7_moves_126 rfl (lv_at hl 3 rfl) ?_
    refine wc_Vik (As := [.int x1, .int x3]) (rest := []) C (met_M_otherIn l D ad ca H.size blocks trainMany lockMany readBlocks readTrains readLockMany blocksTold omensTold highBlock taped fault broken brokenAt spot here token value bumpAt bumpIn bumpOf waited keptOut visited seenMany drawn torn state locks waits readPage readLocks tape cuts letters place left hasSeen homeAt places seen wouldBe isKept lanes lengths cells x1 x3 _ G) (cwV 2 hts (lw_V q1210 q1212 qs56 q75 q1213) rfl rfl rfl (by decide +kernel) ⟨Nat.le_of_ble_eq_true rfl, Nat.le_of_ble_eq_true rfl⟩) hP hD hS (List.range _) (wc_self _) (wc_nd _) 0 rfl rfl rfl rfl hl.1 (Nat.le_of_ble_eq_true rfl) dX7_moves_127 ⟨Nat.le_of_ble_eq_true rfl, Nat.le_of_ble_eq_true rfl⟩ (fun r_12 u H locs G hP hD hS => ?_)
    refine lv_istore (lv' := [(4, .int r_12), (0, .ref (ad 0)), (1, .int x1), (2, .int x2), (3, .int x3)]) hx hb dX7_moves_130 hl (by decide) rfl (fun ls hl => ?_)
    refine lv_iload hx hb dX7_moves_132 (lv_at hl 0 rfl) ?_
    refine lv_bipush (v := -4) hx hb dX7_moves_134 (by decide) ?_
    refine lv_icmp_ne (tgt := 168) hx hb dX7_moves_136 (by decide) (fun c_13 => ?_) (fun c_13 => ?_)
    · have G := G.2 c_13
      refine lv_aload_n hx hb dX7_moves_168 rfl (lv_at hl 1 rfl) ?_
      refine va_get hx hb hts in_X7 hown hK hP 0 rfl rfl 0 (by decide) (hts _ q928) (fun _ h => h) rfl dX7_moves_169 ?_
      refine lv_bipush (v := 8) hx hb dX7_moves_172 (by decide) ?_
      refine va_iald hx hb hK hP 1 0 rfl rfl vi_8_125 dX7_moves_174 ?_
      refine lv_iload_n hx hb dX7_moves_175 rfl (lv_at hl 4 rfl) ?_
      refine lv_ishr hx hb dX7_moves_176 ?_
      refine lv_iconst (v := 1) hx hb dX7_moves_177 (by decide) ?_
      refine lv_iand hx hb dX7_moves_178 ?_
      refine lv_iconst (v := 1) hx hb dX7_moves_179 (by decide) ?_
      refine lv_icmp_ne (tgt := 196) hx hb dX7_moves_180 (by decide) (fun c_14 => ?_) (fun c_14 => ?_)
      · have G := G.2 c_14
        refine lv_aload_n hx hb dX7_moves_196 rfl (lv_at hl 1 rfl) ?_
        refine lv_iload_n hx hb dX7_moves_197 rfl (lv_at hl 3 rfl) ?_
        refine va_put hx hb hts in_X7 tyX7 tyX7_ok nmX7 hown hK hP hD hS 0 rfl rfl 30 (by decide) (hts _ q958) (fun _ h => h) rfl (tyX7_ok 30 (by decide)) rfl rfl (Nat.le_of_ble_eq_true rfl) dX7_moves_198 (fun H locs hP hD hS => ?_)
        have hP : va_P D vwCl (mW ad ca blocks trainMany lockMany readBlocks readTrains readLockMany blocksTold omensTold highBlock taped fault broken brokenAt spot here token value x2 bumpIn bumpOf waited keptOut visited seenMany drawn torn state locks waits readPage readLocks tape cuts letters place left hasSeen homeAt places seen wouldBe isKept lanes lengths cells) H := hP
        have hD : va_D A (mW ad ca blocks trainMany lockMany readBlocks readTrains readLockMany blocksTold omensTold highBlock taped fault broken brokenAt spot here token value x2 bumpIn bumpOf waited keptOut visited seenMany drawn torn state locks waits readPage readLocks tape cuts letters place left hasSeen homeAt places seen wouldBe isKept lanes lengths cells) := hD
        refine lv_aload_n hx hb dX7_moves_201 rfl (lv_at hl 1 rfl) ?_
        refine lv_iload_n hx hb dX7_moves_202 rfl (lv_at hl 4 rfl) ?_
        refine va_put hx hb hts in_X7 tyX7 tyX7_ok nmX7 hown hK hP hD hS 0 rfl rfl 31 (by decide) (hts _ q959) (fun _ h => h) rfl (tyX7_ok 31 (by decide)) rfl rfl (Nat.le_of_ble_eq_true rfl) dX7_moves_203 (fun H locs hP hD hS => ?_)
        have hP : va_P D vwCl (mW ad ca blocks trainMany lockMany readBlocks readTrains readLockMany blocksTold omensTold highBlock taped fault broken brokenAt spot here token value x2 x3 bumpOf waited keptOut visited seenMany drawn torn state locks waits readPage readLocks tape cuts letters place left hasSeen homeAt places seen wouldBe isKept lanes lengths cells) H := hP
        have hD : va_D A (mW ad ca blocks trainMany lockMany readBlocks readTrains readLockMany blocksTold omensTold highBlock taped fault broken brokenAt spot here token value x2 x3 bumpOf waited keptOut visited seenMany drawn torn state locks waits readPage readLocks tape cuts letters place left hasSeen homeAt places seen wouldBe isKept lanes lengths cells) := hD
        refine lv_aload_n hx hb dX7_moves_206 rfl (lv_at hl 1 rfl) ?_
        refine lv_bipush (v := 10) hx hb dX7_moves_207 (by decide) ?_
        refine lv_iload_n hx hb dX7_moves_209 rfl (lv_at hl 2 rfl) ?_
        refine lv_imul hx hb dX7_moves_210 ?_
        refine lv_iload hx hb dX7_moves_211 (lv_at hl 0 rfl) ?_
        refine lv_iadd hx hb dX7_moves_213 ?_
        refine va_put hx hb hts in_X7 tyX7 tyX7_ok nmX7 hown hK hP hD hS 0 rfl rfl 32 (by decide) (hts _ q960) (fun _ h => h) rfl (tyX7_ok 32 (by decide)) rfl rfl (Nat.le_of_ble_eq_true rfl) dX7_moves_214 (fun H locs hP hD hS => ?_)
        have hP : va_P D vwCl (mW ad ca blocks trainMany lockMany readBlocks readTrains readLockMany blocksTold omensTold highBlock taped fault broken brokenAt spot here token value x2 x3 (((10 : Int32) * x1) + r_12) waited keptOut visited seenMany drawn torn state locks waits readPage readLocks tape cuts letters place left hasSeen homeAt places seen wouldBe isKept lanes lengths cells) H := hP
        have hD : va_D A (mW ad ca blocks trainMany lockMany readBlocks readTrains readLockMany blocksTold omensTold highBlock taped fault broken brokenAt spot here token value x2 x3 (((10 : Int32) * x1) + r_12) waited keptOut visited seenMany drawn torn state locks waits readPage readLocks tape cuts letters place left hasSeen homeAt places seen wouldBe isKept lanes lengths cells) := hD
        rw [hZ]
        exact W.vret hx hb hr (fun t ht hW => ⟨⟨(x2, x3, (((10 : Int32) * x1) + r_12), waited, keptOut, visited, place, left, hasSeen, homeAt), rfl, G, by rw [ht]; exact hP, hD⟩, hS.F ht⟩) hS.2.2 dX7_moves_217 hlocks
      · have G := G.1 c_14
        refine lv_aload_n hx hb dX7_moves_183 rfl (lv_at hl 1 rfl) ?_
        refine lv_dup hx hb dX7_moves_184 rfl ?_
        refine va_get hx hb hts in_X7 hown hK hP 0 rfl rfl 34 (by decide) (hts _ q962) (fun _ h => h) rfl dX7_moves_185 ?_
        refine lv_iconst (v := 1) hx hb dX7_moves_188 (by decide) ?_
        refine lv_iadd hx hb dX7_moves_189 ?_
        refine va_put hx hb hts in_X7 tyX7 tyX7_ok nmX7 hown hK hP hD hS 0 rfl rfl 34 (by decide) (hts _ q962) (fun _ h => h) rfl (tyX7_ok 34 (by decide)) rfl rfl (Nat.le_of_ble_eq_true rfl) dX7_moves_190 (fun H locs hP hD hS => ?_)
        have hP : va_P D vwCl (mW ad ca blocks trainMany lockMany readBlocks readTrains readLockMany blocksTold omensTold highBlock taped fault broken brokenAt spot here token value bumpAt bumpIn bumpOf waited (keptOut + (1 : Int32)) visited seenMany drawn torn state locks waits readPage readLocks tape cuts letters place left hasSeen homeAt places seen wouldBe isKept lanes lengths cells) H := hP
        have hD : va_D A (mW ad ca blocks trainMany lockMany readBlocks readTrains readLockMany blocksTold omensTold highBlock taped fault broken brokenAt spot here token value bumpAt bumpIn bumpOf waited (keptOut + (1 : Int32)) visited seenMany drawn torn state locks waits readPage readLocks tape cuts letters place left hasSeen homeAt places seen wouldBe isKept lanes lengths cells) := hD
        refine lv_goto (tgt := 217) hx hb dX7_moves_193 (by decide) ?_
        rw [hZ]
        exact W.vret hx hb hr (fun t ht hW => ⟨⟨(bumpAt, bumpIn, bumpOf, waited, (keptOut + (1 : Int32)), visited, place, left, hasSeen, homeAt), rfl, G, by rw [ht]; exact hP, hD⟩, hS.F ht⟩) hS.2.2 dX7_moves_217 hlocks
    · have G := G.1 c_13
      refine lv_aload_n hx hb dX7_moves_139 rfl (lv_at hl 1 rfl) ?_
      refine va_get hx hb hts in_X7 hown hK hP 0 rfl rfl 25 (by decide) (hts _ q953) (fun _ h => h) rfl dX7_moves_140 ?_
      refine lv_iload_n hx hb dX7_moves_143 rfl (lv_at hl 2 rfl) ?_
      refine lv_iload_n hx hb dX7_moves_144 rfl (lv_at hl 4 rfl) ?_
      obtain ⟨h_15, G⟩ := G
      refine va_iast hx hb hK hP hD hS 9 0 rfl rfl h_15 dX7_moves_145 (fun H locs hP hD hS => ?_)
      have hP : va_P D vwCl (mW ad ca blocks trainMany lockMany readBlocks readTrains readLockMany blocksTold omensTold highBlock taped fault broken brokenAt spot here token value bumpAt bumpIn bumpOf waited keptOut visited seenMany drawn torn state locks waits readPage readLocks tape cuts letters (upd place x1.toNatClampNeg x3) left hasSeen homeAt places seen wouldBe isKept lanes lengths cells) H := hP
      have hD : va_D A (mW ad ca blocks trainMany lockMany readBlocks readTrains readLockMany blocksTold omensTold highBlock taped fault broken brokenAt spot here token value bumpAt bumpIn bumpOf waited keptOut visited seenMany drawn torn state locks waits readPage readLocks tape cuts letters (upd place x1.toNatClampNeg x3) left hasSeen homeAt places seen wouldBe isKept lanes lengths cells) := hD
      refine lv_aload_n hx hb dX7_moves_146 rfl (lv_at hl 1 rfl) ?_
      refine va_get hx hb hts in_X7 hown hK hP 0 rfl rfl 27 (by decide) (hts _ q955) (fun _ h => h) rfl dX7_moves_147 ?_
      refine lv_iload_n hx hb dX7_moves_150 rfl (lv_at hl 2 rfl) ?_
      refine lv_iconst (v := 0) hx hb dX7_moves_151 (by decide) ?_
      obtain ⟨h_16, G⟩ := G
      refine va_zast hx hb hK hP hD hS 11 1 rfl rfl h_16 dX7_moves_152 (fun H locs hP hD hS => ?_)
      have hP : va_P D vwCl (mW ad ca blocks trainMany lockMany readBlocks readTrains readLockMany blocksTold omensTold highBlock taped fault broken brokenAt spot here token value bumpAt bumpIn bumpOf waited keptOut visited seenMany drawn torn state locks waits readPage readLocks tape cuts letters (upd place x1.toNatClampNeg x3) left (upd hasSeen x1.toNatClampNeg (vp_nar .boolean (0 : Int32))) homeAt places seen wouldBe isKept lanes lengths cells) H := hP
      have hD : va_D A (mW ad ca blocks trainMany lockMany readBlocks readTrains readLockMany blocksTold omensTold highBlock taped fault broken brokenAt spot here token value bumpAt bumpIn bumpOf waited keptOut visited seenMany drawn torn state locks waits readPage readLocks tape cuts letters (upd place x1.toNatClampNeg x3) left (upd hasSeen x1.toNatClampNeg (vp_nar .boolean (0 : Int32))) homeAt places seen wouldBe isKept lanes lengths cells) := hD
      refine lv_aload_n hx hb dX7_moves_153 rfl (lv_at hl 1 rfl) ?_
      refine lv_dup hx hb dX7_moves_154 rfl ?_
      refine va_get hx hb hts in_X7 hown hK hP 0 rfl rfl 35 (by decide) (hts _ q963) (fun _ h => h) rfl dX7_moves_155 ?_
      refine lv_iconst (v := 1) hx hb dX7_moves_158 (by decide) ?_
      refine lv_iload_n hx hb dX7_moves_159 rfl (lv_at hl 4 rfl) ?_
      refine lv_ishl hx hb dX7_moves_160 ?_
      refine lv_ior hx hb dX7_moves_161 ?_
      refine va_put hx hb hts in_X7 tyX7 tyX7_ok nmX7 hown hK hP hD hS 0 rfl rfl 35 (by decide) (hts _ q963) (fun _ h => h) rfl (tyX7_ok 35 (by decide)) rfl rfl (Nat.le_of_ble_eq_true rfl) dX7_moves_162 (fun H locs hP hD hS => ?_)
      have hP : va_P D vwCl (mW ad ca blocks trainMany lockMany readBlocks readTrains readLockMany blocksTold omensTold highBlock taped fault broken brokenAt spot here token value bumpAt bumpIn bumpOf waited keptOut (visited ||| ((1 : Int32) <<< (x3 &&& 31))) seenMany drawn torn state locks waits readPage readLocks tape cuts letters (upd place x1.toNatClampNeg x3) left (upd hasSeen x1.toNatClampNeg (vp_nar .boolean (0 : Int32))) homeAt places seen wouldBe isKept lanes lengths cells) H := hP
      have hD : va_D A (mW ad ca blocks trainMany lockMany readBlocks readTrains readLockMany blocksTold omensTold highBlock taped fault broken brokenAt spot here token value bumpAt bumpIn bumpOf waited keptOut (visited ||| ((1 : Int32) <<< (x3 &&& 31))) seenMany drawn torn state locks waits readPage readLocks tape cuts letters (upd place x1.toNatClampNeg x3) left (upd hasSeen x1.toNatClampNeg (vp_nar .boolean (0 : Int32))) homeAt places seen wouldBe isKept lanes lengths cells) := hD
      refine lv_goto (tgt := 217) hx hb dX7_moves_165 (by decide) ?_
      rw [hZ]
      exact W.vret hx hb hr (fun t ht hW => ⟨⟨(bumpAt, bumpIn, bumpOf, waited, keptOut, (visited ||| ((1 : Int32) <<< (x3 &&& 31))), (upd place x1.toNatClampNeg x3), left, (upd hasSeen x1.toNatClampNeg (vp_nar .boolean (0 : Int32))), homeAt), rfl, G, by rw [ht]; exact hP, hD⟩, hS.F ht⟩) hS.2.2 dX7_moves_217 hlocks
  · have G := G.2 c_11
    refine lv_aload_n hx hb dX7_moves_103 rfl (lv_at hl 0 rfl) ?_
    refine va_get hx hb hts in_X7 hown hK hP 0 rfl rfl 26 (by decide) (hts _ q954) (fun _ h => h) rfl dX7_moves_104 ?_
    refine lv_iload_n hx hb dX7_moves_107 rfl (lv_at hl 1 rfl) ?_
    refine lv_dup2_11 hx hb dX7_moves_108 rfl rfl ?_
    obtain ⟨h_17, G⟩ := G
    refine va_iald hx hb hK hP 10 0 rfl rfl h_17 dX7_moves_109 ?_
    refine lv_iconst (v := 1) hx hb dX7_moves_110 (by decide) ?_
    refine lv_isub hx hb dX7_moves_111 ?_
    obtain ⟨h_18, G⟩ := G
    refine va_iast hx hb hK hP hD hS 10 0 rfl rfl h_18 dX7_moves_112 (fun H locs hP hD hS => ?_)
    have hP : va_P D vwCl (mW ad ca blocks trainMany lockMany readBlocks readTrains readLockMany blocksTold omensTold highBlock taped fault broken brokenAt spot here token value bumpAt bumpIn bumpOf waited keptOut visited seenMany drawn torn state locks waits readPage readLocks tape cuts letters place (upd left x1.toNatClampNeg ((left x1.toNatClampNeg) - (1 : Int32))) hasSeen homeAt places seen wouldBe isKept lanes lengths cells) H := hP
    have hD : va_D A (mW ad ca blocks trainMany lockMany readBlocks readTrains readLockMany blocksTold omensTold highBlock taped fault broken brokenAt spot here token value bumpAt bumpIn bumpOf waited keptOut visited seenMany drawn torn state locks waits readPage readLocks tape cuts letters place (upd left x1.toNatClampNeg ((left x1.toNatClampNeg) - (1 : Int32))) hasSeen homeAt places seen wouldBe isKept lanes lengths cells) := hD
    refine lv_aload_n hx hb dX7_moves_113 rfl (lv_at hl 0 rfl) ?_
    refine lv_dup hx hb dX7_moves_114 rfl ?_
    refine va_get hx hb hts in_X7 hown hK hP 0 rfl rfl 33 (by decide) (hts _ q961) (fun _ h => h) rfl dX7_moves_115 ?_
    refine lv_iconst (v := 1) hx hb dX7_moves_118 (by decide) ?_
    refine lv_iadd hx hb dX7_moves_119 ?_
    refine va_put hx hb hts in_X7 tyX7 tyX7_ok nmX7 hown hK hP hD hS 0 rfl rfl 33 (by decide) (hts _ q961) (fun _ h => h) rfl (tyX7_ok 33 (by decide)) rfl rfl (Nat.le_of_ble_eq_true rfl) dX7_moves_120 (fun H locs hP hD hS => ?_)
    have hP : va_P D vwCl (mW ad ca blocks trainMany lockMany readBlocks readTrains readLockMany blocksTold omensTold highBlock taped fault broken brokenAt spot here token value bumpAt bumpIn bumpOf (waited + (1 : Int32)) keptOut visited seenMany drawn torn state locks waits readPage readLocks tape cuts letters place (upd left x1.toNatClampNeg ((left x1.toNatClampNeg) - (1 : Int32))) hasSeen homeAt places seen wouldBe isKept lanes lengths cells) H := hP
    have hD : va_D A (mW ad ca blocks trainMany lockMany readBlocks readTrains readLockMany blocksTold omensTold highBlock taped fault broken brokenAt spot here token value bumpAt bumpIn bumpOf (waited + (1 : Int32)) keptOut visited seenMany drawn torn state locks waits readPage readLocks tape cuts letters place (upd left x1.toNatClampNeg ((left x1.toNatClampNeg) - (1 : Int32))) hasSeen homeAt places seen wouldBe isKept lanes lengths cells) := hD
    rw [hZ]
    exact W.vret hx hb hr (fun t ht hW => ⟨⟨(bumpAt, bumpIn, bumpOf, (waited + (1 : Int32)), keptOut, visited, place, (upd left x1.toNatClampNeg ((left x1.toNatClampNeg) - (1 : Int32))), hasSeen, homeAt), rfl, G, by rw [ht]; exact hP, hD⟩, hS.F ht⟩) hS.2.2 dX7_moves_123 hlocks
set_option maxHeartbeats 4000000 in
theorem met_M_moves (l : Launch) (D : va_G) (ad : Nat → Nat) (ca : Nat → ClassId) (sz : Nat) (blocks : Int32) (trainMany : Int32) (lockMany : Int32) (readBlocks : Int32) (readTrains : Int32) (readLockMany : Int32) (blocksTold : Int32) (omensTold : Int32) (highBlock : Int32) (taped : Int32) (fault : Int32) (broken : Int32) (brokenAt : Int32) (spot : Int32) (here : Int32) (token : Int32) (value : Int32) (bumpAt : Int32) (bumpIn : Int32) (bumpOf : Int32) (waited : Int32) (keptOut : Int32) (visited : Int32) (seenMany : Int32) (drawn : Int32) (torn : Int32) (state : Nat → Int32) (locks : Nat → Int32) (waits : Nat → Int32) (readPage : Nat → Int32) (readLocks : Nat → Int32) (tape : Nat → Int32) (cuts : Nat → Int32) (letters : Nat → Int32) (place : Nat → Int32) (left : Nat → Int32) (hasSeen : Nat → Int32) (homeAt : Nat → Int32) (places : Nat → Int32) (seen : Nat → Int32) (wouldBe : Nat → Int32) (isKept : Nat → Int32) (lanes : Nat → Int32) (lengths : Nat → Int32) (cells : Nat → Int32) (x1 : Int32) (x2 : Int32) (Q : Int32 → Int32 → Int32 → Int32 → Int32 → Int32 → (Nat → Int32) → (Nat → Int32) → (Nat → Int32) → (Nat → Int32) → Prop) (G : M_moves blocks trainMany bumpAt bumpIn bumpOf waited keptOut visited state waits place left hasSeen homeAt x1 x2 Q) : Met l yX7_moves (ws_ yX7_moves cX7_moves 5 none) rm_M_moves (va_Pc [.ref (ad 0), .int x1, .int x2] (wpre D vwCl (tyL ca) (mW ad ca blocks trainMany lockMany readBlocks readTrains readLockMany blocksTold omensTold highBlock taped fault broken brokenAt spot here token value bumpAt bumpIn bumpOf waited keptOut visited seenMany drawn torn state locks waits readPage readLocks tape cuts letters place left hasSeen homeAt places seen wouldBe isKept lanes lengths cells) sz)) (va_Qv (fun (u : Int32 × Int32 × Int32 × Int32 × Int32 × Int32 × (Nat → Int32) × (Nat → Int32) × (Nat → Int32) × (Nat → Int32)) => Q u.1 u.2.1 u.2.2.1 u.2.2.2.1 u.2.2.2.2.1 u.2.2.2.2.2.1 u.2.2.2.2.2.2.1 u.2.2.2.2.2.2.2.1 u.2.2.2.2.2.2.2.2.1 u.2.2.2.2.2.2.2.2.2) (wpost D vwCl (va_A (mW ad ca blocks trainMany lockMany readBlocks readTrains readLockMany blocksTold omensTold highBlock taped fault broken brokenAt spot here token value bumpAt bumpIn bumpOf waited keptOut visited seenMany drawn torn state locks waits readPage readLocks tape cuts letters place left hasSeen homeAt places seen wouldBe isKept lanes lengths cells) sz) (fun (u : Int32 × Int32 × Int32 × Int32 × Int32 × Int32 × (Nat → Int32) × (Nat → Int32) × (Nat → Int32) × (Nat → Int32)) => (mW ad ca blocks trainMany lockMany readBlocks readTrains readLockMany blocksTold omensTold highBlock taped fault broken brokenAt spot here token value u.1 u.2.1 u.2.2.1 u.2.2.2.1 u.2.2.2.2.1 u.2.2.2.2.2.1 seenMany drawn torn state locks waits readPage readLocks tape cuts letters u.2.2.2.2.2.2.1 u.2.2.2.2.2.2.2.1 u.2.2.2.2.2.2.2.2.1 u.2.2.2.2.2.2.2.2.2 places seen wouldBe isKept lanes lengths cells))) (va_A (mW ad ca blocks trainMany lockMany readBlocks readTrains readLockMany blocksTold omensTold highBlock taped fault broken brokenAt spot here token value bumpAt bumpIn bumpOf waited keptOut visited seenMany drawn torn state locks waits readPage readLocks tape cuts letters place left hasSeen homeAt places seen wouldBe isKept lanes lengths cells) sz)) 0 0 (va_A (mW ad ca blocks trainMany lockMany readBlocks readTrains readLockMany blocksTold omensTold highBlock taped fault broken brokenAt spot here token value bumpAt bumpIn bumpOf waited keptOut visited seenMany drawn torn state locks waits readPage readLocks tape cuts letters place left hasSeen homeAt places seen wouldBe isKept lanes lengths cells) sz) := by
  refine met_of (fun A => (va_Qv (fun (u : Int32 × Int32 × Int32 × Int32 × Int32 × Int32 × (Nat → Int32) × (Nat → Int32) × (Nat → Int32) × (Nat → Int32)) => Q u.1 u.2.1 u.2.2.1 u.2.2.2.1 u.2.2.2.2.1 u.2.2.2.2.2.1 u.2.2.2.2.2.2.1 u.2.2.2.2.2.2.2.1 u.2.2.2.2.2.2.2.2.1 u.2.2.2.2.2.2.2.2.2) (wpost D vwCl A (fun (u : Int32 × Int32 × Int32 × Int32 × Int32 × Int32 × (Nat → Int32) × (Nat → Int32) × (Nat → Int32) × (Nat → Int32)) => (mW ad ca blocks trainMany lockMany readBlocks readTrains readLockMany blocksTold omensTold highBlock taped fault broken brokenAt spot here token value u.1 u.2.1 u.2.2.1 u.2.2.2.1 u.2.2.2.2.1 u.2.2.2.2.2.1 seenMany drawn torn state locks waits readPage readLocks tape cuts letters u.2.2.2.2.2.2.1 u.2.2.2.2.2.2.2.1 u.2.2.2.2.2.2.2.2.1 u.2.2.2.2.2.2.2.2.2 places seen wouldBe isKept lanes lengths cells))) A)) (by decide) (Nat.le_of_ble_eq_true rfl) ?_
  intro p e s m args below meth c Z A hZ C H locs hP hD hS ls hl
  have hx := C.1; have hb := C.2.1; have hr := C.2.2.1; have hlocks := C.2.2.2.1; have hml := C.2.2.2.2.1; have hown := C.2.2.2.2.2.1; have hts := C.2.2.2.2.2.2.1; have hn := C.2.2.2.2.2.2.2.1; have hK := C.2.2.2.2.2.2.2.2.1; have hA := C.2.2.2.2.2.2.2.2.2
  have hl : lv_has ls 5 [(0, .ref (ad 0)), (1, .int x1), (2, .int x2)] := hl
  unfold M_moves at G
  refine lv_aload_n hx hb dX7_moves_0 rfl (lv_at hl 0 rfl) ?_
  refine va_get hx hb hts in_X7 hown hK hP 0 rfl rfl 25 (by decide) (hts _ q953) (fun _ h => h) rfl dX7_moves_1 ?_
  refine lv_iload_n hx hb dX7_moves_4 rfl (lv_at hl 1 rfl) ?_
  obtain ⟨h_1, G⟩ := G
  refine va_iald hx hb hK hP 9 0 rfl rfl h_1 dX7_moves_5 ?_
  refine lv_aload_n hx hb dX7_moves_6 rfl (lv_at hl 0 rfl) ?_
  refine lv_iload_n hx hb dX7_moves_7 rfl (lv_at hl 1 rfl) ?_
  obtain ⟨h_2, G⟩ := G
  refine wc_Vik (As := [.int x1]) (rest := [.int (place x1.toNatClampNeg)]) C (met_M_isUp l D ad ca H.size blocks trainMany lockMany readBlocks readTrains readLockMany blocksTold omensTold highBlock taped fault broken brokenAt spot here token value bumpAt bumpIn bumpOf waited keptOut visited seenMany drawn torn state locks waits readPage readLocks tape cuts letters place left hasSeen homeAt places seen wouldBe isKept lanes lengths cells x1 h_2) (cwV 1 hts (lw_V q1202 q1204 qs54 q75 q1205) rfl rfl rfl (by decide +kernel) ⟨Nat.le_of_ble_eq_true rfl, Nat.le_of_ble_eq_true rfl⟩) hP hD hS (List.range _) (wc_self _) (wc_nd _) 0 rfl rfl rfl rfl hl.1 (Nat.le_of_ble_eq_true rfl) dX7_moves_8 ⟨Nat.le_of_ble_eq_true rfl, Nat.le_of_ble_eq_true rfl⟩ (fun r_3 u H locs hr hP hD hS => ?_)
  subst hr
  have hJ : ∀ (H : Heap) (locs : List Loc), va_P D vwCl (mW ad ca blocks trainMany lockMany readBlocks readTrains readLockMany blocksTold omensTold highBlock taped fault broken brokenAt spot here token value bumpAt bumpIn bumpOf waited keptOut visited seenMany drawn torn state locks waits readPage readLocks tape cuts letters place left hasSeen homeAt places seen wouldBe isKept lanes lengths cells) H → va_D A (mW ad ca blocks trainMany lockMany readBlocks readTrains readLockMany blocksTold omensTold highBlock taped fault broken brokenAt spot here token value bumpAt bumpIn bumpOf waited keptOut visited seenMany drawn torn state locks waits readPage readLocks tape cuts letters place left hasSeen homeAt places seen wouldBe isKept lanes lengths cells) → va_S A s.heap H locs → ∀ v_26 : Int32, v_26 = (if (M_isUp_e state x1) = 0 then (0 : Int32) else (blocks - (1 : Int32))) → W p l e rm_M_moves s m args below meth c H locs 0 0 Z (F0 m 24 ls (.int v_26 :: [.int (place x1.toNatClampNeg)])) := by
    intro H locs hP hD hS v_26 hv
    subst hv
    refine lv_icmp_ne (tgt := 43) hx hb dX7_moves_24 (by decide) (fun c_5 => ?_) (fun c_5 => ?_)
    · have G := G.2 c_5
      refine lv_aload_n hx hb dX7_moves_43 rfl (lv_at hl 0 rfl) ?_
      refine lv_iload_n hx hb dX7_moves_44 rfl (lv_at hl 1 rfl) ?_
      obtain ⟨h_6, G⟩ := G
      refine wc_Vik (As := [.int x1]) (rest := []) C (met_M_nextBlock l D ad ca H.size blocks trainMany lockMany readBlocks readTrains readLockMany blocksTold omensTold highBlock taped fault broken brokenAt spot here token value bumpAt bumpIn bumpOf waited keptOut visited seenMany drawn torn state locks waits readPage readLocks tape cuts letters place left hasSeen homeAt places seen wouldBe isKept lanes lengths cells x1 h_6) (cwV 1 hts (lw_V q1206 q1208 qs55 q75 q1209) rfl rfl rfl (by decide +kernel) ⟨Nat.le_of_ble_eq_true rfl, Nat.le_of_ble_eq_true rfl⟩) hP hD hS (List.range _) (wc_self _) (wc_nd _) 0 rfl rfl rfl rfl hl.1 (Nat.le_of_ble_eq_true rfl) dX7_moves_45 ⟨Nat.le_of_ble_eq_true rfl, Nat.le_of_ble_eq_true rfl⟩ (fun r_7 u H locs hr hP hD hS => ?_)
      subst hr
      refine lv_istore_n (lv' := [(3, .int (M_nextBlock_e blocks state place x1)), (0, .ref (ad 0)), (1, .int x1), (2, .int x2)]) hx hb dX7_moves_48 rfl hl (by decide) rfl (fun ls hl => ?_)
      refine lv_aload_n hx hb dX7_moves_49 rfl (lv_at hl 1 rfl) ?_
      refine va_get hx hb hts in_X7 hown hK hP 0 rfl rfl 27 (by decide) (hts _ q955) (fun _ h => h) rfl dX7_moves_50 ?_
      refine lv_iload_n hx hb dX7_moves_53 rfl (lv_at hl 2 rfl) ?_
      obtain ⟨h_8, G⟩ := G
      refine va_zald hx hb hK hP 11 1 rfl rfl h_8 dX7_moves_54 ?_
      refine lv_if_ne (tgt := 94) hx hb dX7_moves_55 (by decide) (fun c_9 => ?_) (fun c_9 => ?_)
      · have G := G.2 c_9
        exact w_M_moves_J94 C hZ G (lv_sub hl [1, 2, 3, 0] rfl) hP hD hS
      · have G := G.1 c_9
        refine lv_aload_n hx hb dX7_moves_58 rfl (lv_at hl 1 rfl) ?_
        refine va_get hx hb hts in_X7 hown hK hP 0 rfl rfl 27 (by decide) (hts _ q955) (fun _ h => h) rfl dX7_moves_59 ?_
        refine lv_iload_n hx hb dX7_moves_62 rfl (lv_at hl 2 rfl) ?_
        refine lv_iconst (v := 1) hx hb dX7_moves_63 (by decide) ?_
        obtain ⟨h_19, G⟩ := G
        refine va_zast hx hb hK hP hD hS 11 1 rfl rfl h_19 dX7_moves_64 (fun H locs hP hD hS => ?_)
        have hP : va_P D vwCl (mW ad ca blocks trainMany lockMany readBlocks readTrains readLockMany blocksTold omensTold highBlock taped fault broken brokenAt spot here token value bumpAt bumpIn bumpOf waited keptOut visited seenMany drawn torn state locks waits readPage readLocks tape cuts letters place left (upd hasSeen x1.toNatClampNeg (vp_nar .boolean (1 : Int32))) homeAt places seen wouldBe isKept lanes lengths cells) H := hP
        have hD : va_D A (mW ad ca blocks trainMany lockMany readBlocks readTrains readLockMany blocksTold omensTold highBlock taped fault broken brokenAt spot here token value bumpAt bumpIn bumpOf waited keptOut visited seenMany drawn torn state locks waits readPage readLocks tape cuts letters place left (upd hasSeen x1.toNatClampNeg (vp_nar .boolean (1 : Int32))) homeAt places seen wouldBe isKept lanes lengths cells) := hD
        refine lv_aload_n hx hb dX7_moves_65 rfl (lv_at hl 1 rfl) ?_
        refine va_get hx hb hts in_X7 hown hK hP 0 rfl rfl 26 (by decide) (hts _ q954) (fun _ h => h) rfl dX7_moves_66 ?_
        refine lv_iload_n hx hb dX7_moves_69 rfl (lv_at hl 2 rfl) ?_
        refine lv_aload_n hx hb dX7_moves_70 rfl (lv_at hl 1 rfl) ?_
        refine va_get hx hb hts in_X7 hown hK hP 0 rfl rfl 5 (by decide) (hts _ q933) (fun _ h => h) rfl dX7_moves_71 ?_
        refine lv_iconst (v := 5) hx hb dX7_moves_74 (by decide) ?_
        refine lv_aload_n hx hb dX7_moves_75 rfl (lv_at hl 1 rfl) ?_
        refine va_get hx hb hts in_X7 hown hK hP 0 rfl rfl 0 (by decide) (hts _ q928) (fun _ h => h) rfl dX7_moves_76 ?_
        refine lv_bipush (v := 9) hx hb dX7_moves_79 (by decide) ?_
        refine lv_iload_n hx hb dX7_moves_81 rfl (lv_at hl 2 rfl) ?_
        refine lv_iadd hx hb dX7_moves_82 ?_
        obtain ⟨h_20, G⟩ := G
        refine va_iald hx hb hK hP 1 0 rfl rfl h_20 dX7_moves_83 ?_
        refine lv_imul hx hb dX7_moves_84 ?_
        refine lv_aload_n hx hb dX7_moves_85 rfl (lv_at hl 1 rfl) ?_
        refine va_get hx hb hts in_X7 hown hK hP 0 rfl rfl 0 (by decide) (hts _ q928) (fun _ h => h) rfl dX7_moves_86 ?_
        refine lv_iload_n hx hb dX7_moves_89 rfl (lv_at hl 0 rfl) ?_
        obtain ⟨h_21, G⟩ := G
        refine va_iald hx hb hK hP 1 0 rfl rfl h_21 dX7_moves_90 ?_
        refine lv_iadd hx hb dX7_moves_91 ?_
        obtain ⟨h_22, G⟩ := G
        refine va_iald hx hb hK hP 3 0 rfl rfl h_22 dX7_moves_92 ?_
        obtain ⟨h_23, G⟩ := G
        refine va_iast hx hb hK hP hD hS 10 0 rfl rfl h_23 dX7_moves_93 (fun H locs hP hD hS => ?_)
        have hP : va_P D vwCl (mW ad ca blocks trainMany lockMany readBlocks readTrains readLockMany blocksTold omensTold highBlock taped fault broken brokenAt spot here token value bumpAt bumpIn bumpOf waited keptOut visited seenMany drawn torn state locks waits readPage readLocks tape cuts letters place (upd left x1.toNatClampNeg (waits (((5 : Int32) * (state ((9 : Int32) + x1).toNatClampNeg)) + (state (M_nextBlock_e blocks state place x1).toNatClampNeg)).toNatClampNeg)) (upd hasSeen x1.toNatClampNeg (vp_nar .boolean (1 : Int32))) homeAt places seen wouldBe isKept lanes lengths cells) H := hP
        have hD : va_D A (mW ad ca blocks trainMany lockMany readBlocks readTrains readLockMany blocksTold omensTold highBlock taped fault broken brokenAt spot here token value bumpAt bumpIn bumpOf waited keptOut visited seenMany drawn torn state locks waits readPage readLocks tape cuts letters place (upd left x1.toNatClampNeg (waits (((5 : Int32) * (state ((9 : Int32) + x1).toNatClampNeg)) + (state (M_nextBlock_e blocks state place x1).toNatClampNeg)).toNatClampNeg)) (upd hasSeen x1.toNatClampNeg (vp_nar .boolean (1 : Int32))) homeAt places seen wouldBe isKept lanes lengths cells) := hD
        exact w_M_moves_J94 C hZ G (lv_sub hl [1, 2, 3, 0] rfl) hP hD hS
    · have G := G.1 c_5
      refine lv_aload_n hx hb dX7_moves_27 rfl (lv_at hl 0 rfl) ?_
      refine va_get hx hb hts in_X7 hown hK hP 0 rfl rfl 25 (by decide) (hts _ q953) (fun _ h => h) rfl dX7_moves_28 ?_
      refine lv_iload_n hx hb dX7_moves_31 rfl (lv_at hl 1 rfl) ?_
      refine lv_bipush (v := -4) hx hb dX7_moves_32 (by decide) ?_
      obtain ⟨h_24, G⟩ := G
      refine va_iast hx hb hK hP hD hS 9 0 rfl rfl h_24 dX7_moves_34 (fun H locs hP hD hS => ?_)
      have hP : va_P D vwCl (mW ad ca blocks trainMany lockMany readBlocks readTrains readLockMany blocksTold omensTold highBlock taped fault broken brokenAt spot here token value bumpAt bumpIn bumpOf waited keptOut visited seenMany drawn torn state locks waits readPage readLocks tape cuts letters (upd place x1.toNatClampNeg (-4 : Int32)) left hasSeen homeAt places seen wouldBe isKept lanes lengths cells) H := hP
      have hD : va_D A (mW ad ca blocks trainMany lockMany readBlocks readTrains readLockMany blocksTold omensTold highBlock taped fault broken brokenAt spot here token value bumpAt bumpIn bumpOf waited keptOut visited seenMany drawn torn state locks waits readPage readLocks tape cuts letters (upd place x1.toNatClampNeg (-4 : Int32)) left hasSeen homeAt places seen wouldBe isKept lanes lengths cells) := hD
      refine lv_aload_n hx hb dX7_moves_35 rfl (lv_at hl 0 rfl) ?_
      refine va_get hx hb hts in_X7 hown hK hP 0 rfl rfl 28 (by decide) (hts _ q956) (fun _ h => h) rfl dX7_moves_36 ?_
      refine lv_iload_n hx hb dX7_moves_39 rfl (lv_at hl 1 rfl) ?_
      refine lv_iload_n hx hb dX7_moves_40 rfl (lv_at hl 2 rfl) ?_
      obtain ⟨h_25, G⟩ := G
      refine va_iast hx hb hK hP hD hS 12 0 rfl rfl h_25 dX7_moves_41 (fun H locs hP hD hS => ?_)
      have hP : va_P D vwCl (mW ad ca blocks trainMany lockMany readBlocks readTrains readLockMany blocksTold omensTold highBlock taped fault broken brokenAt spot here token value bumpAt bumpIn bumpOf waited keptOut visited seenMany drawn torn state locks waits readPage readLocks tape cuts letters (upd place x1.toNatClampNeg (-4 : Int32)) left hasSeen (upd homeAt x1.toNatClampNeg x2) places seen wouldBe isKept lanes lengths cells) H := hP
      have hD : va_D A (mW ad ca blocks trainMany lockMany readBlocks readTrains readLockMany blocksTold omensTold highBlock taped fault broken brokenAt spot here token value bumpAt bumpIn bumpOf waited keptOut visited seenMany drawn torn state locks waits readPage readLocks tape cuts letters (upd place x1.toNatClampNeg (-4 : Int32)) left hasSeen (upd homeAt x1.toNatClampNeg x2) places seen wouldBe isKept lanes lengths cells) := hD
      rw [hZ]
      exact W.vret hx hb hr (fun t ht hW => ⟨⟨(bumpAt, bumpIn, bumpOf, waited, keptOut, visited, (upd place x1.toNatClampNeg (-4 : Int32)), left, hasSeen, (upd homeAt x1.toNatClampNeg x2)), rfl, G, by rw [ht]; exact hP, hD⟩, hS.F ht⟩) hS.2.2 dX7_moves_42 hlocks
  refine lv_if_eq (tgt := 23) hx hb dX7_moves_11 (by decide) (fun c_4 => ?_) (fun c_4 => ?_)
  · refine lv_iconst (v := 0) hx hb dX7_moves_23 (by decide) ?_
    exact hJ _ _ hP hD hS _ (eT c_4 rfl)
  · refine lv_aload_n hx hb dX7_moves_14 rfl (lv_at hl 0 rfl) ?_
    refine va_get hx hb hts in_X7 hown hK hP 0 rfl rfl 1 (by decide) (hts _ q929) (fun _ h => h) rfl dX7_moves_15 ?_
    refine lv_iconst (v := 1) hx hb dX7_moves_18 (by decide) ?_
    refine lv_isub hx hb dX7_moves_19 ?_
    refine lv_goto (tgt := 24) hx hb dX7_moves_20 (by decide) ?_
    exact hJ _ _ hP hD hS _ (eF c_4 rfl)
abbrev rm_M_run : Room := { frames := 4, cells := 0, slots := 0, locals := 66 }
set_option maxHeartbeats 4000000 in
theorem w_M_run_L35 {p : Program} {l : Launch} {e : Env} {s : State} {m : MethodId} {args : Array Value} {below : List Frame} {meth : Method} {c : Code} {D : va_G} {ad : Nat → Nat} {ca : Nat → ClassId} {A : Nat → Prop} {Z : State → Prop} (C : cx cX7_run 3 none RX7 D vwCl (tyL ca) A p c meth s m args) {blocks : Int32} {trainMany : Int32} {lockMany : Int32} {readBlocks : Int32} {readTrains : Int32} {readLockMany : Int32} {blocksTold : Int32} {omensTold : Int32} {highBlock : Int32} {taped : Int32} {fault : Int32} {broken : Int32} {brokenAt : Int32} {spot : Int32} {here : Int32} {token : Int32} {value : Int32} {bumpAt : Int32} {bumpIn : Int32} {bumpOf : Int32} {waited : Int32} {keptOut : Int32} {visited : Int32} {seenMany : Int32} {drawn : Int32} {torn : Int32} {state : Nat → Int32} {locks : Nat → Int32} {waits : Nat → Int32} {readPage : Nat → Int32} {readLocks : Nat → Int32} {tape : Nat → Int32} {cuts : Nat → Int32} {letters : Nat → Int32} {places : Nat → Int32} {seen : Nat → Int32} {wouldBe : Nat → Int32} {isKept : Nat → Int32} {lanes : Nat → Int32} {lengths : Nat → Int32} {cells : Nat → Int32}  {k76 : (Nat → Int32) → (Nat → Int32) → (Nat → Int32) → (Nat → Int32) → Prop} (hk76 : ∀ (place : Nat → Int32) (left : Nat → Int32) (hasSeen : Nat → Int32) (homeAt : Nat → Int32), k76 place left hasSeen homeAt → ∀ (ls : Array Slot) (H : Heap) (locs : List Loc), lv_has ls 3 [(0, .ref (ad 0))] → va_P D vwCl (mW ad ca blocks trainMany lockMany readBlocks readTrains readLockMany blocksTold omensTold highBlock taped fault broken brokenAt spot here token value bumpAt bumpIn bumpOf waited keptOut visited seenMany drawn torn state locks waits readPage readLocks tape cuts letters place left hasSeen homeAt places seen wouldBe isKept lanes lengths cells) H → va_D A (mW ad ca blocks trainMany lockMany readBlocks readTrains readLockMany blocksTold omensTold highBlock taped fault broken brokenAt spot here token value bumpAt bumpIn bumpOf waited keptOut visited seenMany drawn torn state locks waits readPage readLocks tape cuts letters place left hasSeen homeAt places seen wouldBe isKept lanes lengths cells) → va_S A s.heap H locs → W p l e rm_M_run s m args below meth c H locs 0 0 Z (F0 m 76 ls [])) : ∀ (n : Nat) (place : Nat → Int32) (left : Nat → Int32) (hasSeen : Nat → Int32) (homeAt : Nat → Int32) (x1 : Int32), M_run_L35 k76 n place left hasSeen homeAt x1 → ∀ (ls : Array Slot) (H : Heap) (locs : List Loc), lv_has ls 3 [(0, .ref (ad 0)), (1, .int x1)] → va_P D vwCl (mW ad ca blocks trainMany lockMany readBlocks readTrains readLockMany blocksTold omensTold highBlock taped fault broken brokenAt spot here token value bumpAt bumpIn bumpOf waited keptOut visited seenMany drawn torn state locks waits readPage readLocks tape cuts letters place left hasSeen homeAt places seen wouldBe isKept lanes lengths cells) H → va_D A (mW ad ca blocks trainMany lockMany readBlocks readTrains readLockMany blocksTold omensTold highBlock taped fault broken brokenAt spot here token value bumpAt bumpIn bumpOf waited keptOut visited seenMany drawn torn state locks waits readPage readLocks tape cuts letters place left hasSeen homeAt places seen wouldBe isKept lanes lengths cells) → va_S A s.heap H locs → W p l e rm_M_run s m args below meth c H locs 0 0 Z (F0 m 35 ls []) := by
  have hx := C.1; have hb := C.2.1; have hr := C.2.2.1; have hlocks := C.2.2.2.1; have hml := C.2.2.2.2.1; have hown := C.2.2.2.2.2.1; have hts := C.2.2.2.2.2.2.1; have hn := C.2.2.2.2.2.2.2.1; have hK := C.2.2.2.2.2.2.2.2.1; have hA := C.2.2.2.2.2.2.2.2.2
  intro n
  induction n with
  | zero =>
    intro place left hasSeen homeAt x1 G
    exact False.elim G
  | succ n ih =>
    intro place left hasSeen homeAt x1 G ls H locs hl hP hD hS
    unfold M_run_L35 at G
    have hk35 := ih
    refine lv_iload_n hx hb dX7_run_35 rfl (lv_at hl 1 rfl) ?_
    refine lv_iconst (v := 4) hx hb dX7_run_36 (by decide) ?_
    refine lv_icmp_ge (tgt := 76) hx hb dX7_run_37 (by decide) (fun c_1 => ?_) (fun c_1 => ?_)
    · have G := G.1 c_1
      exact hk76 _ _ _ _ G _ _ _ (lv_sub hl [0] rfl) hP hD hS
    · have G := G.2 c_1
      refine lv_aload_n hx hb dX7_run_40 rfl (lv_at hl 0 rfl) ?_
      refine va_get hx hb hts in_X7 hown hK hP 0 rfl rfl 25 (by decide) (hts _ q953) (fun _ h => h) rfl dX7_run_41 ?_
      refine lv_iload_n hx hb dX7_run_44 rfl (lv_at hl 1 rfl) ?_
      refine lv_bipush (v := -4) hx hb dX7_run_45 (by decide) ?_
      obtain ⟨h_2, G⟩ := G
      refine va_iast hx hb hK hP hD hS 9 0 rfl rfl h_2 dX7_run_47 (fun H locs hP hD hS => ?_)
      have hP : va_P D vwCl (mW ad ca blocks trainMany lockMany readBlocks readTrains readLockMany blocksTold omensTold highBlock taped fault broken brokenAt spot here token value bumpAt bumpIn bumpOf waited keptOut visited seenMany drawn torn state locks waits readPage readLocks tape cuts letters (upd place x1.toNatClampNeg (-4 : Int32)) left hasSeen homeAt places seen wouldBe isKept lanes lengths cells) H := hP
      have hD : va_D A (mW ad ca blocks trainMany lockMany readBlocks readTrains readLockMany blocksTold omensTold highBlock taped fault broken brokenAt spot here token value bumpAt bumpIn bumpOf waited keptOut visited seenMany drawn torn state locks waits readPage readLocks tape cuts letters (upd place x1.toNatClampNeg (-4 : Int32)) left hasSeen homeAt places seen wouldBe isKept lanes lengths cells) := hD
      refine lv_aload_n hx hb dX7_run_48 rfl (lv_at hl 0 rfl) ?_
      refine va_get hx hb hts in_X7 hown hK hP 0 rfl rfl 26 (by decide) (hts _ q954) (fun _ h => h) rfl dX7_run_49 ?_
      refine lv_iload_n hx hb dX7_run_52 rfl (lv_at hl 1 rfl) ?_
      refine lv_iconst (v := 0) hx hb dX7_run_53 (by decide) ?_
      obtain ⟨h_3, G⟩ := G
      refine va_iast hx hb hK hP hD hS 10 0 rfl rfl h_3 dX7_run_54 (fun H locs hP hD hS => ?_)
      have hP : va_P D vwCl (mW ad ca blocks trainMany lockMany readBlocks readTrains readLockMany blocksTold omensTold highBlock taped fault broken brokenAt spot here token value bumpAt bumpIn bumpOf waited keptOut visited seenMany drawn torn state locks waits readPage readLocks tape cuts letters (upd place x1.toNatClampNeg (-4 : Int32)) (upd left x1.toNatClampNeg (0 : Int32)) hasSeen homeAt places seen wouldBe isKept lanes lengths cells) H := hP
      have hD : va_D A (mW ad ca blocks trainMany lockMany readBlocks readTrains readLockMany blocksTold omensTold highBlock taped fault broken brokenAt spot here token value bumpAt bumpIn bumpOf waited keptOut visited seenMany drawn torn state locks waits readPage readLocks tape cuts letters (upd place x1.toNatClampNeg (-4 : Int32)) (upd left x1.toNatClampNeg (0 : Int32)) hasSeen homeAt places seen wouldBe isKept lanes lengths cells) := hD
      refine lv_aload_n hx hb dX7_run_55 rfl (lv_at hl 0 rfl) ?_
      refine va_get hx hb hts in_X7 hown hK hP 0 rfl rfl 27 (by decide) (hts _ q955) (fun _ h => h) rfl dX7_run_56 ?_
      refine lv_iload_n hx hb dX7_run_59 rfl (lv_at hl 1 rfl) ?_
      refine lv_iconst (v := 0) hx hb dX7_run_60 (by decide) ?_
      obtain ⟨h_4, G⟩ := G
      refine va_zast hx hb hK hP hD hS 11 1 rfl rfl h_4 dX7_run_61 (fun H locs hP hD hS => ?_)
      have hP : va_P D vwCl (mW ad ca blocks trainMany lockMany readBlocks readTrains readLockMany blocksTold omensTold highBlock taped fault broken brokenAt spot here token value bumpAt bumpIn bumpOf waited keptOut visited seenMany drawn torn state locks waits readPage readLocks tape cuts letters (upd place x1.toNatClampNeg (-4 : Int32)) (upd left x1.toNatClampNeg (0 : Int32)) (upd hasSeen x1.toNatClampNeg (vp_nar .boolean (0 : Int32))) homeAt places seen wouldBe isKept lanes lengths cells) H := hP
      have hD : va_D A (mW ad ca blocks trainMany lockMany readBlocks readTrains readLockMany blocksTold omensTold highBlock taped fault broken brokenAt spot here token value bumpAt bumpIn bumpOf waited keptOut visited seenMany drawn torn state locks waits readPage readLocks tape cuts letters (upd place x1.toNatClampNeg (-4 : Int32)) (upd left x1.toNatClampNeg (0 : Int32)) (upd hasSeen x1.toNatClampNeg (vp_nar .boolean (0 : Int32))) homeAt places seen wouldBe isKept lanes lengths cells) := hD
      refine lv_aload_n hx hb dX7_run_62 rfl (lv_at hl 0 rfl) ?_
      refine va_get hx hb hts in_X7 hown hK hP 0 rfl rfl 28 (by decide) (hts _ q956) (fun _ h => h) rfl dX7_run_63 ?_
      refine lv_iload_n hx hb dX7_run_66 rfl (lv_at hl 1 rfl) ?_
      refine lv_bipush (v := -4) hx hb dX7_run_67 (by decide) ?_
      obtain ⟨h_5, G⟩ := G
      refine va_iast hx hb hK hP hD hS 12 0 rfl rfl h_5 dX7_run_69 (fun H locs hP hD hS => ?_)
      have hP : va_P D vwCl (mW ad ca blocks trainMany lockMany readBlocks readTrains readLockMany blocksTold omensTold highBlock taped fault broken brokenAt spot here token value bumpAt bumpIn bumpOf waited keptOut visited seenMany drawn torn state locks waits readPage readLocks tape cuts letters (upd place x1.toNatClampNeg (-4 : Int32)) (upd left x1.toNatClampNeg (0 : Int32)) (upd hasSeen x1.toNatClampNeg (vp_nar .boolean (0 : Int32))) (upd homeAt x1.toNatClampNeg (-4 : Int32)) places seen wouldBe isKept lanes lengths cells) H := hP
      have hD : va_D A (mW ad ca blocks trainMany lockMany readBlocks readTrains readLockMany blocksTold omensTold highBlock taped fault broken brokenAt spot here token value bumpAt bumpIn bumpOf waited keptOut visited seenMany drawn torn state locks waits readPage readLocks tape cuts letters (upd place x1.toNatClampNeg (-4 : Int32)) (upd left x1.toNatClampNeg (0 : Int32)) (upd hasSeen x1.toNatClampNeg (vp_nar .boolean (0 : Int32))) (upd homeAt x1.toNatClampNeg (-4 : Int32)) places seen wouldBe isKept lanes lengths cells) := hD
      refine lv_iinc (v := (x1 + (1 : Int32))) (lv' := [(1, .int (x1 + (1 : Int32))), (0, .ref (ad 0))]) hx hb dX7_run_70 hl (k := 1) rfl rfl (by decide) rfl (fun ls hl => ?_)
      refine lv_goto (tgt := 35) hx hb dX7_run_73 (by decide) ?_
      exact hk35 _ _ _ _ _ G _ _ _ (lv_sub hl [1, 0] rfl) hP hD hS
set_option maxHeartbeats 4000000 in
theorem w_M_run_J133 {p : Program} {l : Launch} {e : Env} {s : State} {m : MethodId} {args : Array Value} {below : List Frame} {meth : Method} {c : Code} {D : va_G} {ad : Nat → Nat} {ca : Nat → ClassId} {A : Nat → Prop} {Z : State → Prop} (C : cx cX7_run 3 none RX7 D vwCl (tyL ca) A p c meth s m args) {blocks : Int32} {trainMany : Int32} {lockMany : Int32} {readBlocks : Int32} {readTrains : Int32} {readLockMany : Int32} {blocksTold : Int32} {omensTold : Int32} {highBlock : Int32} {taped : Int32} {fault : Int32} {broken : Int32} {brokenAt : Int32} {spot : Int32} {here : Int32} {token : Int32} {value : Int32} {bumpAt : Int32} {bumpIn : Int32} {bumpOf : Int32} {waited : Int32} {keptOut : Int32} {visited : Int32} {seenMany : Int32} {drawn : Int32} {torn : Int32} {state : Nat → Int32} {locks : Nat → Int32} {waits : Nat → Int32} {readPage : Nat → Int32} {readLocks : Nat → Int32} {tape : Nat → Int32} {cuts : Nat → Int32} {letters : Nat → Int32} {place : Nat → Int32} {left : Nat → Int32} {hasSeen : Nat → Int32} {homeAt : Nat → Int32} {places : Nat → Int32} {seen : Nat → Int32} {wouldBe : Nat → Int32} {isKept : Nat → Int32} {lanes : Nat → Int32} {lengths : Nat → Int32} {cells : Nat → Int32} {x1 : Int32} {x2 : Int32}  {k86 : Int32 → Int32 → Int32 → Int32 → Int32 → Int32 → (Nat → Int32) → (Nat → Int32) → (Nat → Int32) → (Nat → Int32) → Int32 → Prop} {k139 : Int32 → Int32 → Int32 → Int32 → Int32 → Int32 → (Nat → Int32) → (Nat → Int32) → (Nat → Int32) → (Nat → Int32) → Prop} (hk86 : ∀ (bumpAt : Int32) (bumpIn : Int32) (bumpOf : Int32) (waited : Int32) (keptOut : Int32) (visited : Int32) (place : Nat → Int32) (left : Nat → Int32) (hasSeen : Nat → Int32) (homeAt : Nat → Int32) (x2 : Int32), k86 bumpAt bumpIn bumpOf waited keptOut visited place left hasSeen homeAt x2 → ∀ (ls : Array Slot) (H : Heap) (locs : List Loc), lv_has ls 3 [(0, .ref (ad 0)), (1, .int x1), (2, .int x2)] → va_P D vwCl (mW ad ca blocks trainMany lockMany readBlocks readTrains readLockMany blocksTold omensTold highBlock taped fault broken brokenAt spot here token value bumpAt bumpIn bumpOf waited keptOut visited seenMany drawn torn state locks waits readPage readLocks tape cuts letters place left hasSeen homeAt places seen wouldBe isKept lanes lengths cells) H → va_D A (mW ad ca blocks trainMany lockMany readBlocks readTrains readLockMany blocksTold omensTold highBlock taped fault broken brokenAt spot here token value bumpAt bumpIn bumpOf waited keptOut visited seenMany drawn torn state locks waits readPage readLocks tape cuts letters place left hasSeen homeAt places seen wouldBe isKept lanes lengths cells) → va_S A s.heap H locs → W p l e rm_M_run s m args below meth c H locs 0 0 Z (F0 m 86 ls [])) (hk139 : ∀ (bumpAt : Int32) (bumpIn : Int32) (bumpOf : Int32) (waited : Int32) (keptOut : Int32) (visited : Int32) (place : Nat → Int32) (left : Nat → Int32) (hasSeen : Nat → Int32) (homeAt : Nat → Int32), k139 bumpAt bumpIn bumpOf waited keptOut visited place left hasSeen homeAt → ∀ (ls : Array Slot) (H : Heap) (locs : List Loc), lv_has ls 3 [(0, .ref (ad 0)), (1, .int x1)] → va_P D vwCl (mW ad ca blocks trainMany lockMany readBlocks readTrains readLockMany blocksTold omensTold highBlock taped fault broken brokenAt spot here token value bumpAt bumpIn bumpOf waited keptOut visited seenMany drawn torn state locks waits readPage readLocks tape cuts letters place left hasSeen homeAt places seen wouldBe isKept lanes lengths cells) H → va_D A (mW ad ca blocks trainMany lockMany readBlocks readTrains readLockMany blocksTold omensTold highBlock taped fault broken brokenAt spot here token value bumpAt bumpIn bumpOf waited keptOut visited seenMany drawn torn state locks waits readPage readLocks tape cuts letters place left hasSeen homeAt places seen wouldBe isKept lanes lengths cells) → va_S A s.heap H locs → W p l e rm_M_run s m args below meth c H locs 0 0 Z (F0 m 139 ls [])) (G : M_run_J133 blocks trainMany bumpAt bumpIn bumpOf waited keptOut visited state waits place left hasSeen homeAt x1 x2 k86 k139) {ls : Array Slot} {H : Heap} {locs : List Loc} (hl : lv_has ls 3 [(0, .ref (ad 0)), (1, .int x1), (2, .int x2)]) (hP : va_P D vwCl (mW ad ca blocks trainMany lockMany readBlocks readTrains readLockMany blocksTold omensTold highBlock taped fault broken brokenAt spot here token value bumpAt bumpIn bumpOf waited keptOut visited seenMany drawn torn state locks waits readPage readLocks tape cuts letters place left hasSeen homeAt places seen wouldBe isKept lanes lengths cells) H) (hD : va_D A (mW ad ca blocks trainMany lockMany readBlocks readTrains readLockMany blocksTold omensTold highBlock taped fault broken brokenAt spot here token value bumpAt bumpIn bumpOf waited keptOut visited seenMany drawn torn state locks waits readPage readLocks tape cuts letters place left hasSeen homeAt places seen wouldBe isKept lanes lengths cells)) (hS : va_S A s.heap H locs) : W p l e rm_M_run s m args below meth c H locs 0 0 Z (F0 m 133 ls []) := by
  have hx := C.1; have hb := C.2.1; have hr := C.2.2.1; have hlocks := C.2.2.2.1; have hml := C.2.2.2.2.1; have hown := C.2.2.2.2.2.1; have hts := C.2.2.2.2.2.2.1; have hn := C.2.2.2.2.2.2.2.1; have hK := C.2.2.2.2.2.2.2.2.1; have hA := C.2.2.2.2.2.2.2.2.2
  unfold M_run_J133 at G
  refine lv_iinc (v := (x2 + (1 : Int32))) (lv' := [(2, .int (x2 + (1 : Int32))), (0, .ref (ad 0)), (1, .int x1)]) hx hb dX7_run_133 hl (k := 2) rfl rfl (by decide) rfl (fun ls hl => ?_)
  refine lv_goto (tgt := 86) hx hb dX7_run_136 (by decide) ?_
  exact hk86 _ _ _ _ _ _ _ _ _ _ _ G _ _ _ (lv_sub hl [1, 2, 0] rfl) hP hD hS
set_option maxHeartbeats 4000000 in
theorem w_M_run_L86 {p : Program} {l : Launch} {e : Env} {s : State} {m : MethodId} {args : Array Value} {below : List Frame} {meth : Method} {c : Code} {D : va_G} {ad : Nat → Nat} {ca : Nat → ClassId} {A : Nat → Prop} {Z : State → Prop} (C : cx cX7_run 3 none RX7 D vwCl (tyL ca) A p c meth s m args) {blocks : Int32} {trainMany : Int32} {lockMany : Int32} {readBlocks : Int32} {readTrains : Int32} {readLockMany : Int32} {blocksTold : Int32} {omensTold : Int32} {highBlock : Int32} {taped : Int32} {fault : Int32} {broken : Int32} {brokenAt : Int32} {spot : Int32} {here : Int32} {token : Int32} {value : Int32} {seenMany : Int32} {drawn : Int32} {torn : Int32} {state : Nat → Int32} {locks : Nat → Int32} {waits : Nat → Int32} {readPage : Nat → Int32} {readLocks : Nat → Int32} {tape : Nat → Int32} {cuts : Nat → Int32} {letters : Nat → Int32} {places : Nat → Int32} {seen : Nat → Int32} {wouldBe : Nat → Int32} {isKept : Nat → Int32} {lanes : Nat → Int32} {lengths : Nat → Int32} {cells : Nat → Int32} {x1 : Int32} {k139 : Int32 → Int32 → Int32 → Int32 → Int32 → Int32 → (Nat → Int32) → (Nat → Int32) → (Nat → Int32) → (Nat → Int32) → Prop} (hk139 : ∀ (bumpAt : Int32) (bumpIn : Int32) (bumpOf : Int32) (waited : Int32) (keptOut : Int32) (visited : Int32) (place : Nat → Int32) (left : Nat → Int32) (hasSeen : Nat → Int32) (homeAt : Nat → Int32), k139 bumpAt bumpIn bumpOf waited keptOut visited place left hasSeen homeAt → ∀ (ls : Array Slot) (H : Heap) (locs : List Loc), lv_has ls 3 [(0, .ref (ad 0)), (1, .int x1)] → va_P D vwCl (mW ad ca blocks trainMany lockMany readBlocks readTrains readLockMany blocksTold omensTold highBlock taped fault broken brokenAt spot here token value bumpAt bumpIn bumpOf waited keptOut visited seenMany drawn torn state locks waits readPage readLocks tape cuts letters place left hasSeen homeAt places seen wouldBe isKept lanes lengths cells) H → va_D A (mW ad ca blocks trainMany lockMany readBlocks readTrains readLockMany blocksTold omensTold highBlock taped fault broken brokenAt spot here token value bumpAt bumpIn bumpOf waited keptOut visited seenMany drawn torn state locks waits readPage readLocks tape cuts letters place left hasSeen homeAt places seen wouldBe isKept lanes lengths cells) → va_S A s.heap H locs → W p l e rm_M_run s m args below meth c H locs 0 0 Z (F0 m 139 ls [])) : ∀ (n : Nat) (bumpAt : Int32) (bumpIn : Int32) (bumpOf : Int32) (waited : Int32) (keptOut : Int32) (visited : Int32) (place : Nat → Int32) (left : Nat → Int32) (hasSeen : Nat → Int32) (homeAt : Nat → Int32) (x2 : Int32), M_run_L86 blocks trainMany state waits x1 k139 n bumpAt bumpIn bumpOf waited keptOut visited place left hasSeen homeAt x2 → ∀ (ls : Array Slot) (H : Heap) (locs : List Loc), lv_has ls 3 [(0, .ref (ad 0)), (1, .int x1), (2, .int x2)] → va_P D vwCl (mW ad ca blocks trainMany lockMany readBlocks readTrains readLockMany blocksTold omensTold highBlock taped fault broken brokenAt spot here token value bumpAt bumpIn bumpOf waited keptOut visited seenMany drawn torn state locks waits readPage readLocks tape cuts letters place left hasSeen homeAt places seen wouldBe isKept lanes lengths cells) H → va_D A (mW ad ca blocks trainMany lockMany readBlocks readTrains readLockMany blocksTold omensTold highBlock taped fault broken brokenAt spot here token value bumpAt bumpIn bumpOf waited keptOut visited seenMany drawn torn state locks waits readPage readLocks tape cuts letters place left hasSeen homeAt places seen wouldBe isKept lanes lengths cells) → va_S A s.heap H locs → W p l e rm_M_run s m args below meth c H locs 0 0 Z (F0 m 86 ls []) := by
  have hx := C.1; have hb := C.2.1; have hr := C.2.2.1; have hlocks := C.2.2.2.1; have hml := C.2.2.2.2.1; have hown := C.2.2.2.2.2.1; have hts := C.2.2.2.2.2.2.1; have hn := C.2.2.2.2.2.2.2.1; have hK := C.2.2.2.2.2.2.2.2.1; have hA := C.2.2.2.2.2.2.2.2.2
  intro n
  induction n with
  | zero =>
    intro bumpAt bumpIn bumpOf waited keptOut visited place left hasSeen homeAt x2 G
    exact False.elim G
  | succ n ih =>
    intro bumpAt bumpIn bumpOf waited keptOut visited place left hasSeen homeAt x2 G ls H locs hl hP hD hS
    unfold M_run_L86 at G
    have hk86 := ih
    refine lv_iload_n hx hb dX7_run_86 rfl (lv_at hl 2 rfl) ?_
    refine lv_aload_n hx hb dX7_run_87 rfl (lv_at hl 0 rfl) ?_
    refine va_get hx hb hts in_X7 hown hK hP 0 rfl rfl 2 (by decide) (hts _ q930) (fun _ h => h) rfl dX7_run_88 ?_
    refine lv_icmp_ge (tgt := 139) hx hb dX7_run_91 (by decide) (fun c_12 => ?_) (fun c_12 => ?_)
    · have G := G.1 c_12
      exact hk139 _ _ _ _ _ _ _ _ _ _ G _ _ _ (lv_sub hl [0, 1] rfl) hP hD hS
    · have G := G.2 c_12
      refine lv_aload_n hx hb dX7_run_94 rfl (lv_at hl 0 rfl) ?_
      refine va_get hx hb hts in_X7 hown hK hP 0 rfl rfl 30 (by decide) (hts _ q958) (fun _ h => h) rfl dX7_run_95 ?_
      refine lv_bipush (v := -4) hx hb dX7_run_98 (by decide) ?_
      refine lv_icmp_ne (tgt := 133) hx hb dX7_run_100 (by decide) (fun c_13 => ?_) (fun c_13 => ?_)
      · have G := G.2 c_13
        exact w_M_run_J133 C hk86 hk139 G (lv_sub hl [0, 1, 2] rfl) hP hD hS
      · have G := G.1 c_13
        refine lv_aload_n hx hb dX7_run_103 rfl (lv_at hl 0 rfl) ?_
        refine va_get hx hb hts in_X7 hown hK hP 0 rfl rfl 28 (by decide) (hts _ q956) (fun _ h => h) rfl dX7_run_104 ?_
        refine lv_iload_n hx hb dX7_run_107 rfl (lv_at hl 2 rfl) ?_
        obtain ⟨h_14, G⟩ := G
        refine va_iald hx hb hK hP 12 0 rfl rfl h_14 dX7_run_108 ?_
        refine lv_bipush (v := -4) hx hb dX7_run_109 (by decide) ?_
        refine lv_icmp_ne (tgt := 133) hx hb dX7_run_111 (by decide) (fun c_15 => ?_) (fun c_15 => ?_)
        · have G := G.2 c_15
          exact w_M_run_J133 C hk86 hk139 G (lv_sub hl [0, 1, 2] rfl) hP hD hS
        · have G := G.1 c_15
          refine lv_iload_n hx hb dX7_run_114 rfl (lv_at hl 1 rfl) ?_
          refine lv_aload_n hx hb dX7_run_115 rfl (lv_at hl 0 rfl) ?_
          refine va_get hx hb hts in_X7 hown hK hP 0 rfl rfl 0 (by decide) (hts _ q928) (fun _ h => h) rfl dX7_run_116 ?_
          refine lv_bipush (v := 17) hx hb dX7_run_119 (by decide) ?_
          refine lv_iload_n hx hb dX7_run_121 rfl (lv_at hl 2 rfl) ?_
          refine lv_iadd hx hb dX7_run_122 ?_
          obtain ⟨h_16, G⟩ := G
          refine va_iald hx hb hK hP 1 0 rfl rfl h_16 dX7_run_123 ?_
          refine lv_icmp_lt (tgt := 133) hx hb dX7_run_124 (by decide) (fun c_17 => ?_) (fun c_17 => ?_)
          · have G := G.1 c_17
            exact w_M_run_J133 C hk86 hk139 G (lv_sub hl [0, 1, 2] rfl) hP hD hS
          · have G := G.2 c_17
            refine lv_aload_n hx hb dX7_run_127 rfl (lv_at hl 0 rfl) ?_
            refine lv_iload_n hx hb dX7_run_128 rfl (lv_at hl 2 rfl) ?_
            refine lv_iload_n hx hb dX7_run_129 rfl (lv_at hl 1 rfl) ?_
            refine wc_Vv (As := [.int x2, .int x1]) (rest := []) C (met_M_moves l D ad ca H.size blocks trainMany lockMany readBlocks readTrains readLockMany blocksTold omensTold highBlock taped fault broken brokenAt spot here token value bumpAt bumpIn bumpOf waited keptOut visited seenMany drawn torn state locks waits readPage readLocks tape cuts letters place left hasSeen homeAt places seen wouldBe isKept lanes lengths cells x2 x1 _ G) (cwV 2 hts (lw_V q1198 q1200 qs53 q75 q1201) rfl rfl rfl (by decide +kernel) ⟨Nat.le_of_ble_eq_true rfl, Nat.le_of_ble_eq_true rfl⟩) hP hD hS 0 rfl rfl rfl rfl hl.1 (Nat.le_of_ble_eq_true rfl) dX7_run_130 ⟨Nat.le_of_ble_eq_true rfl, Nat.le_of_ble_eq_true rfl⟩ (fun u H locs G hP hD hS => ?_)
            obtain ⟨bumpAt_19, bumpIn_20, bumpOf_21, waited_22, keptOut_23, visited_24, place_25, left_26, hasSeen_27, homeAt_28⟩ := u
            have hP : va_P D vwCl (mW ad ca blocks trainMany lockMany readBlocks readTrains readLockMany blocksTold omensTold highBlock taped fault broken brokenAt spot here token value bumpAt_19 bumpIn_20 bumpOf_21 waited_22 keptOut_23 visited_24 seenMany drawn torn state locks waits readPage readLocks tape cuts letters place_25 left_26 hasSeen_27 homeAt_28 places seen wouldBe isKept lanes lengths cells) H := hP
            have hD : va_D A (mW ad ca blocks trainMany lockMany readBlocks readTrains readLockMany blocksTold omensTold highBlock taped fault broken brokenAt spot here token value bumpAt_19 bumpIn_20 bumpOf_21 waited_22 keptOut_23 visited_24 seenMany drawn torn state locks waits readPage readLocks tape cuts letters place_25 left_26 hasSeen_27 homeAt_28 places seen wouldBe isKept lanes lengths cells) := hD
            exact w_M_run_J133 C hk86 hk139 G (lv_sub hl [0, 1, 2] rfl) hP hD hS
set_option maxHeartbeats 4000000 in
theorem w_M_run_L141 {p : Program} {l : Launch} {e : Env} {s : State} {m : MethodId} {args : Array Value} {below : List Frame} {meth : Method} {c : Code} {D : va_G} {ad : Nat → Nat} {ca : Nat → ClassId} {A : Nat → Prop} {Z : State → Prop} (C : cx cX7_run 3 none RX7 D vwCl (tyL ca) A p c meth s m args) {blocks : Int32} {trainMany : Int32} {lockMany : Int32} {readBlocks : Int32} {readTrains : Int32} {readLockMany : Int32} {blocksTold : Int32} {omensTold : Int32} {highBlock : Int32} {taped : Int32} {fault : Int32} {broken : Int32} {brokenAt : Int32} {spot : Int32} {here : Int32} {token : Int32} {value : Int32} {bumpAt : Int32} {bumpIn : Int32} {bumpOf : Int32} {waited : Int32} {keptOut : Int32} {visited : Int32} {seenMany : Int32} {drawn : Int32} {torn : Int32} {state : Nat → Int32} {locks : Nat → Int32} {waits : Nat → Int32} {readPage : Nat → Int32} {readLocks : Nat → Int32} {tape : Nat → Int32} {cuts : Nat → Int32} {letters : Nat → Int32} {place : Nat → Int32} {left : Nat → Int32} {hasSeen : Nat → Int32} {homeAt : Nat → Int32} {seen : Nat → Int32} {wouldBe : Nat → Int32} {isKept : Nat → Int32} {lanes : Nat → Int32} {lengths : Nat → Int32} {cells : Nat → Int32} {x1 : Int32} {k171 : (Nat → Int32) → Prop} (hk171 : ∀ (places : Nat → Int32), k171 places → ∀ (ls : Array Slot) (H : Heap) (locs : List Loc), lv_has ls 3 [(0, .ref (ad 0)), (1, .int x1)] → va_P D vwCl (mW ad ca blocks trainMany lockMany readBlocks readTrains readLockMany blocksTold omensTold highBlock taped fault broken brokenAt spot here token value bumpAt bumpIn bumpOf waited keptOut visited seenMany drawn torn state locks waits readPage readLocks tape cuts letters place left hasSeen homeAt places seen wouldBe isKept lanes lengths cells) H → va_D A (mW ad ca blocks trainMany lockMany readBlocks readTrains readLockMany blocksTold omensTold highBlock taped fault broken brokenAt spot here token value bumpAt bumpIn bumpOf waited keptOut visited seenMany drawn torn state locks waits readPage readLocks tape cuts letters place left hasSeen homeAt places seen wouldBe isKept lanes lengths cells) → va_S A s.heap H locs → W p l e rm_M_run s m args below meth c H locs 0 0 Z (F0 m 171 ls [])) : ∀ (n : Nat) (places : Nat → Int32) (x2 : Int32), M_run_L141 trainMany place x1 k171 n places x2 → ∀ (ls : Array Slot) (H : Heap) (locs : List Loc), lv_has ls 3 [(0, .ref (ad 0)), (1, .int x1), (2, .int x2)] → va_P D vwCl (mW ad ca blocks trainMany lockMany readBlocks readTrains readLockMany blocksTold omensTold highBlock taped fault broken brokenAt spot here token value bumpAt bumpIn bumpOf waited keptOut visited seenMany drawn torn state locks waits readPage readLocks tape cuts letters place left hasSeen homeAt places seen wouldBe isKept lanes lengths cells) H → va_D A (mW ad ca blocks trainMany lockMany readBlocks readTrains readLockMany blocksTold omensTold highBlock taped fault broken brokenAt spot here token value bumpAt bumpIn bumpOf waited keptOut visited seenMany drawn torn state locks waits readPage readLocks tape cuts letters place left hasSeen homeAt places seen wouldBe isKept lanes lengths cells) → va_S A s.heap H locs → W p l e rm_M_run s m args below meth c H locs 0 0 Z (F0 m 141 ls []) := by
  have hx := C.1; have hb := C.2.1; have hr := C.2.2.1; have hlocks := C.2.2.2.1; have hml := C.2.2.2.2.1; have hown := C.2.2.2.2.2.1; have hts := C.2.2.2.2.2.2.1; have hn := C.2.2.2.2.2.2.2.1; have hK := C.2.2.2.2.2.2.2.2.1; have hA := C.2.2.2.2.2.2.2.2.2
  intro n
  induction n with
  | zero =>
    intro places x2 G
    exact False.elim G
  | succ n ih =>
    intro places x2 G ls H locs hl hP hD hS
    unfold M_run_L141 at G
    have hk141 := ih
    refine lv_iload_n hx hb dX7_run_141 rfl (lv_at hl 2 rfl) ?_
    refine lv_aload_n hx hb dX7_run_142 rfl (lv_at hl 0 rfl) ?_
    refine va_get hx hb hts in_X7 hown hK hP 0 rfl rfl 2 (by decide) (hts _ q930) (fun _ h => h) rfl dX7_run_143 ?_
    refine lv_icmp_ge (tgt := 171) hx hb dX7_run_146 (by decide) (fun c_40 => ?_) (fun c_40 => ?_)
    · have G := G.1 c_40
      exact hk171 _ G _ _ _ (lv_sub hl [0, 1] rfl) hP hD hS
    · have G := G.2 c_40
      refine lv_aload_n hx hb dX7_run_149 rfl (lv_at hl 0 rfl) ?_
      refine va_get hx hb hts in_X7 hown hK hP 0 rfl rfl 29 (by decide) (hts _ q957) (fun _ h => h) rfl dX7_run_150 ?_
      refine lv_iconst (v := 4) hx hb dX7_run_153 (by decide) ?_
      refine lv_iload_n hx hb dX7_run_154 rfl (lv_at hl 1 rfl) ?_
      refine lv_imul hx hb dX7_run_155 ?_
      refine lv_iload_n hx hb dX7_run_156 rfl (lv_at hl 2 rfl) ?_
      refine lv_iadd hx hb dX7_run_157 ?_
      refine lv_aload_n hx hb dX7_run_158 rfl (lv_at hl 0 rfl) ?_
      refine va_get hx hb hts in_X7 hown hK hP 0 rfl rfl 25 (by decide) (hts _ q953) (fun _ h => h) rfl dX7_run_159 ?_
      refine lv_iload_n hx hb dX7_run_162 rfl (lv_at hl 2 rfl) ?_
      obtain ⟨h_41, G⟩ := G
      refine va_iald hx hb hK hP 9 0 rfl rfl h_41 dX7_run_163 ?_
      obtain ⟨h_42, G⟩ := G
      refine va_iast hx hb hK hP hD hS 13 0 rfl rfl h_42 dX7_run_164 (fun H locs hP hD hS => ?_)
      have hP : va_P D vwCl (mW ad ca blocks trainMany lockMany readBlocks readTrains readLockMany blocksTold omensTold highBlock taped fault broken brokenAt spot here token value bumpAt bumpIn bumpOf waited keptOut visited seenMany drawn torn state locks waits readPage readLocks tape cuts letters place left hasSeen homeAt (upd places (((4 : Int32) * x1) + x2).toNatClampNeg (place x2.toNatClampNeg)) seen wouldBe isKept lanes lengths cells) H := hP
      have hD : va_D A (mW ad ca blocks trainMany lockMany readBlocks readTrains readLockMany blocksTold omensTold highBlock taped fault broken brokenAt spot here token value bumpAt bumpIn bumpOf waited keptOut visited seenMany drawn torn state locks waits readPage readLocks tape cuts letters place left hasSeen homeAt (upd places (((4 : Int32) * x1) + x2).toNatClampNeg (place x2.toNatClampNeg)) seen wouldBe isKept lanes lengths cells) := hD
      refine lv_iinc (v := (x2 + (1 : Int32))) (lv' := [(2, .int (x2 + (1 : Int32))), (0, .ref (ad 0)), (1, .int x1)]) hx hb dX7_run_165 hl (k := 2) rfl rfl (by decide) rfl (fun ls hl => ?_)
      refine lv_goto (tgt := 141) hx hb dX7_run_168 (by decide) ?_
      exact hk141 _ _ G _ _ _ (lv_sub hl [1, 2, 0] rfl) hP hD hS
set_option maxHeartbeats 4000000 in
theorem w_M_run_L78 {p : Program} {l : Launch} {e : Env} {s : State} {m : MethodId} {args : Array Value} {below : List Frame} {meth : Method} {c : Code} {D : va_G} {ad : Nat → Nat} {ca : Nat → ClassId} {A : Nat → Prop} {Z : State → Prop} (C : cx cX7_run 3 none RX7 D vwCl (tyL ca) A p c meth s m args) {blocks : Int32} {trainMany : Int32} {lockMany : Int32} {readBlocks : Int32} {readTrains : Int32} {readLockMany : Int32} {blocksTold : Int32} {omensTold : Int32} {highBlock : Int32} {taped : Int32} {fault : Int32} {broken : Int32} {brokenAt : Int32} {spot : Int32} {here : Int32} {token : Int32} {value : Int32} {seenMany : Int32} {drawn : Int32} {torn : Int32} {state : Nat → Int32} {locks : Nat → Int32} {waits : Nat → Int32} {readPage : Nat → Int32} {readLocks : Nat → Int32} {tape : Nat → Int32} {cuts : Nat → Int32} {letters : Nat → Int32} {seen : Nat → Int32} {wouldBe : Nat → Int32} {isKept : Nat → Int32} {lanes : Nat → Int32} {lengths : Nat → Int32} {cells : Nat → Int32}  {k177 : Int32 → Int32 → Int32 → Int32 → Int32 → Int32 → (Nat → Int32) → (Nat → Int32) → (Nat → Int32) → (Nat → Int32) → (Nat → Int32) → Prop} (hk177 : ∀ (bumpAt : Int32) (bumpIn : Int32) (bumpOf : Int32) (waited : Int32) (keptOut : Int32) (visited : Int32) (place : Nat → Int32) (left : Nat → Int32) (hasSeen : Nat → Int32) (homeAt : Nat → Int32) (places : Nat → Int32), k177 bumpAt bumpIn bumpOf waited keptOut visited place left hasSeen homeAt places → ∀ (ls : Array Slot) (H : Heap) (locs : List Loc), lv_has ls 3 [] → va_P D vwCl (mW ad ca blocks trainMany lockMany readBlocks readTrains readLockMany blocksTold omensTold highBlock taped fault broken brokenAt spot here token value bumpAt bumpIn bumpOf waited keptOut visited seenMany drawn torn state locks waits readPage readLocks tape cuts letters place left hasSeen homeAt places seen wouldBe isKept lanes lengths cells) H → va_D A (mW ad ca blocks trainMany lockMany readBlocks readTrains readLockMany blocksTold omensTold highBlock taped fault broken brokenAt spot here token value bumpAt bumpIn bumpOf waited keptOut visited seenMany drawn torn state locks waits readPage readLocks tape cuts letters place left hasSeen homeAt places seen wouldBe isKept lanes lengths cells) → va_S A s.heap H locs → W p l e rm_M_run s m args below meth c H locs 0 0 Z (F0 m 177 ls [])) : ∀ (n : Nat) (bumpAt : Int32) (bumpIn : Int32) (bumpOf : Int32) (waited : Int32) (keptOut : Int32) (visited : Int32) (place : Nat → Int32) (left : Nat → Int32) (hasSeen : Nat → Int32) (homeAt : Nat → Int32) (places : Nat → Int32) (x1 : Int32), M_run_L78 blocks trainMany state waits k177 n bumpAt bumpIn bumpOf waited keptOut visited place left hasSeen homeAt places x1 → ∀ (ls : Array Slot) (H : Heap) (locs : List Loc), lv_has ls 3 [(0, .ref (ad 0)), (1, .int x1)] → va_P D vwCl (mW ad ca blocks trainMany lockMany readBlocks readTrains readLockMany blocksTold omensTold highBlock taped fault broken brokenAt spot here token value bumpAt bumpIn bumpOf waited keptOut visited seenMany drawn torn state locks waits readPage readLocks tape cuts letters place left hasSeen homeAt places seen wouldBe isKept lanes lengths cells) H → va_D A (mW ad ca blocks trainMany lockMany readBlocks readTrains readLockMany blocksTold omensTold highBlock taped fault broken brokenAt spot here token value bumpAt bumpIn bumpOf waited keptOut visited seenMany drawn torn state locks waits readPage readLocks tape cuts letters place left hasSeen homeAt places seen wouldBe isKept lanes lengths cells) → va_S A s.heap H locs → W p l e rm_M_run s m args below meth c H locs 0 0 Z (F0 m 78 ls []) := by
  have hx := C.1; have hb := C.2.1; have hr := C.2.2.1; have hlocks := C.2.2.2.1; have hml := C.2.2.2.2.1; have hown := C.2.2.2.2.2.1; have hts := C.2.2.2.2.2.2.1; have hn := C.2.2.2.2.2.2.2.1; have hK := C.2.2.2.2.2.2.2.2.1; have hA := C.2.2.2.2.2.2.2.2.2
  intro n
  induction n with
  | zero =>
    intro bumpAt bumpIn bumpOf waited keptOut visited place left hasSeen homeAt places x1 G
    exact False.elim G
  | succ n ih =>
    intro bumpAt bumpIn bumpOf waited keptOut visited place left hasSeen homeAt places x1 G ls H locs hl hP hD hS
    unfold M_run_L78 at G
    have hk78 := ih
    refine lv_iload_n hx hb dX7_run_78 rfl (lv_at hl 1 rfl) ?_
    refine lv_bipush (v := 119) hx hb dX7_run_79 (by decide) ?_
    refine lv_icmp_gt (tgt := 177) hx hb dX7_run_81 (by decide) (fun c_11 => ?_) (fun c_11 => ?_)
    · have G := G.1 c_11
      exact hk177 _ _ _ _ _ _ _ _ _ _ _ G _ _ _ (lv_sub hl [] rfl) hP hD hS
    · have G := G.2 c_11
      refine lv_iconst (v := 0) hx hb dX7_run_84 (by decide) ?_
      refine lv_istore_n (lv' := [(2, .int (0 : Int32)), (0, .ref (ad 0)), (1, .int x1)]) hx hb dX7_run_85 rfl hl (by decide) rfl (fun ls hl => ?_)
      obtain ⟨n_29, G⟩ := G
      refine w_M_run_L86 C (fun bumpAt_30 bumpIn_31 bumpOf_32 waited_33 keptOut_34 visited_35 place_36 left_37 hasSeen_38 homeAt_39 G ls H locs hl hP hD hS => ?_) n_29 _ _ _ _ _ _ _ _ _ _ _ G _ _ _ (lv_sub hl [1, 2, 0] rfl) hP hD hS
      refine lv_iconst (v := 0) hx hb dX7_run_139 (by decide) ?_
      refine lv_istore_n (lv' := [(2, .int (0 : Int32)), (0, .ref (ad 0)), (1, .int x1)]) hx hb dX7_run_140 rfl hl (by decide) rfl (fun ls hl => ?_)
      obtain ⟨n_43, G⟩ := G
      refine w_M_run_L141 C (fun places_44 G ls H locs hl hP hD hS => ?_) n_43 _ _ G _ _ _ (lv_sub hl [1, 2, 0] rfl) hP hD hS
      refine lv_iinc (v := (x1 + (1 : Int32))) (lv' := [(1, .int (x1 + (1 : Int32))), (0, .ref (ad 0))]) hx hb dX7_run_171 hl (k := 1) rfl rfl (by decide) rfl (fun ls hl => ?_)
      refine lv_goto (tgt := 78) hx hb dX7_run_174 (by decide) ?_
      exact hk78 _ _ _ _ _ _ _ _ _ _ _ _ G _ _ _ (lv_sub hl [1, 0] rfl) hP hD hS
set_option maxHeartbeats 4000000 in
theorem met_M_run (l : Launch) (D : va_G) (ad : Nat → Nat) (ca : Nat → ClassId) (sz : Nat) (blocks : Int32) (trainMany : Int32) (lockMany : Int32) (readBlocks : Int32) (readTrains : Int32) (readLockMany : Int32) (blocksTold : Int32) (omensTold : Int32) (highBlock : Int32) (taped : Int32) (fault : Int32) (broken : Int32) (brokenAt : Int32) (spot : Int32) (here : Int32) (token : Int32) (value : Int32) (bumpAt : Int32) (bumpIn : Int32) (bumpOf : Int32) (waited : Int32) (keptOut : Int32) (visited : Int32) (seenMany : Int32) (drawn : Int32) (torn : Int32) (state : Nat → Int32) (locks : Nat → Int32) (waits : Nat → Int32) (readPage : Nat → Int32) (readLocks : Nat → Int32) (tape : Nat → Int32) (cuts : Nat → Int32) (letters : Nat → Int32) (place : Nat → Int32) (left : Nat → Int32) (hasSeen : Nat → Int32) (homeAt : Nat → Int32) (places : Nat → Int32) (seen : Nat → Int32) (wouldBe : Nat → Int32) (isKept : Nat → Int32) (lanes : Nat → Int32) (lengths : Nat → Int32) (cells : Nat → Int32)  (Q : Int32 → Int32 → Int32 → Int32 → Int32 → Int32 → (Nat → Int32) → (Nat → Int32) → (Nat → Int32) → (Nat → Int32) → (Nat → Int32) → Prop) (G : M_run blocks trainMany bumpAt bumpIn bumpOf waited keptOut visited state waits place left hasSeen homeAt places Q) : Met l yX7_run (ws_ yX7_run cX7_run 3 none) rm_M_run (va_Pc [.ref (ad 0)] (wpre D vwCl (tyL ca) (mW ad ca blocks trainMany lockMany readBlocks readTrains readLockMany blocksTold omensTold highBlock taped fault broken brokenAt spot here token value bumpAt bumpIn bumpOf waited keptOut visited seenMany drawn torn state locks waits readPage readLocks tape cuts letters place left hasSeen homeAt places seen wouldBe isKept lanes lengths cells) sz)) (va_Qv (fun (u : Int32 × Int32 × Int32 × Int32 × Int32 × Int32 × (Nat → Int32) × (Nat → Int32) × (Nat → Int32) × (Nat → Int32) × (Nat → Int32)) => Q u.1 u.2.1 u.2.2.1 u.2.2.2.1 u.2.2.2.2.1 u.2.2.2.2.2.1 u.2.2.2.2.2.2.1 u.2.2.2.2.2.2.2.1 u.2.2.2.2.2.2.2.2.1 u.2.2.2.2.2.2.2.2.2.1 u.2.2.2.2.2.2.2.2.2.2) (wpost D vwCl (va_A (mW ad ca blocks trainMany lockMany readBlocks readTrains readLockMany blocksTold omensTold highBlock taped fault broken brokenAt spot here token value bumpAt bumpIn bumpOf waited keptOut visited seenMany drawn torn state locks waits readPage readLocks tape cuts letters place left hasSeen homeAt places seen wouldBe isKept lanes lengths cells) sz) (fun (u : Int32 × Int32 × Int32 × Int32 × Int32 × Int32 × (Nat → Int32) × (Nat → Int32) × (Nat → Int32) × (Nat → Int32) × (Nat → Int32)) => (mW ad ca blocks trainMany lockMany readBlocks readTrains readLockMany blocksTold omensTold highBlock taped fault broken brokenAt spot here token value u.1 u.2.1 u.2.2.1 u.2.2.2.1 u.2.2.2.2.1 u.2.2.2.2.2.1 seenMany drawn torn state locks waits readPage readLocks tape cuts letters u.2.2.2.2.2.2.1 u.2.2.2.2.2.2.2.1 u.2.2.2.2.2.2.2.2.1 u.2.2.2.2.2.2.2.2.2.1 u.2.2.2.2.2.2.2.2.2.2 seen wouldBe isKept lanes lengths cells))) (va_A (mW ad ca blocks trainMany lockMany readBlocks readTrains readLockMany blocksTold omensTold highBlock taped fault broken brokenAt spot here token value bumpAt bumpIn bumpOf waited keptOut visited seenMany drawn torn state locks waits readPage readLocks tape cuts letters place left hasSeen homeAt places seen wouldBe isKept lanes lengths cells) sz)) 0 0 (va_A (mW ad ca blocks trainMany lockMany readBlocks readTrains readLockMany blocksTold omensTold highBlock taped fault broken brokenAt spot here token value bumpAt bumpIn bumpOf waited keptOut visited seenMany drawn torn state locks waits readPage readLocks tape cuts letters place left hasSeen homeAt places seen wouldBe isKept lanes lengths cells) sz) := by
  refine met_of (fun A => (va_Qv (fun (u : Int32 × Int32 × Int32 × Int32 × Int32 × Int32 × (Nat → Int32) × (Nat → Int32) × (Nat → Int32) × (Nat → Int32) × (Nat → Int32)) => Q u.1 u.2.1 u.2.2.1 u.2.2.2.1 u.2.2.2.2.1 u.2.2.2.2.2.1 u.2.2.2.2.2.2.1 u.2.2.2.2.2.2.2.1 u.2.2.2.2.2.2.2.2.1 u.2.2.2.2.2.2.2.2.2.1 u.2.2.2.2.2.2.2.2.2.2) (wpost D vwCl A (fun (u : Int32 × Int32 × Int32 × Int32 × Int32 × Int32 × (Nat → Int32) × (Nat → Int32) × (Nat → Int32) × (Nat → Int32) × (Nat → Int32)) => (mW ad ca blocks trainMany lockMany readBlocks readTrains readLockMany blocksTold omensTold highBlock taped fault broken brokenAt spot here token value u.1 u.2.1 u.2.2.1 u.2.2.2.1 u.2.2.2.2.1 u.2.2.2.2.2.1 seenMany drawn torn state locks waits readPage readLocks tape cuts letters u.2.2.2.2.2.2.1 u.2.2.2.2.2.2.2.1 u.2.2.2.2.2.2.2.2.1 u.2.2.2.2.2.2.2.2.2.1 u.2.2.2.2.2.2.2.2.2.2 seen wouldBe isKept lanes lengths cells))) A)) (by decide) (Nat.le_of_ble_eq_true rfl) ?_
  intro p e s m args below meth c Z A hZ C H locs hP hD hS ls hl
  have hx := C.1; have hb := C.2.1; have hr := C.2.2.1; have hlocks := C.2.2.2.1; have hml := C.2.2.2.2.1; have hown := C.2.2.2.2.2.1; have hts := C.2.2.2.2.2.2.1; have hn := C.2.2.2.2.2.2.2.1; have hK := C.2.2.2.2.2.2.2.2.1; have hA := C.2.2.2.2.2.2.2.2.2
  have hl : lv_has ls 3 [(0, .ref (ad 0))] := hl
  unfold M_run at G
  refine lv_aload_n hx hb dX7_run_0 rfl (lv_at hl 0 rfl) ?_
  refine lv_bipush (v := -4) hx hb dX7_run_1 (by decide) ?_
  refine va_put hx hb hts in_X7 tyX7 tyX7_ok nmX7 hown hK hP hD hS 0 rfl rfl 30 (by decide) (hts _ q958) (fun _ h => h) rfl (tyX7_ok 30 (by decide)) rfl rfl (Nat.le_of_ble_eq_true rfl) dX7_run_3 (fun H locs hP hD hS => ?_)
  have hP : va_P D vwCl (mW ad ca blocks trainMany lockMany readBlocks readTrains readLockMany blocksTold omensTold highBlock taped fault broken brokenAt spot here token value (-4 : Int32) bumpIn bumpOf waited keptOut visited seenMany drawn torn state locks waits readPage readLocks tape cuts letters place left hasSeen homeAt places seen wouldBe isKept lanes lengths cells) H := hP
  have hD : va_D A (mW ad ca blocks trainMany lockMany readBlocks readTrains readLockMany blocksTold omensTold highBlock taped fault broken brokenAt spot here token value (-4 : Int32) bumpIn bumpOf waited keptOut visited seenMany drawn torn state locks waits readPage readLocks tape cuts letters place left hasSeen homeAt places seen wouldBe isKept lanes lengths cells) := hD
  refine lv_aload_n hx hb dX7_run_6 rfl (lv_at hl 0 rfl) ?_
  refine lv_bipush (v := -4) hx hb dX7_run_7 (by decide) ?_
  refine va_put hx hb hts in_X7 tyX7 tyX7_ok nmX7 hown hK hP hD hS 0 rfl rfl 31 (by decide) (hts _ q959) (fun _ h => h) rfl (tyX7_ok 31 (by decide)) rfl rfl (Nat.le_of_ble_eq_true rfl) dX7_run_9 (fun H locs hP hD hS => ?_)
  have hP : va_P D vwCl (mW ad ca blocks trainMany lockMany readBlocks readTrains readLockMany blocksTold omensTold highBlock taped fault broken brokenAt spot here token value (-4 : Int32) (-4 : Int32) bumpOf waited keptOut visited seenMany drawn torn state locks waits readPage readLocks tape cuts letters place left hasSeen homeAt places seen wouldBe isKept lanes lengths cells) H := hP
  have hD : va_D A (mW ad ca blocks trainMany lockMany readBlocks readTrains readLockMany blocksTold omensTold highBlock taped fault broken brokenAt spot here token value (-4 : Int32) (-4 : Int32) bumpOf waited keptOut visited seenMany drawn torn state locks waits readPage readLocks tape cuts letters place left hasSeen homeAt places seen wouldBe isKept lanes lengths cells) := hD
  refine lv_aload_n hx hb dX7_run_12 rfl (lv_at hl 0 rfl) ?_
  refine lv_bipush (v := -4) hx hb dX7_run_13 (by decide) ?_
  refine va_put hx hb hts in_X7 tyX7 tyX7_ok nmX7 hown hK hP hD hS 0 rfl rfl 32 (by decide) (hts _ q960) (fun _ h => h) rfl (tyX7_ok 32 (by decide)) rfl rfl (Nat.le_of_ble_eq_true rfl) dX7_run_15 (fun H locs hP hD hS => ?_)
  have hP : va_P D vwCl (mW ad ca blocks trainMany lockMany readBlocks readTrains readLockMany blocksTold omensTold highBlock taped fault broken brokenAt spot here token value (-4 : Int32) (-4 : Int32) (-4 : Int32) waited keptOut visited seenMany drawn torn state locks waits readPage readLocks tape cuts letters place left hasSeen homeAt places seen wouldBe isKept lanes lengths cells) H := hP
  have hD : va_D A (mW ad ca blocks trainMany lockMany readBlocks readTrains readLockMany blocksTold omensTold highBlock taped fault broken brokenAt spot here token value (-4 : Int32) (-4 : Int32) (-4 : Int32) waited keptOut visited seenMany drawn torn state locks waits readPage readLocks tape cuts letters place left hasSeen homeAt places seen wouldBe isKept lanes lengths cells) := hD
  refine lv_aload_n hx hb dX7_run_18 rfl (lv_at hl 0 rfl) ?_
  refine lv_iconst (v := 0) hx hb dX7_run_19 (by decide) ?_
  refine va_put hx hb hts in_X7 tyX7 tyX7_ok nmX7 hown hK hP hD hS 0 rfl rfl 33 (by decide) (hts _ q961) (fun _ h => h) rfl (tyX7_ok 33 (by decide)) rfl rfl (Nat.le_of_ble_eq_true rfl) dX7_run_20 (fun H locs hP hD hS => ?_)
  have hP : va_P D vwCl (mW ad ca blocks trainMany lockMany readBlocks readTrains readLockMany blocksTold omensTold highBlock taped fault broken brokenAt spot here token value (-4 : Int32) (-4 : Int32) (-4 : Int32) (0 : Int32) keptOut visited seenMany drawn torn state locks waits readPage readLocks tape cuts letters place left hasSeen homeAt places seen wouldBe isKept lanes lengths cells) H := hP
  have hD : va_D A (mW ad ca blocks trainMany lockMany readBlocks readTrains readLockMany blocksTold omensTold highBlock taped fault broken brokenAt spot here token value (-4 : Int32) (-4 : Int32) (-4 : Int32) (0 : Int32) keptOut visited seenMany drawn torn state locks waits readPage readLocks tape cuts letters place left hasSeen homeAt places seen wouldBe isKept lanes lengths cells) := hD
  refine lv_aload_n hx hb dX7_run_23 rfl (lv_at hl 0 rfl) ?_
  refine lv_iconst (v := 0) hx hb dX7_run_24 (by decide) ?_
  refine va_put hx hb hts in_X7 tyX7 tyX7_ok nmX7 hown hK hP hD hS 0 rfl rfl 34 (by decide) (hts _ q962) (fun _ h => h) rfl (tyX7_ok 34 (by decide)) rfl rfl (Nat.le_of_ble_eq_true rfl) dX7_run_25 (fun H locs hP hD hS => ?_)
  have hP : va_P D vwCl (mW ad ca blocks trainMany lockMany readBlocks readTrains readLockMany blocksTold omensTold highBlock taped fault broken brokenAt spot here token value (-4 : Int32) (-4 : Int32) (-4 : Int32) (0 : Int32) (0 : Int32) visited seenMany drawn torn state locks waits readPage readLocks tape cuts letters place left hasSeen homeAt places seen wouldBe isKept lanes lengths cells) H := hP
  have hD : va_D A (mW ad ca blocks trainMany lockMany readBlocks readTrains readLockMany blocksTold omensTold highBlock taped fault broken brokenAt spot here token value (-4 : Int32) (-4 : Int32) (-4 : Int32) (0 : Int32) (0 : Int32) visited seenMany drawn torn state locks waits readPage readLocks tape cuts letters place left hasSeen homeAt places seen wouldBe isKept lanes lengths cells) := hD
  refine lv_aload_n hx hb dX7_run_28 rfl (lv_at hl 0 rfl) ?_
  refine lv_iconst (v := 0) hx hb dX7_run_29 (by decide) ?_
  refine va_put hx hb hts in_X7 tyX7 tyX7_ok nmX7 hown hK hP hD hS 0 rfl rfl 35 (by decide) (hts _ q963) (fun _ h => h) rfl (tyX7_ok 35 (by decide)) rfl rfl (Nat.le_of_ble_eq_true rfl) dX7_run_30 (fun H locs hP hD hS => ?_)
  have hP : va_P D vwCl (mW ad ca blocks trainMany lockMany readBlocks readTrains readLockMany blocksTold omensTold highBlock taped fault broken brokenAt spot here token value (-4 : Int32) (-4 : Int32) (-4 : Int32) (0 : Int32) (0 : Int32) (0 : Int32) seenMany drawn torn state locks waits readPage readLocks tape cuts letters place left hasSeen homeAt places seen wouldBe isKept lanes lengths cells) H := hP
  have hD : va_D A (mW ad ca blocks trainMany lockMany readBlocks readTrains readLockMany blocksTold omensTold highBlock taped fault broken brokenAt spot here token value (-4 : Int32) (-4 : Int32) (-4 : Int32) (0 : Int32) (0 : Int32) (0 : Int32) seenMany drawn torn state locks waits readPage readLocks tape cuts letters place left hasSeen homeAt places seen wouldBe isKept lanes lengths cells) := hD
  refine lv_iconst (v := 0) hx hb dX7_run_33 (by decide) ?_
  refine lv_istore_n (lv' := [(1, .int (0 : Int32)), (0, .ref (ad 0))]) hx hb dX7_run_34 rfl hl (by decide) rfl (fun ls hl => ?_)
  obtain ⟨n_6, G⟩ := G
  refine w_M_run_L35 C (fun place_7 left_8 hasSeen_9 homeAt_10 G ls H locs hl hP hD hS => ?_) n_6 _ _ _ _ _ G _ _ _ (lv_sub hl [1, 0] rfl) hP hD hS
  refine lv_iconst (v := 0) hx hb dX7_run_76 (by decide) ?_
  refine lv_istore_n (lv' := [(1, .int (0 : Int32)), (0, .ref (ad 0))]) hx hb dX7_run_77 rfl hl (by decide) rfl (fun ls hl => ?_)
  obtain ⟨n_45, G⟩ := G
  refine w_M_run_L78 C (fun bumpAt_46 bumpIn_47 bumpOf_48 waited_49 keptOut_50 visited_51 place_52 left_53 hasSeen_54 homeAt_55 places_56 G ls H locs hl hP hD hS => ?_) n_45 _ _ _ _ _ _ _ _ _ _ _ _ G _ _ _ (lv_sub hl [1, 0] rfl) hP hD hS
  rw [hZ]
  exact W.vret hx hb hr (fun t ht hW => ⟨⟨(bumpAt_46, bumpIn_47, bumpOf_48, waited_49, keptOut_50, visited_51, place_52, left_53, hasSeen_54, homeAt_55, places_56), rfl, G, by rw [ht]; exact hP, hD⟩, hS.F ht⟩) hS.2.2 dX7_run_177 hlocks
