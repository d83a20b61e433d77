set_option maxRecDepth 100000
abbrev rm_C_in : Room := { frames := 1, cells := 0, slots := 0, locals := 0 }
set_option maxHeartbeats 4000000 in
theorem met_C_in (l : Launch) (D : va_G) (ca : Nat → ClassId) (sz : Nat)  (x0 : Int64) (x2 : Int64) (x4 : Int64) : Met l yX0_in (ws_ yX0_in cX0_in 6 (some .boolean)) rm_C_in (va_Pc [.long x0, .long x2, .long x4] (wpre D vwCl (tyL ca) (eW ca) sz)) (va_Qi (fun (r : Int32) (u : Unit) => r = C_in_e x0 x2 x4) (wpost D vwCl (va_A (eW ca) sz) (fun (u : Unit) => (eW ca))) (va_A (eW ca) sz)) 0 0 (va_A (eW ca) sz) := by
  refine met_of (fun A => (va_Qi (fun (r : Int32) (u : Unit) => r = C_in_e x0 x2 x4) (wpost D vwCl A (fun (u : Unit) => (eW ca))) A)) (by decide) (Nat.le_of_ble_eq_true rfl) ?_
  intro p e s m args below meth c Z A hZ C H locs hP hD hS ls hl
  have hx := C.1; have hb := C.2.1; have hr := C.2.2.1; have hlocks := C.2.2.2.1; have hml := C.2.2.2.2.1; have hown := C.2.2.2.2.2.1; have hts := C.2.2.2.2.2.2.1; have hn := C.2.2.2.2.2.2.2.1; have hK := C.2.2.2.2.2.2.2.2.1; have hA := C.2.2.2.2.2.2.2.2.2
  have hl : lv_has ls 6 [(0, .long x0), (2, .long x2), (4, .long x4)] := hl
  refine lv_lload_n hx hb dX0_in_0 rfl (lv_at hl 0 rfl) ?_
  refine lv_lload_n hx hb dX0_in_1 rfl (lv_at hl 1 rfl) ?_
  refine W.lcmp hx hb dX0_in_2 ?_
  refine lv_if_lt (tgt := 17) hx hb dX0_in_3 (by decide) (fun c_1 => ?_) (fun c_1 => ?_)
  · refine lv_iconst (v := 0) hx hb dX0_in_17 (by decide) ?_
    rw [hZ]
    exact W.zret hx hb hr (zb_n zb_0) (fun t ht hW => ⟨⟨(0 : Int32), (), rfl, (eT c_1 rfl), by rw [ht]; exact hP, hD⟩, hS.F ht⟩) hS.2.2 dX0_in_18 hlocks
  · refine lv_lload_n hx hb dX0_in_6 rfl (lv_at hl 0 rfl) ?_
    refine lv_lload hx hb dX0_in_7 (lv_at hl 2 rfl) ?_
    refine W.lcmp hx hb dX0_in_9 ?_
    refine lv_if_gt (tgt := 17) hx hb dX0_in_10 (by decide) (fun c_2 => ?_) (fun c_2 => ?_)
    · refine lv_iconst (v := 0) hx hb dX0_in_17 (by decide) ?_
      rw [hZ]
      exact W.zret hx hb hr (zb_n zb_0) (fun t ht hW => ⟨⟨(0 : Int32), (), rfl, (eF c_1 (eT c_2 rfl)), by rw [ht]; exact hP, hD⟩, hS.F ht⟩) hS.2.2 dX0_in_18 hlocks
    · refine lv_iconst (v := 1) hx hb dX0_in_13 (by decide) ?_
      refine lv_goto (tgt := 18) hx hb dX0_in_14 (by decide) ?_
      rw [hZ]
      exact W.zret hx hb hr (zb_n zb_1) (fun t ht hW => ⟨⟨(1 : Int32), (), rfl, (eF c_1 (eF c_2 rfl)), by rw [ht]; exact hP, hD⟩, hS.F ht⟩) hS.2.2 dX0_in_18 hlocks
abbrev rm_C_has : Room := { frames := 1, cells := 0, slots := 0, locals := 0 }
set_option maxHeartbeats 4000000 in
theorem met_C_has (l : Launch) (D : va_G) (ca : Nat → ClassId) (sz : Nat)  (x0 : Int32) (x1 : Int32) : Met l yX0_has (ws_ yX0_has cX0_has 2 (some .boolean)) rm_C_has (va_Pc [.int x0, .int x1] (wpre D vwCl (tyL ca) (eW ca) sz)) (va_Qi (fun (r : Int32) (u : Unit) => r = C_has_e x0 x1) (wpost D vwCl (va_A (eW ca) sz) (fun (u : Unit) => (eW ca))) (va_A (eW ca) sz)) 0 0 (va_A (eW ca) sz) := by
  refine met_of (fun A => (va_Qi (fun (r : Int32) (u : Unit) => r = C_has_e x0 x1) (wpost D vwCl A (fun (u : Unit) => (eW ca))) A)) (by decide) (Nat.le_of_ble_eq_true rfl) ?_
  intro p e s m args below meth c Z A hZ C H locs hP hD hS ls hl
  have hx := C.1; have hb := C.2.1; have hr := C.2.2.1; have hlocks := C.2.2.2.1; have hml := C.2.2.2.2.1; have hown := C.2.2.2.2.2.1; have hts := C.2.2.2.2.2.2.1; have hn := C.2.2.2.2.2.2.2.1; have hK := C.2.2.2.2.2.2.2.2.1; have hA := C.2.2.2.2.2.2.2.2.2
  have hl : lv_has ls 2 [(0, .int x0), (1, .int x1)] := hl
  refine lv_iload_n hx hb dX0_has_0 rfl (lv_at hl 0 rfl) ?_
  refine lv_iload_n hx hb dX0_has_1 rfl (lv_at hl 1 rfl) ?_
  refine lv_ishr hx hb dX0_has_2 ?_
  refine lv_iconst (v := 1) hx hb dX0_has_3 (by decide) ?_
  refine lv_iand hx hb dX0_has_4 ?_
  refine lv_iconst (v := 1) hx hb dX0_has_5 (by decide) ?_
  refine lv_icmp_ne (tgt := 13) hx hb dX0_has_6 (by decide) (fun c_1 => ?_) (fun c_1 => ?_)
  · refine lv_iconst (v := 0) hx hb dX0_has_13 (by decide) ?_
    rw [hZ]
    exact W.zret hx hb hr (zb_n zb_0) (fun t ht hW => ⟨⟨(0 : Int32), (), rfl, (eF c_1 rfl), by rw [ht]; exact hP, hD⟩, hS.F ht⟩) hS.2.2 dX0_has_14 hlocks
  · refine lv_iconst (v := 1) hx hb dX0_has_9 (by decide) ?_
    refine lv_goto (tgt := 14) hx hb dX0_has_10 (by decide) ?_
    rw [hZ]
    exact W.zret hx hb hr (zb_n zb_1) (fun t ht hW => ⟨⟨(1 : Int32), (), rfl, (eT c_1 rfl), by rw [ht]; exact hP, hD⟩, hS.F ht⟩) hS.2.2 dX0_has_14 hlocks
abbrev rm_C_isAllowed : Room := { frames := 2, cells := 0, slots := 0, locals := 21 }
set_option maxHeartbeats 4000000 in
theorem w_C_isAllowed_L4 {p : Program} {l : Launch} {e : Env} {s : State} {m : MethodId} {args : Array Value} {below : List Frame} {meth : Method} {c : Code} {D : va_G} {ad : Nat → Nat} {ca : Nat → ClassId} {A : Nat → Prop} {Z : State → Prop} (C : cx cX0_isAllowed 4 (some .boolean) RX0 D vwCl (tyL ca) A p c meth s m args) {kept : Int32} {locks : Int32} {seenMany : Int32} {bumpMinute : Int32} {bumpBlock : Int32} {bumpTrains : Int32} {waited : Int32} {keptOut : Int32} {used : Int32} {taped : Int32} {fault : Int32} {costSum : Int64} {safeSum : Int64} {allWays : Int64} {torn : Int32} {lockA : Nat → Int32} {x1 : Int32} {k58 : Int32 → Prop} (hk58 : ∀ (x2 : Int32), k58 x2 → ∀ (ls : Array Slot) (H : Heap) (locs : List Loc), lv_has ls 4 [(2, .int x2)] → va_P D vwCl (lW ad ca kept locks seenMany bumpMinute bumpBlock bumpTrains waited keptOut used taped fault costSum safeSum allWays torn lockA) H → va_D A (lW ad ca kept locks seenMany bumpMinute bumpBlock bumpTrains waited keptOut used taped fault costSum safeSum allWays torn lockA) → va_S A s.heap H locs → W p l e rm_C_isAllowed s m args below meth c H locs 0 0 Z (F0 m 58 ls [])) : ∀ (n : Nat) (x2 : Int32) (x3 : Int32), C_isAllowed_L4 locks lockA x1 k58 n x2 x3 → ∀ (ls : Array Slot) (H : Heap) (locs : List Loc), lv_has ls 4 [(0, .ref (ad 0)), (1, .int x1), (2, .int x2), (3, .int x3)] → va_P D vwCl (lW ad ca kept locks seenMany bumpMinute bumpBlock bumpTrains waited keptOut used taped fault costSum safeSum allWays torn lockA) H → va_D A (lW ad ca kept locks seenMany bumpMinute bumpBlock bumpTrains waited keptOut used taped fault costSum safeSum allWays torn lockA) → va_S A s.heap H locs → W p l e rm_C_isAllowed s m args below meth c H locs 0 0 Z (F0 m 4 ls []) := by
  have hx := C.1; have hb := C.2.1; have hr := C.2.2.1; have hlocks := C.2.2.2.1; have hml := C.2.2.2.2.1; have hown := C.2.2.2.2.2.1; have hts := C.2.2.2.2.2.2.1; have hn := C.2.2.2.2.2.2.2.1; have hK := C.2.2.2.2.2.2.2.2.1; have hA := C.2.2.2.2.2.2.2.2.2
  intro n
  induction n with
  | zero =>
    intro x2 x3 G
    exact False.elim G
  | succ n ih =>
    intro x2 x3 G ls H locs hl hP hD hS
    unfold C_isAllowed_L4 at G
    have hk4 := ih
    refine lv_iload_n hx hb dX0_isAllowed_4 rfl (lv_at hl 3 rfl) ?_
    refine lv_aload_n hx hb dX0_isAllowed_5 rfl (lv_at hl 0 rfl) ?_
    refine va_get hx hb hts in_X0 hown hK hP 0 rfl rfl 5 (by decide) (hts _ q182) (fun _ h => h) rfl dX0_isAllowed_6 ?_
    refine lv_icmp_ge (tgt := 58) hx hb dX0_isAllowed_9 (by decide) (fun c_1 => ?_) (fun c_1 => ?_)
    · have G := G.1 c_1
      exact hk58 _ G _ _ _ (lv_sub hl [2] rfl) hP hD hS
    · have G := G.2 c_1
      refine lv_iload_n hx hb dX0_isAllowed_12 rfl (lv_at hl 2 rfl) ?_
      refine lv_iload_n hx hb dX0_isAllowed_13 rfl (lv_at hl 1 rfl) ?_
      refine lv_aload_n hx hb dX0_isAllowed_14 rfl (lv_at hl 0 rfl) ?_
      refine va_get hx hb hts in_X0 hown hK hP 0 rfl rfl 6 (by decide) (hts _ q183) (fun _ h => h) rfl dX0_isAllowed_15 ?_
      refine lv_iconst (v := 2) hx hb dX0_isAllowed_18 (by decide) ?_
      refine lv_iload_n hx hb dX0_isAllowed_19 rfl (lv_at hl 3 rfl) ?_
      refine lv_imul hx hb dX0_isAllowed_20 ?_
      obtain ⟨h_2, G⟩ := G
      refine va_bald hx hb hK hP 1 2 rfl rfl h_2 dX0_isAllowed_21 ?_
      refine wc_Sik (As := [.int x1, .int (lockA ((2 : Int32) * x3).toNatClampNeg)]) (rest := [.int x2]) C (met_C_has l D ca H.size x1 (lockA ((2 : Int32) * x3).toNatClampNeg)) (va_cwS 2 hts (lw_S q639 q537 q68 q538) rfl rfl rfl (by decide +kernel) ⟨Nat.le_of_ble_eq_true rfl, Nat.le_of_ble_eq_true rfl⟩) hP hD hS [] rfl (by decide) rfl rfl hl.1 (Nat.le_of_ble_eq_true rfl) dX0_isAllowed_22 ⟨Nat.le_of_ble_eq_true rfl, Nat.le_of_ble_eq_true rfl⟩ (fun r_3 u H locs hr hP hD hS => ?_)
      subst hr
      obtain ⟨h_5, G⟩ := G
      have hJ : ∀ (H : Heap) (locs : List Loc), va_P D vwCl (lW ad ca kept locks seenMany bumpMinute bumpBlock bumpTrains waited keptOut used taped fault costSum safeSum allWays torn lockA) H → va_D A (lW ad ca kept locks seenMany bumpMinute bumpBlock bumpTrains waited keptOut used taped fault costSum safeSum allWays torn lockA) → va_S A s.heap H locs → ∀ v_8 : Int32, v_8 = (if (C_has_e x1 (lockA ((2 : Int32) * x3).toNatClampNeg)) = 0 then (1 : Int32) else (if (C_has_e x1 (lockA (((2 : Int32) * x3) + (1 : Int32)).toNatClampNeg)) = 0 then (1 : Int32) else (0 : Int32))) → W p l e rm_C_isAllowed s m args below meth c H locs 0 0 Z (F0 m 50 ls (.int v_8 :: [.int x2])) := by
        intro H locs hP hD hS v_8 hv
        subst hv
        refine lv_iand hx hb dX0_isAllowed_50 ?_
        refine lv_istore_n (lv' := [(2, .int (x2 &&& (if (C_has_e x1 (lockA ((2 : Int32) * x3).toNatClampNeg)) = 0 then (1 : Int32) else (if (C_has_e x1 (lockA (((2 : Int32) * x3) + (1 : Int32)).toNatClampNeg)) = 0 then (1 : Int32) else (0 : Int32))))), (0, .ref (ad 0)), (1, .int x1), (3, .int x3)]) hx hb dX0_isAllowed_51 rfl hl (by decide) rfl (fun ls hl => ?_)
        refine lv_iinc (v := (x3 + (1 : Int32))) (lv' := [(3, .int (x3 + (1 : Int32))), (2, .int (x2 &&& (if (C_has_e x1 (lockA ((2 : Int32) * x3).toNatClampNeg)) = 0 then (1 : Int32) else (if (C_has_e x1 (lockA (((2 : Int32) * x3) + (1 : Int32)).toNatClampNeg)) = 0 then (1 : Int32) else (0 : Int32))))), (0, .ref (ad 0)), (1, .int x1)]) hx hb dX0_isAllowed_52 hl (k := 3) rfl rfl (by decide) rfl (fun ls hl => ?_)
        refine lv_goto (tgt := 4) hx hb dX0_isAllowed_55 (by decide) ?_
        exact hk4 _ _ G _ _ _ (lv_sub hl [2, 3, 1, 0] rfl) hP hD hS
      refine lv_if_eq (tgt := 45) hx hb dX0_isAllowed_25 (by decide) (fun c_4 => ?_) (fun c_4 => ?_)
      · refine lv_iconst (v := 1) hx hb dX0_isAllowed_45 (by decide) ?_
        refine lv_goto (tgt := 50) hx hb dX0_isAllowed_46 (by decide) ?_
        exact hJ _ _ hP hD hS _ (eT c_4 rfl)
      · refine lv_iload_n hx hb dX0_isAllowed_28 rfl (lv_at hl 1 rfl) ?_
        refine lv_aload_n hx hb dX0_isAllowed_29 rfl (lv_at hl 0 rfl) ?_
        refine va_get hx hb hts in_X0 hown hK hP 0 rfl rfl 6 (by decide) (hts _ q183) (fun _ h => h) rfl dX0_isAllowed_30 ?_
        refine lv_iconst (v := 2) hx hb dX0_isAllowed_33 (by decide) ?_
        refine lv_iload_n hx hb dX0_isAllowed_34 rfl (lv_at hl 3 rfl) ?_
        refine lv_imul hx hb dX0_isAllowed_35 ?_
        refine lv_iconst (v := 1) hx hb dX0_isAllowed_36 (by decide) ?_
        refine lv_iadd hx hb dX0_isAllowed_37 ?_
        refine va_bald hx hb hK hP 1 2 rfl rfl (h_5 c_4) dX0_isAllowed_38 ?_
        refine wc_Sik (As := [.int x1, .int (lockA (((2 : Int32) * x3) + (1 : Int32)).toNatClampNeg)]) (rest := [.int x2]) C (met_C_has l D ca H.size x1 (lockA (((2 : Int32) * x3) + (1 : Int32)).toNatClampNeg)) (va_cwS 2 hts (lw_S q639 q537 q68 q538) rfl rfl rfl (by decide +kernel) ⟨Nat.le_of_ble_eq_true rfl, Nat.le_of_ble_eq_true rfl⟩) hP hD hS [] rfl (by decide) rfl rfl hl.1 (Nat.le_of_ble_eq_true rfl) dX0_isAllowed_39 ⟨Nat.le_of_ble_eq_true rfl, Nat.le_of_ble_eq_true rfl⟩ (fun r_6 u H locs hr hP hD hS => ?_)
        subst hr
        refine lv_if_ne (tgt := 49) hx hb dX0_isAllowed_42 (by decide) (fun c_7 => ?_) (fun c_7 => ?_)
        · refine lv_iconst (v := 0) hx hb dX0_isAllowed_49 (by decide) ?_
          exact hJ _ _ hP hD hS _ (eF c_4 (eF c_7 rfl))
        · refine lv_iconst (v := 1) hx hb dX0_isAllowed_45 (by decide) ?_
          refine lv_goto (tgt := 50) hx hb dX0_isAllowed_46 (by decide) ?_
          exact hJ _ _ hP hD hS _ (eF c_4 (eT c_7 rfl))
set_option maxHeartbeats 4000000 in
theorem met_C_isAllowed (l : Launch) (D : va_G) (ad : Nat → Nat) (ca : Nat → ClassId) (sz : Nat) (kept : Int32) (locks : Int32) (seenMany : Int32) (bumpMinute : Int32) (bumpBlock : Int32) (bumpTrains : Int32) (waited : Int32) (keptOut : Int32) (used : Int32) (taped : Int32) (fault : Int32) (costSum : Int64) (safeSum : Int64) (allWays : Int64) (torn : Int32) (lockA : Nat → Int32) (x1 : Int32) (Q : Int32 → Prop) (G : C_isAllowed locks lockA x1 Q) : Met l yX0_isAllowed (ws_ yX0_isAllowed cX0_isAllowed 4 (some .boolean)) rm_C_isAllowed (va_Pc [.ref (ad 0), .int x1] (wpre D vwCl (tyL ca) (lW ad ca kept locks seenMany bumpMinute bumpBlock bumpTrains waited keptOut used taped fault costSum safeSum allWays torn lockA) sz)) (va_Qi (fun (r : Int32) (u : Unit) => Q r) (wpost D vwCl (va_A (lW ad ca kept locks seenMany bumpMinute bumpBlock bumpTrains waited keptOut used taped fault costSum safeSum allWays torn lockA) sz) (fun (u : Unit) => (lW ad ca kept locks seenMany bumpMinute bumpBlock bumpTrains waited keptOut used taped fault costSum safeSum allWays torn lockA))) (va_A (lW ad ca kept locks seenMany bumpMinute bumpBlock bumpTrains waited keptOut used taped fault costSum safeSum allWays torn lockA) sz)) 0 0 (va_A (lW ad ca kept locks seenMany bumpMinute bumpBlock bumpTrains waited keptOut used taped fault costSum safeSum allWays torn lockA) sz) := by
  refine met_of (fun A => (va_Qi (fun (r : Int32) (u : Unit) => Q r) (wpost D vwCl A (fun (u : Unit) => (lW ad ca kept locks seenMany bumpMinute bumpBlock bumpTrains waited keptOut used taped fault costSum safeSum allWays torn lockA))) A)) (by decide) (Nat.le_of_ble_eq_true rfl) ?_
  intro p e s m args below meth c Z A hZ C H locs hP hD hS ls hl
  have hx := C.1; have hb := C.2.1; have hr := C.2.2.1; have hlocks := C.2.2.2.1; have hml := C.2.2.2.2.1; have hown := C.2.2.2.2.2.1; have hts := C.2.2.2.2.2.2.1; have hn := C.2.2.2.2.2.2.2.1; have hK := C.2.2.2.2.2.2.2.2.1; have hA := C.2.2.2.2.2.2.2.2.2
  have hl : lv_has ls 4 [(0, .ref (ad 0)), (1, .int x1)] := hl
  unfold C_isAllowed at G
  refine lv_iconst (v := 1) hx hb dX0_isAllowed_0 (by decide) ?_
  refine lv_istore_n (lv' := [(2, .int (1 : Int32)), (0, .ref (ad 0)), (1, .int x1)]) hx hb dX0_isAllowed_1 rfl hl (by decide) rfl (fun ls hl => ?_)
  refine lv_iconst (v := 0) hx hb dX0_isAllowed_2 (by decide) ?_
  refine lv_istore_n (lv' := [(3, .int (0 : Int32)), (2, .int (1 : Int32)), (0, .ref (ad 0)), (1, .int x1)]) hx hb dX0_isAllowed_3 rfl hl (by decide) rfl (fun ls hl => ?_)
  obtain ⟨n_9, G⟩ := G
  refine w_C_isAllowed_L4 C (fun x2_10 G ls H locs hl hP hD hS => ?_) n_9 _ _ G _ _ _ (lv_sub hl [2, 3, 1, 0] rfl) hP hD hS
  refine lv_iload_n hx hb dX0_isAllowed_58 rfl (lv_at hl 0 rfl) ?_
  obtain ⟨h_11, G⟩ := G
  rw [hZ]
  exact W.zret hx hb hr (zb_n h_11) (fun t ht hW => ⟨⟨x2_10, (), rfl, G, by rw [ht]; exact hP, hD⟩, hS.F ht⟩) hS.2.2 dX0_isAllowed_59 hlocks
abbrev rm_C_whoIn : Room := { frames := 1, cells := 0, slots := 0, locals := 0 }
set_option maxHeartbeats 4000000 in
theorem w_C_whoIn_J32 {p : Program} {l : Launch} {e : Env} {s : State} {m : MethodId} {args : Array Value} {below : List Frame} {meth : Method} {c : Code} {D : va_G} {ad : Nat → Nat} {b : Nat} {bo : Nat} {bt : Nat} {ca : Nat → ClassId} {A : Nat → Prop} {Z : State → Prop} (C : cx cX0_whoIn 5 (some .int) RX0 D vwCl (tyL ca) A p c meth s m args) {kept : Int32} {locks : Int32} {seenMany : Int32} {bumpMinute : Int32} {bumpBlock : Int32} {bumpTrains : Int32} {waited : Int32} {keptOut : Int32} {used : Int32} {taped : Int32} {fault : Int32} {costSum : Int64} {safeSum : Int64} {allWays : Int64} {torn : Int32} {whr : Nat → Int32} {homes : Nat → Int32} {isSeen : Nat → Int32} {leftA : Nat → Int32} {were : Nat → Int32} {lockA : Nat → Int32} {b_blocks : Int32} {b_guarded : Int32} {b_trains : Int32} {b_omen : Nat → Int32} {b_train : Nat → Int32} {x2 : Int32} {x3 : Int32} {x4 : Int32}  {k3 : Int32 → Prop} {k29 : Int32 → Prop} {k38 : Prop} (hk3 : ∀ (x4 : Int32), k3 x4 → ∀ (ls : Array Slot) (H : Heap) (locs : List Loc), lv_has ls 5 [(0, .ref (ad 0)), (1, .ref b), (2, .int x2), (3, .int x3), (4, .int x4)] → va_P D vwCl (rW ad b bo bt ca kept locks seenMany bumpMinute bumpBlock bumpTrains waited keptOut used taped fault costSum safeSum allWays torn whr homes isSeen leftA were lockA b_blocks b_guarded b_trains b_omen b_train) H → va_D A (rW ad b bo bt ca kept locks seenMany bumpMinute bumpBlock bumpTrains waited keptOut used taped fault costSum safeSum allWays torn whr homes isSeen leftA were lockA b_blocks b_guarded b_trains b_omen b_train) → va_S A s.heap H locs → W p l e rm_C_whoIn s m args below meth c H locs 0 0 Z (F0 m 3 ls [])) (hk29 : ∀ (x4 : Int32), k29 x4 → ∀ (ls : Array Slot) (H : Heap) (locs : List Loc), lv_has ls 5 [(4, .int x4)] → va_P D vwCl (rW ad b bo bt ca kept locks seenMany bumpMinute bumpBlock bumpTrains waited keptOut used taped fault costSum safeSum allWays torn whr homes isSeen leftA were lockA b_blocks b_guarded b_trains b_omen b_train) H → va_D A (rW ad b bo bt ca kept locks seenMany bumpMinute bumpBlock bumpTrains waited keptOut used taped fault costSum safeSum allWays torn whr homes isSeen leftA were lockA b_blocks b_guarded b_trains b_omen b_train) → va_S A s.heap H locs → W p l e rm_C_whoIn s m args below meth c H locs 0 0 Z (F0 m 29 ls [])) (hk38 : k38 → ∀ (ls : Array Slot) (H : Heap) (locs : List Loc), lv_has ls 5 [] → va_P D vwCl (rW ad b bo bt ca kept locks seenMany bumpMinute bumpBlock bumpTrains waited keptOut used taped fault costSum safeSum allWays torn whr homes isSeen leftA were lockA b_blocks b_guarded b_trains b_omen b_train) H → va_D A (rW ad b bo bt ca kept locks seenMany bumpMinute bumpBlock bumpTrains waited keptOut used taped fault costSum safeSum allWays torn whr homes isSeen leftA were lockA b_blocks b_guarded b_trains b_omen b_train) → va_S A s.heap H locs → W p l e rm_C_whoIn s m args below meth c H locs 0 0 Z (F0 m 38 ls [])) (G : C_whoIn_J32 whr b_trains x2 x3 x4 k3 k29 k38) {ls : Array Slot} {H : Heap} {locs : List Loc} (hl : lv_has ls 5 [(0, .ref (ad 0)), (1, .ref b), (2, .int x2), (3, .int x3), (4, .int x4)]) (hP : va_P D vwCl (rW ad b bo bt ca kept locks seenMany bumpMinute bumpBlock bumpTrains waited keptOut used taped fault costSum safeSum allWays torn whr homes isSeen leftA were lockA b_blocks b_guarded b_trains b_omen b_train) H) (hD : va_D A (rW ad b bo bt ca kept locks seenMany bumpMinute bumpBlock bumpTrains waited keptOut used taped fault costSum safeSum allWays torn whr homes isSeen leftA were lockA b_blocks b_guarded b_trains b_omen b_train)) (hS : va_S A s.heap H locs) : W p l e rm_C_whoIn s m args below meth c H locs 0 0 Z (F0 m 32 ls []) := by
  have hx := C.1; have hb := C.2.1; have hr := C.2.2.1; have hlocks := C.2.2.2.1; have hml := C.2.2.2.2.1; have hown := C.2.2.2.2.2.1; have hts := C.2.2.2.2.2.2.1; have hn := C.2.2.2.2.2.2.2.1; have hK := C.2.2.2.2.2.2.2.2.1; have hA := C.2.2.2.2.2.2.2.2.2
  unfold C_whoIn_J32 at G
  refine lv_iinc (v := (x4 + (1 : Int32))) (lv' := [(4, .int (x4 + (1 : Int32))), (0, .ref (ad 0)), (1, .ref b), (2, .int x2), (3, .int x3)]) hx hb dX0_whoIn_32 hl (k := 4) rfl rfl (by decide) rfl (fun ls hl => ?_)
  refine lv_goto (tgt := 3) hx hb dX0_whoIn_35 (by decide) ?_
  exact hk3 _ G _ _ _ (lv_sub hl [1, 2, 3, 4, 0] rfl) hP hD hS
set_option maxHeartbeats 4000000 in
theorem w_C_whoIn_L3 {p : Program} {l : Launch} {e : Env} {s : State} {m : MethodId} {args : Array Value} {below : List Frame} {meth : Method} {c : Code} {D : va_G} {ad : Nat → Nat} {b : Nat} {bo : Nat} {bt : Nat} {ca : Nat → ClassId} {A : Nat → Prop} {Z : State → Prop} (C : cx cX0_whoIn 5 (some .int) RX0 D vwCl (tyL ca) A p c meth s m args) {kept : Int32} {locks : Int32} {seenMany : Int32} {bumpMinute : Int32} {bumpBlock : Int32} {bumpTrains : Int32} {waited : Int32} {keptOut : Int32} {used : Int32} {taped : Int32} {fault : Int32} {costSum : Int64} {safeSum : Int64} {allWays : Int64} {torn : Int32} {whr : Nat → Int32} {homes : Nat → Int32} {isSeen : Nat → Int32} {leftA : Nat → Int32} {were : Nat → Int32} {lockA : Nat → Int32} {b_blocks : Int32} {b_guarded : Int32} {b_trains : Int32} {b_omen : Nat → Int32} {b_train : Nat → Int32} {x2 : Int32} {x3 : Int32} {k29 : Int32 → Prop} {k38 : Prop} (hk29 : ∀ (x4 : Int32), k29 x4 → ∀ (ls : Array Slot) (H : Heap) (locs : List Loc), lv_has ls 5 [(4, .int x4)] → va_P D vwCl (rW ad b bo bt ca kept locks seenMany bumpMinute bumpBlock bumpTrains waited keptOut used taped fault costSum safeSum allWays torn whr homes isSeen leftA were lockA b_blocks b_guarded b_trains b_omen b_train) H → va_D A (rW ad b bo bt ca kept locks seenMany bumpMinute bumpBlock bumpTrains waited keptOut used taped fault costSum safeSum allWays torn whr homes isSeen leftA were lockA b_blocks b_guarded b_trains b_omen b_train) → va_S A s.heap H locs → W p l e rm_C_whoIn s m args below meth c H locs 0 0 Z (F0 m 29 ls [])) (hk38 : k38 → ∀ (ls : Array Slot) (H : Heap) (locs : List Loc), lv_has ls 5 [] → va_P D vwCl (rW ad b bo bt ca kept locks seenMany bumpMinute bumpBlock bumpTrains waited keptOut used taped fault costSum safeSum allWays torn whr homes isSeen leftA were lockA b_blocks b_guarded b_trains b_omen b_train) H → va_D A (rW ad b bo bt ca kept locks seenMany bumpMinute bumpBlock bumpTrains waited keptOut used taped fault costSum safeSum allWays torn whr homes isSeen leftA were lockA b_blocks b_guarded b_trains b_omen b_train) → va_S A s.heap H locs → W p l e rm_C_whoIn s m args below meth c H locs 0 0 Z (F0 m 38 ls [])) : ∀ (n : Nat) (x4 : Int32), C_whoIn_L3 whr b_trains x2 x3 k29 k38 n x4 → ∀ (ls : Array Slot) (H : Heap) (locs : List Loc), lv_has ls 5 [(0, .ref (ad 0)), (1, .ref b), (2, .int x2), (3, .int x3), (4, .int x4)] → va_P D vwCl (rW ad b bo bt ca kept locks seenMany bumpMinute bumpBlock bumpTrains waited keptOut used taped fault costSum safeSum allWays torn whr homes isSeen leftA were lockA b_blocks b_guarded b_trains b_omen b_train) H → va_D A (rW ad b bo bt ca kept locks seenMany bumpMinute bumpBlock bumpTrains waited keptOut used taped fault costSum safeSum allWays torn whr homes isSeen leftA were lockA b_blocks b_guarded b_trains b_omen b_train) → va_S A s.heap H locs → W p l e rm_C_whoIn s m args below meth c H locs 0 0 Z (F0 m 3 ls []) := by
  have hx := C.1; have hb := C.2.1; have hr := C.2.2.1; have hlocks := C.2.2.2.1; have hml := C.2.2.2.2.1; have hown := C.2.2.2.2.2.1; have hts := C.2.2.2.2.2.2.1; have hn := C.2.2.2.2.2.2.2.1; have hK := C.2.2.2.2.2.2.2.2.1; have hA := C.2.2.2.2.2.2.2.2.2
  intro n
  induction n with
  | zero =>
    intro x4 G
    exact False.elim G
  | succ n ih =>
    intro x4 G ls H locs hl hP hD hS
    unfold C_whoIn_L3 at G
    have hk3 := ih
    refine lv_iload hx hb dX0_whoIn_3 (lv_at hl 4 rfl) ?_
    refine lv_aload_n hx hb dX0_whoIn_5 rfl (lv_at hl 1 rfl) ?_
    refine va_getN hx hb hts in_X5 hown hK hP 12 rfl rfl 3 (by decide) (va_Nw.use rfl (hn _ q146 rfl)) (fun _ h => h) rfl dX0_whoIn_6 ?_
    refine lv_icmp_ge (tgt := 38) hx hb dX0_whoIn_9 (by decide) (fun c_1 => ?_) (fun c_1 => ?_)
    · have G := G.1 c_1
      exact hk38  G _ _ _ (lv_sub hl [] rfl) hP hD hS
    · have G := G.2 c_1
      refine lv_iload hx hb dX0_whoIn_12 (lv_at hl 4 rfl) ?_
      refine lv_iload_n hx hb dX0_whoIn_14 rfl (lv_at hl 3 rfl) ?_
      refine lv_icmp_eq (tgt := 32) hx hb dX0_whoIn_15 (by decide) (fun c_2 => ?_) (fun c_2 => ?_)
      · have G := G.1 c_2
        exact w_C_whoIn_J32 C hk3 hk29 hk38 G (lv_sub hl [0, 1, 2, 3, 4] rfl) hP hD hS
      · have G := G.2 c_2
        refine lv_aload_n hx hb dX0_whoIn_18 rfl (lv_at hl 0 rfl) ?_
        refine va_get hx hb hts in_X0 hown hK hP 0 rfl rfl 9 (by decide) (hts _ q186) (fun _ h => h) rfl dX0_whoIn_19 ?_
        refine lv_iload hx hb dX0_whoIn_22 (lv_at hl 4 rfl) ?_
        obtain ⟨h_3, G⟩ := G
        refine va_iald hx hb hK hP 6 0 rfl rfl h_3 dX0_whoIn_24 ?_
        refine lv_iload_n hx hb dX0_whoIn_25 rfl (lv_at hl 2 rfl) ?_
        refine lv_icmp_ne (tgt := 32) hx hb dX0_whoIn_26 (by decide) (fun c_4 => ?_) (fun c_4 => ?_)
        · have G := G.2 c_4
          exact w_C_whoIn_J32 C hk3 hk29 hk38 G (lv_sub hl [0, 1, 2, 3, 4] rfl) hP hD hS
        · have G := G.1 c_4
          exact hk29 _ G _ _ _ (lv_sub hl [4] rfl) hP hD hS
set_option maxHeartbeats 4000000 in
theorem met_C_whoIn (l : Launch) (D : va_G) (ad : Nat → Nat) (b : Nat) (bo : Nat) (bt : Nat) (ca : Nat → ClassId) (sz : Nat) (kept : Int32) (locks : Int32) (seenMany : Int32) (bumpMinute : Int32) (bumpBlock : Int32) (bumpTrains : Int32) (waited : Int32) (keptOut : Int32) (used : Int32) (taped : Int32) (fault : Int32) (costSum : Int64) (safeSum : Int64) (allWays : Int64) (torn : Int32) (whr : Nat → Int32) (homes : Nat → Int32) (isSeen : Nat → Int32) (leftA : Nat → Int32) (were : Nat → Int32) (lockA : Nat → Int32) (b_blocks : Int32) (b_guarded : Int32) (b_trains : Int32) (b_omen : Nat → Int32) (b_train : Nat → Int32) (x2 : Int32) (x3 : Int32) (Q : Int32 → Prop) (G : C_whoIn whr b_trains x2 x3 Q) : Met l yX0_whoIn (ws_ yX0_whoIn cX0_whoIn 5 (some .int)) rm_C_whoIn (va_Pc [.ref (ad 0), .ref b, .int x2, .int x3] (wpre D vwCl (tyL ca) (rW ad b bo bt ca kept locks seenMany bumpMinute bumpBlock bumpTrains waited keptOut used taped fault costSum safeSum allWays torn whr homes isSeen leftA were lockA b_blocks b_guarded b_trains b_omen b_train) sz)) (va_Qi (fun (r : Int32) (u : Unit) => Q r) (wpost D vwCl (va_A (rW ad b bo bt ca kept locks seenMany bumpMinute bumpBlock bumpTrains waited keptOut used taped fault costSum safeSum allWays torn whr homes isSeen leftA were lockA b_blocks b_guarded b_trains b_omen b_train) sz) (fun (u : Unit) => (rW ad b bo bt ca kept locks seenMany bumpMinute bumpBlock bumpTrains waited keptOut used taped fault costSum safeSum allWays torn whr homes isSeen leftA were lockA b_blocks b_guarded b_trains b_omen b_train))) (va_A (rW ad b bo bt ca kept locks seenMany bumpMinute bumpBlock bumpTrains waited keptOut used taped fault costSum safeSum allWays torn whr homes isSeen leftA were lockA b_blocks b_guarded b_trains b_omen b_train) sz)) 0 0 (va_A (rW ad b bo bt ca kept locks seenMany bumpMinute bumpBlock bumpTrains waited keptOut used taped fault costSum safeSum allWays torn whr homes isSeen leftA were lockA b_blocks b_guarded b_trains b_omen b_train) sz) := by
  refine met_of (fun A => (va_Qi (fun (r : Int32) (u : Unit) => Q r) (wpost D vwCl A (fun (u : Unit) => (rW ad b bo bt ca kept locks seenMany bumpMinute bumpBlock bumpTrains waited keptOut used taped fault costSum safeSum allWays torn whr homes isSeen leftA were lockA b_blocks b_guarded b_trains b_omen b_train))) A)) (by decide) (Nat.le_of_ble_eq_true rfl) ?_
  intro p e s m args below meth c Z A hZ C H locs hP hD hS ls hl
  have hx := C.1; have hb := C.2.1; have hr := C.2.2.1; have hlocks := C.2.2.2.1; have hml := C.2.2.2.2.1; have hown := C.2.2.2.2.2.1; have hts := C.2.2.2.2.2.2.1; have hn := C.2.2.2.2.2.2.2.1; have hK := C.2.2.2.2.2.2.2.2.1; have hA := C.2.2.2.2.2.2.2.2.2
  have hl : lv_has ls 5 [(0, .ref (ad 0)), (1, .ref b), (2, .int x2), (3, .int x3)] := hl
  unfold C_whoIn at G
  refine lv_iconst (v := 0) hx hb dX0_whoIn_0 (by decide) ?_
  refine lv_istore (lv' := [(4, .int (0 : Int32)), (0, .ref (ad 0)), (1, .ref b), (2, .int x2), (3, .int x3)]) hx hb dX0_whoIn_1 hl (by decide) rfl (fun ls hl => ?_)
  obtain ⟨n_5, G⟩ := G
  refine w_C_whoIn_L3 C (fun x4_6 G ls H locs hl hP hD hS => ?_) (fun  G ls H locs hl hP hD hS => ?_) n_5 _ G _ _ _ (lv_sub hl [1, 2, 3, 4, 0] rfl) hP hD hS
  · refine lv_iload hx hb dX0_whoIn_29 (lv_at hl 0 rfl) ?_
    rw [hZ]
    exact W.iret hx hb hr (fun t ht hW => ⟨⟨x4_6, (), rfl, G, by rw [ht]; exact hP, hD⟩, hS.F ht⟩) hS.2.2 dX0_whoIn_31 hlocks
  · refine lv_bipush (v := -4) hx hb dX0_whoIn_38 (by decide) ?_
    rw [hZ]
    exact W.iret hx hb hr (fun t ht hW => ⟨⟨(-4 : Int32), (), rfl, G, by rw [ht]; exact hP, hD⟩, hS.F ht⟩) hS.2.2 dX0_whoIn_40 hlocks
abbrev rm_C_enters : Room := { frames := 2, cells := 0, slots := 0, locals := 24 }
set_option maxHeartbeats 4000000 in
theorem met_C_enters (l : Launch) (D : va_G) (ad : Nat → Nat) (b : Nat) (bo : Nat) (bt : Nat) (ca : Nat → ClassId) (sz : Nat) (kept : Int32) (locks : Int32) (seenMany : Int32) (bumpMinute : Int32) (bumpBlock : Int32) (bumpTrains : Int32) (waited : Int32) (keptOut : Int32) (used : Int32) (taped : Int32) (fault : Int32) (costSum : Int64) (safeSum : Int64) (allWays : Int64) (torn : Int32) (whr : Nat → Int32) (homes : Nat → Int32) (isSeen : Nat → Int32) (leftA : Nat → Int32) (were : Nat → Int32) (lockA : Nat → Int32) (b_blocks : Int32) (b_guarded : Int32) (b_trains : Int32) (b_omen : Nat → Int32) (b_train : Nat → Int32) (x2 : Int32) (x3 : Int32) (x4 : Int32) (Q : Int32 → Int32 → Int32 → Int32 → Int32 → (Nat → Int32) → (Nat → Int32) → Prop) (G : C_enters bumpMinute bumpBlock bumpTrains keptOut used whr isSeen b_guarded b_trains x2 x3 x4 Q) : Met l yX0_enters (ws_ yX0_enters cX0_enters 6 none) rm_C_enters (va_Pc [.ref (ad 0), .ref b, .int x2, .int x3, .int x4] (wpre D vwCl (tyL ca) (rW ad b bo bt ca kept locks seenMany bumpMinute bumpBlock bumpTrains waited keptOut used taped fault costSum safeSum allWays torn whr homes isSeen leftA were lockA b_blocks b_guarded b_trains b_omen b_train) sz)) (va_Qv (fun (u : Int32 × Int32 × Int32 × Int32 × Int32 × (Nat → Int32) × (Nat → Int32)) => Q u.1 u.2.1 u.2.2.1 u.2.2.2.1 u.2.2.2.2.1 u.2.2.2.2.2.1 u.2.2.2.2.2.2) (wpost D vwCl (va_A (rW ad b bo bt ca kept locks seenMany bumpMinute bumpBlock bumpTrains waited keptOut used taped fault costSum safeSum allWays torn whr homes isSeen leftA were lockA b_blocks b_guarded b_trains b_omen b_train) sz) (fun (u : Int32 × Int32 × Int32 × Int32 × Int32 × (Nat → Int32) × (Nat → Int32)) => (rW ad b bo bt ca kept locks seenMany u.1 u.2.1 u.2.2.1 waited u.2.2.2.1 u.2.2.2.2.1 taped fault costSum safeSum allWays torn u.2.2.2.2.2.1 homes u.2.2.2.2.2.2 leftA were lockA b_blocks b_guarded b_trains b_omen b_train))) (va_A (rW ad b bo bt ca kept locks seenMany bumpMinute bumpBlock bumpTrains waited keptOut used taped fault costSum safeSum allWays torn whr homes isSeen leftA were lockA b_blocks b_guarded b_trains b_omen b_train) sz)) 0 0 (va_A (rW ad b bo bt ca kept locks seenMany bumpMinute bumpBlock bumpTrains waited keptOut used taped fault costSum safeSum allWays torn whr homes isSeen leftA were lockA b_blocks b_guarded b_trains b_omen b_train) sz) := by
  refine met_of (fun A => (va_Qv (fun (u : Int32 × Int32 × Int32 × Int32 × Int32 × (Nat → Int32) × (Nat → Int32)) => Q u.1 u.2.1 u.2.2.1 u.2.2.2.1 u.2.2.2.2.1 u.2.2.2.2.2.1 u.2.2.2.2.2.2) (wpost D vwCl A (fun (u : Int32 × Int32 × Int32 × Int32 × Int32 × (Nat → Int32) × (Nat → Int32)) => (rW ad b bo bt ca kept locks seenMany u.1 u.2.1 u.2.2.1 waited u.2.2.2.1 u.2.2.2.2.1 taped fault costSum safeSum allWays torn u.2.2.2.2.2.1 homes u.2.2.2.2.2.2 leftA were lockA b_blocks b_guarded b_trains b_omen b_train))) A)) (by decide) (Nat.le_of_ble_eq_true rfl) ?_
  intro p e s m args below meth c Z A hZ C H locs hP hD hS ls hl
  have hx := C.1; have hb := C.2.1; have hr := C.2.2.1; have hlocks := C.2.2.2.1; have hml := C.2.2.2.2.1; have hown := C.2.2.2.2.2.1; have hts := C.2.2.2.2.2.2.1; have hn := C.2.2.2.2.2.2.2.1; have hK := C.2.2.2.2.2.2.2.2.1; have hA := C.2.2.2.2.2.2.2.2.2
  have hl : lv_has ls 6 [(0, .ref (ad 0)), (1, .ref b), (2, .int x2), (3, .int x3), (4, .int x4)] := hl
  unfold C_enters at G
  refine lv_aload_n hx hb dX0_enters_0 rfl (lv_at hl 0 rfl) ?_
  refine lv_aload_n hx hb dX0_enters_1 rfl (lv_at hl 1 rfl) ?_
  refine lv_iload_n hx hb dX0_enters_2 rfl (lv_at hl 3 rfl) ?_
  refine lv_iload_n hx hb dX0_enters_3 rfl (lv_at hl 2 rfl) ?_
  refine wc_Vik (As := [.ref b, .int x3, .int x2]) (rest := []) C (met_C_whoIn l D ad b bo bt ca H.size kept locks seenMany bumpMinute bumpBlock bumpTrains waited keptOut used taped fault costSum safeSum allWays torn whr homes isSeen leftA were lockA b_blocks b_guarded b_trains b_omen b_train x3 x2 _ G) (cwV 3 hts (lw_V q670 q672 qs26 q68 q673) rfl rfl rfl (by decide +kernel) ⟨Nat.le_of_ble_eq_true rfl, Nat.le_of_ble_eq_true rfl⟩) hP hD hS (List.range _) (wc_self _) (wc_nd _) 0 rfl rfl rfl rfl hl.1 (Nat.le_of_ble_eq_true rfl) dX0_enters_4 ⟨Nat.le_of_ble_eq_true rfl, Nat.le_of_ble_eq_true rfl⟩ (fun r_1 u H locs G hP hD hS => ?_)
  refine lv_istore (lv' := [(5, .int r_1), (0, .ref (ad 0)), (1, .ref b), (2, .int x2), (3, .int x3), (4, .int x4)]) hx hb dX0_enters_7 hl (by decide) rfl (fun ls hl => ?_)
  refine lv_iload hx hb dX0_enters_9 (lv_at hl 0 rfl) ?_
  refine lv_bipush (v := -4) hx hb dX0_enters_11 (by decide) ?_
  refine lv_icmp_ne (tgt := 45) hx hb dX0_enters_13 (by decide) (fun c_2 => ?_) (fun c_2 => ?_)
  · have G := G.2 c_2
    refine lv_aload_n hx hb dX0_enters_45 rfl (lv_at hl 2 rfl) ?_
    refine va_getN hx hb hts in_X5 hown hK hP 12 rfl rfl 2 (by decide) (va_Nw.use rfl (hn _ q143 rfl)) (fun _ h => h) rfl dX0_enters_46 ?_
    refine lv_iload_n hx hb dX0_enters_49 rfl (lv_at hl 4 rfl) ?_
    refine wc_Sik (As := [.int b_guarded, .int x3]) (rest := []) C (met_C_has l D ca H.size b_guarded x3) (va_cwS 2 hts (lw_S q639 q537 q68 q538) rfl rfl rfl (by decide +kernel) ⟨Nat.le_of_ble_eq_true rfl, Nat.le_of_ble_eq_true rfl⟩) hP hD hS [] rfl (by decide) rfl rfl hl.1 (Nat.le_of_ble_eq_true rfl) dX0_enters_50 ⟨Nat.le_of_ble_eq_true rfl, Nat.le_of_ble_eq_true rfl⟩ (fun r_3 u H locs hr hP hD hS => ?_)
    subst hr
    refine lv_if_eq (tgt := 69) hx hb dX0_enters_53 (by decide) (fun c_4 => ?_) (fun c_4 => ?_)
    · have G := G.1 c_4
      refine lv_aload_n hx hb dX0_enters_69 rfl (lv_at hl 1 rfl) ?_
      refine lv_iload hx hb dX0_enters_70 (lv_at hl 5 rfl) ?_
      refine va_put hx hb hts in_X0 tyX0 tyX0_ok nmX0 hown hK hP hD hS 0 rfl rfl 14 (by decide) (hts _ q191) (fun _ h => h) rfl (tyX0_ok 14 (by decide)) rfl rfl (Nat.le_of_ble_eq_true rfl) dX0_enters_72 (fun H locs hP hD hS => ?_)
      have hP : va_P D vwCl (rW ad b bo bt ca kept locks seenMany x4 bumpBlock bumpTrains waited keptOut used taped fault costSum safeSum allWays torn whr homes isSeen leftA were lockA b_blocks b_guarded b_trains b_omen b_train) H := hP
      have hD : va_D A (rW ad b bo bt ca kept locks seenMany x4 bumpBlock bumpTrains waited keptOut used taped fault costSum safeSum allWays torn whr homes isSeen leftA were lockA b_blocks b_guarded b_trains b_omen b_train) := hD
      refine lv_aload_n hx hb dX0_enters_75 rfl (lv_at hl 1 rfl) ?_
      refine lv_iload_n hx hb dX0_enters_76 rfl (lv_at hl 4 rfl) ?_
      refine va_put hx hb hts in_X0 tyX0 tyX0_ok nmX0 hown hK hP hD hS 0 rfl rfl 15 (by decide) (hts _ q192) (fun _ h => h) rfl (tyX0_ok 15 (by decide)) rfl rfl (Nat.le_of_ble_eq_true rfl) dX0_enters_77 (fun H locs hP hD hS => ?_)
      have hP : va_P D vwCl (rW ad b bo bt ca kept locks seenMany x4 x3 bumpTrains waited keptOut used taped fault costSum safeSum allWays torn whr homes isSeen leftA were lockA b_blocks b_guarded b_trains b_omen b_train) H := hP
      have hD : va_D A (rW ad b bo bt ca kept locks seenMany x4 x3 bumpTrains waited keptOut used taped fault costSum safeSum allWays torn whr homes isSeen leftA were lockA b_blocks b_guarded b_trains b_omen b_train) := hD
      refine lv_aload_n hx hb dX0_enters_80 rfl (lv_at hl 1 rfl) ?_
      refine lv_bipush (v := 10) hx hb dX0_enters_81 (by decide) ?_
      refine lv_iload_n hx hb dX0_enters_83 rfl (lv_at hl 3 rfl) ?_
      refine lv_imul hx hb dX0_enters_84 ?_
      refine lv_iload hx hb dX0_enters_85 (lv_at hl 0 rfl) ?_
      refine lv_iadd hx hb dX0_enters_87 ?_
      refine va_put hx hb hts in_X0 tyX0 tyX0_ok nmX0 hown hK hP hD hS 0 rfl rfl 16 (by decide) (hts _ q193) (fun _ h => h) rfl (tyX0_ok 16 (by decide)) rfl rfl (Nat.le_of_ble_eq_true rfl) dX0_enters_88 (fun H locs hP hD hS => ?_)
      have hP : va_P D vwCl (rW ad b bo bt ca kept locks seenMany x4 x3 (((10 : Int32) * x2) + r_1) waited keptOut used taped fault costSum safeSum allWays torn whr homes isSeen leftA were lockA b_blocks b_guarded b_trains b_omen b_train) H := hP
      have hD : va_D A (rW ad b bo bt ca kept locks seenMany x4 x3 (((10 : Int32) * x2) + r_1) waited keptOut used taped fault costSum safeSum allWays torn whr homes isSeen leftA were lockA b_blocks b_guarded b_trains b_omen b_train) := hD
      rw [hZ]
      exact W.vret hx hb hr (fun t ht hW => ⟨⟨(x4, x3, (((10 : Int32) * x2) + r_1), keptOut, used, whr, isSeen), rfl, G, by rw [ht]; exact hP, hD⟩, hS.F ht⟩) hS.2.2 dX0_enters_91 hlocks
    · have G := G.2 c_4
      refine lv_aload_n hx hb dX0_enters_56 rfl (lv_at hl 1 rfl) ?_
      refine lv_dup hx hb dX0_enters_57 rfl ?_
      refine va_get hx hb hts in_X0 hown hK hP 0 rfl rfl 18 (by decide) (hts _ q195) (fun _ h => h) rfl dX0_enters_58 ?_
      refine lv_iconst (v := 1) hx hb dX0_enters_61 (by decide) ?_
      refine lv_iadd hx hb dX0_enters_62 ?_
      refine va_put hx hb hts in_X0 tyX0 tyX0_ok nmX0 hown hK hP hD hS 0 rfl rfl 18 (by decide) (hts _ q195) (fun _ h => h) rfl (tyX0_ok 18 (by decide)) rfl rfl (Nat.le_of_ble_eq_true rfl) dX0_enters_63 (fun H locs hP hD hS => ?_)
      have hP : va_P D vwCl (rW ad b bo bt ca kept locks seenMany bumpMinute bumpBlock bumpTrains waited (keptOut + (1 : Int32)) used taped fault costSum safeSum allWays torn whr homes isSeen leftA were lockA b_blocks b_guarded b_trains b_omen b_train) H := hP
      have hD : va_D A (rW ad b bo bt ca kept locks seenMany bumpMinute bumpBlock bumpTrains waited (keptOut + (1 : Int32)) used taped fault costSum safeSum allWays torn whr homes isSeen leftA were lockA b_blocks b_guarded b_trains b_omen b_train) := hD
      refine lv_goto (tgt := 91) hx hb dX0_enters_66 (by decide) ?_
      rw [hZ]
      exact W.vret hx hb hr (fun t ht hW => ⟨⟨(bumpMinute, bumpBlock, bumpTrains, (keptOut + (1 : Int32)), used, whr, isSeen), rfl, G, by rw [ht]; exact hP, hD⟩, hS.F ht⟩) hS.2.2 dX0_enters_91 hlocks
  · have G := G.1 c_2
    refine lv_aload_n hx hb dX0_enters_16 rfl (lv_at hl 1 rfl) ?_
    refine va_get hx hb hts in_X0 hown hK hP 0 rfl rfl 9 (by decide) (hts _ q186) (fun _ h => h) rfl dX0_enters_17 ?_
    refine lv_iload_n hx hb dX0_enters_20 rfl (lv_at hl 3 rfl) ?_
    refine lv_iload_n hx hb dX0_enters_21 rfl (lv_at hl 4 rfl) ?_
    obtain ⟨h_5, G⟩ := G
    refine va_iast hx hb hK hP hD hS 6 0 rfl rfl h_5 dX0_enters_22 (fun H locs hP hD hS => ?_)
    have hP : va_P D vwCl (rW ad b bo bt ca kept locks seenMany bumpMinute bumpBlock bumpTrains waited keptOut used taped fault costSum safeSum allWays torn (upd whr x2.toNatClampNeg x3) homes isSeen leftA were lockA b_blocks b_guarded b_trains b_omen b_train) H := hP
    have hD : va_D A (rW ad b bo bt ca kept locks seenMany bumpMinute bumpBlock bumpTrains waited keptOut used taped fault costSum safeSum allWays torn (upd whr x2.toNatClampNeg x3) homes isSeen leftA were lockA b_blocks b_guarded b_trains b_omen b_train) := hD
    refine lv_aload_n hx hb dX0_enters_23 rfl (lv_at hl 1 rfl) ?_
    refine va_get hx hb hts in_X0 hown hK hP 0 rfl rfl 11 (by decide) (hts _ q188) (fun _ h => h) rfl dX0_enters_24 ?_
    refine lv_iload_n hx hb dX0_enters_27 rfl (lv_at hl 3 rfl) ?_
    refine lv_iconst (v := 0) hx hb dX0_enters_28 (by decide) ?_
    obtain ⟨h_6, G⟩ := G
    refine va_zast hx hb hK hP hD hS 8 1 rfl rfl h_6 dX0_enters_29 (fun H locs hP hD hS => ?_)
    have hP : va_P D vwCl (rW ad b bo bt ca kept locks seenMany bumpMinute bumpBlock bumpTrains waited keptOut used taped fault costSum safeSum allWays torn (upd whr x2.toNatClampNeg x3) homes (upd isSeen x2.toNatClampNeg (vp_nar .boolean (0 : Int32))) leftA were lockA b_blocks b_guarded b_trains b_omen b_train) H := hP
    have hD : va_D A (rW ad b bo bt ca kept locks seenMany bumpMinute bumpBlock bumpTrains waited keptOut used taped fault costSum safeSum allWays torn (upd whr x2.toNatClampNeg x3) homes (upd isSeen x2.toNatClampNeg (vp_nar .boolean (0 : Int32))) leftA were lockA b_blocks b_guarded b_trains b_omen b_train) := hD
    refine lv_aload_n hx hb dX0_enters_30 rfl (lv_at hl 1 rfl) ?_
    refine lv_dup hx hb dX0_enters_31 rfl ?_
    refine va_get hx hb hts in_X0 hown hK hP 0 rfl rfl 19 (by decide) (hts _ q196) (fun _ h => h) rfl dX0_enters_32 ?_
    refine lv_iconst (v := 1) hx hb dX0_enters_35 (by decide) ?_
    refine lv_iload_n hx hb dX0_enters_36 rfl (lv_at hl 4 rfl) ?_
    refine lv_ishl hx hb dX0_enters_37 ?_
    refine lv_ior hx hb dX0_enters_38 ?_
    refine va_put hx hb hts in_X0 tyX0 tyX0_ok nmX0 hown hK hP hD hS 0 rfl rfl 19 (by decide) (hts _ q196) (fun _ h => h) rfl (tyX0_ok 19 (by decide)) rfl rfl (Nat.le_of_ble_eq_true rfl) dX0_enters_39 (fun H locs hP hD hS => ?_)
    have hP : va_P D vwCl (rW ad b bo bt ca kept locks seenMany bumpMinute bumpBlock bumpTrains waited keptOut (used ||| ((1 : Int32) <<< (x3 &&& 31))) taped fault costSum safeSum allWays torn (upd whr x2.toNatClampNeg x3) homes (upd isSeen x2.toNatClampNeg (vp_nar .boolean (0 : Int32))) leftA were lockA b_blocks b_guarded b_trains b_omen b_train) H := hP
    have hD : va_D A (rW ad b bo bt ca kept locks seenMany bumpMinute bumpBlock bumpTrains waited keptOut (used ||| ((1 : Int32) <<< (x3 &&& 31))) taped fault costSum safeSum allWays torn (upd whr x2.toNatClampNeg x3) homes (upd isSeen x2.toNatClampNeg (vp_nar .boolean (0 : Int32))) leftA were lockA b_blocks b_guarded b_trains b_omen b_train) := hD
    refine lv_goto (tgt := 91) hx hb dX0_enters_42 (by decide) ?_
    rw [hZ]
    exact W.vret hx hb hr (fun t ht hW => ⟨⟨(bumpMinute, bumpBlock, bumpTrains, keptOut, (used ||| ((1 : Int32) <<< (x3 &&& 31))), (upd whr x2.toNatClampNeg x3), (upd isSeen x2.toNatClampNeg (vp_nar .boolean (0 : Int32)))), rfl, G, by rw [ht]; exact hP, hD⟩, hS.F ht⟩) hS.2.2 dX0_enters_91 hlocks
abbrev rm_C_steps : Room := { frames := 5, cells := 0, slots := 0, locals := 120 }
set_option maxHeartbeats 4000000 in
theorem w_C_steps_J79 {p : Program} {l : Launch} {e : Env} {s : State} {m : MethodId} {args : Array Value} {below : List Frame} {meth : Method} {c : Code} {D : va_G} {ad : Nat → Nat} {b : Nat} {bo : Nat} {bt : Nat} {ca : Nat → ClassId} {A : Nat → Prop} {Z : State → Prop} (C : cx cX0_steps 5 none RX0 D vwCl (tyL ca) A p c meth s m args) {kept : Int32} {locks : Int32} {seenMany : Int32} {bumpMinute : Int32} {bumpBlock : Int32} {bumpTrains : Int32} {waited : Int32} {keptOut : Int32} {used : Int32} {taped : Int32} {fault : Int32} {costSum : Int64} {safeSum : Int64} {allWays : Int64} {torn : Int32} {whr : Nat → Int32} {homes : Nat → Int32} {isSeen : Nat → Int32} {leftA : Nat → Int32} {were : Nat → Int32} {lockA : Nat → Int32} {b_blocks : Int32} {b_guarded : Int32} {b_trains : Int32} {b_omen : Nat → Int32} {b_train : Nat → Int32} {x2 : Int32} {x3 : Int32} {x4 : Int32}  {Q : Int32 → Int32 → Int32 → Int32 → Int32 → Int32 → (Nat → Int32) → (Nat → Int32) → (Nat → Int32) → (Nat → Int32) → Prop} (hZ : Z = MQ below (va_Qv (fun (u : Int32 × Int32 × Int32 × Int32 × Int32 × Int32 × (Nat → Int32) × (Nat → Int32) × (Nat → Int32) × (Nat → Int32)) => Q u.1 u.2.1 u.2.2.1 u.2.2.2.1 u.2.2.2.2.1 u.2.2.2.2.2.1 u.2.2.2.2.2.2.1 u.2.2.2.2.2.2.2.1 u.2.2.2.2.2.2.2.2.1 u.2.2.2.2.2.2.2.2.2) (wpost D vwCl A (fun (u : Int32 × Int32 × Int32 × Int32 × Int32 × Int32 × (Nat → Int32) × (Nat → Int32) × (Nat → Int32) × (Nat → Int32)) => (rW ad b bo bt ca kept locks seenMany u.1 u.2.1 u.2.2.1 u.2.2.2.1 u.2.2.2.2.1 u.2.2.2.2.2.1 taped fault costSum safeSum allWays torn u.2.2.2.2.2.2.1 u.2.2.2.2.2.2.2.1 u.2.2.2.2.2.2.2.2.1 u.2.2.2.2.2.2.2.2.2 were lockA b_blocks b_guarded b_trains b_omen b_train))) A) args s 0 0 A) (G : C_steps_J79 bumpMinute bumpBlock bumpTrains waited keptOut used whr homes isSeen leftA b_guarded b_trains x2 x3 x4 Q) {ls : Array Slot} {H : Heap} {locs : List Loc} (hl : lv_has ls 5 [(0, .ref (ad 0)), (1, .ref b), (2, .int x2), (3, .int x3), (4, .int x4)]) (hP : va_P D vwCl (rW ad b bo bt ca kept locks seenMany bumpMinute bumpBlock bumpTrains waited keptOut used taped fault costSum safeSum allWays torn whr homes isSeen leftA were lockA b_blocks b_guarded b_trains b_omen b_train) H) (hD : va_D A (rW ad b bo bt ca kept locks seenMany bumpMinute bumpBlock bumpTrains waited keptOut used taped fault costSum safeSum allWays torn whr homes isSeen leftA were lockA b_blocks b_guarded b_trains b_omen b_train)) (hS : va_S A s.heap H locs) : W p l e rm_C_steps s m args below meth c H locs 0 0 Z (F0 m 79 ls []) := by
  have hx := C.1; have hb := C.2.1; have hr := C.2.2.1; have hlocks := C.2.2.2.1; have hml := C.2.2.2.2.1; have hown := C.2.2.2.2.2.1; have hts := C.2.2.2.2.2.2.1; have hn := C.2.2.2.2.2.2.2.1; have hK := C.2.2.2.2.2.2.2.2.1; have hA := C.2.2.2.2.2.2.2.2.2
  unfold C_steps_J79 at G
  refine lv_aload_n hx hb dX0_steps_79 rfl (lv_at hl 0 rfl) ?_
  refine va_get hx hb hts in_X0 hown hK hP 0 rfl rfl 12 (by decide) (hts _ q189) (fun _ h => h) rfl dX0_steps_80 ?_
  refine lv_iload_n hx hb dX0_steps_83 rfl (lv_at hl 2 rfl) ?_
  obtain ⟨h_6, G⟩ := G
  refine va_iald hx hb hK hP 9 0 rfl rfl h_6 dX0_steps_84 ?_
  refine lv_if_le (tgt := 111) hx hb dX0_steps_85 (by decide) (fun c_7 => ?_) (fun c_7 => ?_)
  · have G := G.1 c_7
    refine lv_aload_n hx hb dX0_steps_111 rfl (lv_at hl 0 rfl) ?_
    refine lv_aload_n hx hb dX0_steps_112 rfl (lv_at hl 1 rfl) ?_
    refine lv_iload_n hx hb dX0_steps_113 rfl (lv_at hl 2 rfl) ?_
    refine lv_iload hx hb dX0_steps_114 (lv_at hl 4 rfl) ?_
    refine lv_iload_n hx hb dX0_steps_116 rfl (lv_at hl 3 rfl) ?_
    refine wc_Vv (As := [.ref b, .int x2, .int x4, .int x3]) (rest := []) C (met_C_enters l D ad b bo bt ca H.size kept locks seenMany bumpMinute bumpBlock bumpTrains waited keptOut used taped fault costSum safeSum allWays torn whr homes isSeen leftA were lockA b_blocks b_guarded b_trains b_omen b_train x2 x4 x3 _ G) (cwV 4 hts (lw_V q666 q668 qs25 q68 q669) rfl rfl rfl (by decide +kernel) ⟨Nat.le_of_ble_eq_true rfl, Nat.le_of_ble_eq_true rfl⟩) hP hD hS 0 rfl rfl rfl rfl hl.1 (Nat.le_of_ble_eq_true rfl) dX0_steps_117 ⟨Nat.le_of_ble_eq_true rfl, Nat.le_of_ble_eq_true rfl⟩ (fun u H locs G hP hD hS => ?_)
    obtain ⟨bumpMinute_9, bumpBlock_10, bumpTrains_11, keptOut_12, used_13, whr_14, isSeen_15⟩ := u
    have hP : va_P D vwCl (rW ad b bo bt ca kept locks seenMany bumpMinute_9 bumpBlock_10 bumpTrains_11 waited keptOut_12 used_13 taped fault costSum safeSum allWays torn whr_14 homes isSeen_15 leftA were lockA b_blocks b_guarded b_trains b_omen b_train) H := hP
    have hD : va_D A (rW ad b bo bt ca kept locks seenMany bumpMinute_9 bumpBlock_10 bumpTrains_11 waited keptOut_12 used_13 taped fault costSum safeSum allWays torn whr_14 homes isSeen_15 leftA were lockA b_blocks b_guarded b_trains b_omen b_train) := hD
    rw [hZ]
    exact W.vret hx hb hr (fun t ht hW => ⟨⟨(bumpMinute_9, bumpBlock_10, bumpTrains_11, waited, keptOut_12, used_13, whr_14, homes, isSeen_15, leftA), rfl, G, by rw [ht]; exact hP, hD⟩, hS.F ht⟩) hS.2.2 dX0_steps_120 hlocks
  · have G := G.2 c_7
    refine lv_aload_n hx hb dX0_steps_88 rfl (lv_at hl 0 rfl) ?_
    refine va_get hx hb hts in_X0 hown hK hP 0 rfl rfl 12 (by decide) (hts _ q189) (fun _ h => h) rfl dX0_steps_89 ?_
    refine lv_iload_n hx hb dX0_steps_92 rfl (lv_at hl 2 rfl) ?_
    refine lv_dup2_11 hx hb dX0_steps_93 rfl rfl ?_
    obtain ⟨h_16, G⟩ := G
    refine va_iald hx hb hK hP 9 0 rfl rfl h_16 dX0_steps_94 ?_
    refine lv_iconst (v := 1) hx hb dX0_steps_95 (by decide) ?_
    refine lv_isub hx hb dX0_steps_96 ?_
    obtain ⟨h_17, G⟩ := G
    refine va_iast hx hb hK hP hD hS 9 0 rfl rfl h_17 dX0_steps_97 (fun H locs hP hD hS => ?_)
    have hP : va_P D vwCl (rW ad b bo bt ca kept locks seenMany bumpMinute bumpBlock bumpTrains waited keptOut used taped fault costSum safeSum allWays torn whr homes isSeen (upd leftA x2.toNatClampNeg ((leftA x2.toNatClampNeg) - (1 : Int32))) were lockA b_blocks b_guarded b_trains b_omen b_train) H := hP
    have hD : va_D A (rW ad b bo bt ca kept locks seenMany bumpMinute bumpBlock bumpTrains waited keptOut used taped fault costSum safeSum allWays torn whr homes isSeen (upd leftA x2.toNatClampNeg ((leftA x2.toNatClampNeg) - (1 : Int32))) were lockA b_blocks b_guarded b_trains b_omen b_train) := hD
    refine lv_aload_n hx hb dX0_steps_98 rfl (lv_at hl 0 rfl) ?_
    refine lv_dup hx hb dX0_steps_99 rfl ?_
    refine va_get hx hb hts in_X0 hown hK hP 0 rfl rfl 17 (by decide) (hts _ q194) (fun _ h => h) rfl dX0_steps_100 ?_
    refine lv_iconst (v := 1) hx hb dX0_steps_103 (by decide) ?_
    refine lv_iadd hx hb dX0_steps_104 ?_
    refine va_put hx hb hts in_X0 tyX0 tyX0_ok nmX0 hown hK hP hD hS 0 rfl rfl 17 (by decide) (hts _ q194) (fun _ h => h) rfl (tyX0_ok 17 (by decide)) rfl rfl (Nat.le_of_ble_eq_true rfl) dX0_steps_105 (fun H locs hP hD hS => ?_)
    have hP : va_P D vwCl (rW ad b bo bt ca kept locks seenMany bumpMinute bumpBlock bumpTrains (waited + (1 : Int32)) keptOut used taped fault costSum safeSum allWays torn whr homes isSeen (upd leftA x2.toNatClampNeg ((leftA x2.toNatClampNeg) - (1 : Int32))) were lockA b_blocks b_guarded b_trains b_omen b_train) H := hP
    have hD : va_D A (rW ad b bo bt ca kept locks seenMany bumpMinute bumpBlock bumpTrains (waited + (1 : Int32)) keptOut used taped fault costSum safeSum allWays torn whr homes isSeen (upd leftA x2.toNatClampNeg ((leftA x2.toNatClampNeg) - (1 : Int32))) were lockA b_blocks b_guarded b_trains b_omen b_train) := hD
    refine lv_goto (tgt := 120) hx hb dX0_steps_108 (by decide) ?_
    rw [hZ]
    exact W.vret hx hb hr (fun t ht hW => ⟨⟨(bumpMinute, bumpBlock, bumpTrains, (waited + (1 : Int32)), keptOut, used, whr, homes, isSeen, (upd leftA x2.toNatClampNeg ((leftA x2.toNatClampNeg) - (1 : Int32)))), rfl, G, by rw [ht]; exact hP, hD⟩, hS.F ht⟩) hS.2.2 dX0_steps_120 hlocks
set_option maxHeartbeats 4000000 in
theorem met_C_steps (l : Launch) (D : va_G) (ad : Nat → Nat) (b : Nat) (bo : Nat) (bt : Nat) (ca : Nat → ClassId) (sz : Nat) (kept : Int32) (locks : Int32) (seenMany : Int32) (bumpMinute : Int32) (bumpBlock : Int32) (bumpTrains : Int32) (waited : Int32) (keptOut : Int32) (used : Int32) (taped : Int32) (fault : Int32) (costSum : Int64) (safeSum : Int64) (allWays : Int64) (torn : Int32) (whr : Nat → Int32) (homes : Nat → Int32) (isSeen : Nat → Int32) (leftA : Nat → Int32) (were : Nat → Int32) (lockA : Nat → Int32) (b_blocks : Int32) (b_guarded : Int32) (b_trains : Int32) (b_omen : Nat → Int32) (b_train : Nat → Int32) (x2 : Int32) (x3 : Int32) (Q : Int32 → Int32 → Int32 → Int32 → Int32 → Int32 → (Nat → Int32) → (Nat → Int32) → (Nat → Int32) → (Nat → Int32) → Prop) (G : C_steps bumpMinute bumpBlock bumpTrains waited keptOut used whr homes isSeen leftA b_blocks b_guarded b_trains b_omen b_train x2 x3 Q) : Met l yX0_steps (ws_ yX0_steps cX0_steps 5 none) rm_C_steps (va_Pc [.ref (ad 0), .ref b, .int x2, .int x3] (wpre D vwCl (tyL ca) (rW ad b bo bt ca kept locks seenMany bumpMinute bumpBlock bumpTrains waited keptOut used taped fault costSum safeSum allWays torn whr homes isSeen leftA were lockA b_blocks b_guarded b_trains b_omen b_train) sz)) (va_Qv (fun (u : Int32 × Int32 × Int32 × Int32 × Int32 × Int32 × (Nat → Int32) × (Nat → Int32) × (Nat → Int32) × (Nat → Int32)) => Q u.1 u.2.1 u.2.2.1 u.2.2.2.1 u.2.2.2.2.1 u.2.2.2.2.2.1 u.2.2.2.2.2.2.1 u.2.2.2.2.2.2.2.1 u.2.2.2.2.2.2.2.2.1 u.2.2.2.2.2.2.2.2.2) (wpost D vwCl (va_A (rW ad b bo bt ca kept locks seenMany bumpMinute bumpBlock bumpTrains waited keptOut used taped fault costSum safeSum allWays torn whr homes isSeen leftA were lockA b_blocks b_guarded b_trains b_omen b_train) sz) (fun (u : Int32 × Int32 × Int32 × Int32 × Int32 × Int32 × (Nat → Int32) × (Nat → Int32) × (Nat → Int32) × (Nat → Int32)) => (rW ad b bo bt ca kept locks seenMany u.1 u.2.1 u.2.2.1 u.2.2.2.1 u.2.2.2.2.1 u.2.2.2.2.2.1 taped fault costSum safeSum allWays torn u.2.2.2.2.2.2.1 u.2.2.2.2.2.2.2.1 u.2.2.2.2.2.2.2.2.1 u.2.2.2.2.2.2.2.2.2 were lockA b_blocks b_guarded b_trains b_omen b_train))) (va_A (rW ad b bo bt ca kept locks seenMany bumpMinute bumpBlock bumpTrains waited keptOut used taped fault costSum safeSum allWays torn whr homes isSeen leftA were lockA b_blocks b_guarded b_trains b_omen b_train) sz)) 0 0 (va_A (rW ad b bo bt ca kept locks seenMany bumpMinute bumpBlock bumpTrains waited keptOut used taped fault costSum safeSum allWays torn whr homes isSeen leftA were lockA b_blocks b_guarded b_trains b_omen b_train) sz) := by
  refine met_of (fun A => (va_Qv (fun (u : Int32 × Int32 × Int32 × Int32 × Int32 × Int32 × (Nat → Int32) × (Nat → Int32) × (Nat → Int32) × (Nat → Int32)) => Q u.1 u.2.1 u.2.2.1 u.2.2.2.1 u.2.2.2.2.1 u.2.2.2.2.2.1 u.2.2.2.2.2.2.1 u.2.2.2.2.2.2.2.1 u.2.2.2.2.2.2.2.2.1 u.2.2.2.2.2.2.2.2.2) (wpost D vwCl A (fun (u : Int32 × Int32 × Int32 × Int32 × Int32 × Int32 × (Nat → Int32) × (Nat → Int32) × (Nat → Int32) × (Nat → Int32)) => (rW ad b bo bt ca kept locks seenMany u.1 u.2.1 u.2.2.1 u.2.2.2.1 u.2.2.2.2.1 u.2.2.2.2.2.1 taped fault costSum safeSum allWays torn u.2.2.2.2.2.2.1 u.2.2.2.2.2.2.2.1 u.2.2.2.2.2.2.2.2.1 u.2.2.2.2.2.2.2.2.2 were lockA b_blocks b_guarded b_trains b_omen b_train))) A)) (by decide) (Nat.le_of_ble_eq_true rfl) ?_
  intro p e s m args below meth c Z A hZ C H locs hP hD hS ls hl
  have hx := C.1; have hb := C.2.1; have hr := C.2.2.1; have hlocks := C.2.2.2.1; have hml := C.2.2.2.2.1; have hown := C.2.2.2.2.2.1; have hts := C.2.2.2.2.2.2.1; have hn := C.2.2.2.2.2.2.2.1; have hK := C.2.2.2.2.2.2.2.2.1; have hA := C.2.2.2.2.2.2.2.2.2
  have hl : lv_has ls 5 [(0, .ref (ad 0)), (1, .ref b), (2, .int x2), (3, .int x3)] := hl
  unfold C_steps at G
  refine lv_aload_n hx hb dX0_steps_0 rfl (lv_at hl 1 rfl) ?_
  refine lv_iload_n hx hb dX0_steps_1 rfl (lv_at hl 2 rfl) ?_
  refine lv_aload_n hx hb dX0_steps_2 rfl (lv_at hl 0 rfl) ?_
  refine va_get hx hb hts in_X0 hown hK hP 0 rfl rfl 9 (by decide) (hts _ q186) (fun _ h => h) rfl dX0_steps_3 ?_
  refine lv_iload_n hx hb dX0_steps_6 rfl (lv_at hl 2 rfl) ?_
  obtain ⟨h_1, G⟩ := G
  refine va_iald hx hb hK hP 6 0 rfl rfl h_1 dX0_steps_7 ?_
  refine wc_Vik (As := [.int x2, .int (whr x2.toNatClampNeg)]) (rest := []) C (met_B_next l D b bo bt ca H.size b_blocks b_guarded b_trains b_omen b_train x2 (whr x2.toNatClampNeg) _ G) (cwV 2 hts (lw_V q661 q662 q663 q73 q664) rfl rfl rfl (by decide +kernel) ⟨Nat.le_of_ble_eq_true rfl, Nat.le_of_ble_eq_true rfl⟩) hP hD hS [12, 13, 14] rfl (by decide) 12 rfl rfl rfl rfl hl.1 (Nat.le_of_ble_eq_true rfl) dX0_steps_8 ⟨Nat.le_of_ble_eq_true rfl, Nat.le_of_ble_eq_true rfl⟩ (fun r_2 u H locs G hP hD hS => ?_)
  refine lv_istore (lv' := [(4, .int r_2), (0, .ref (ad 0)), (1, .ref b), (2, .int x2), (3, .int x3)]) hx hb dX0_steps_11 hl (by decide) rfl (fun ls hl => ?_)
  refine lv_iload hx hb dX0_steps_13 (lv_at hl 0 rfl) ?_
  refine lv_bipush (v := -4) hx hb dX0_steps_15 (by decide) ?_
  refine lv_icmp_ne (tgt := 36) hx hb dX0_steps_17 (by decide) (fun c_3 => ?_) (fun c_3 => ?_)
  · have G := G.2 c_3
    refine lv_aload_n hx hb dX0_steps_36 rfl (lv_at hl 1 rfl) ?_
    refine va_get hx hb hts in_X0 hown hK hP 0 rfl rfl 11 (by decide) (hts _ q188) (fun _ h => h) rfl dX0_steps_37 ?_
    refine lv_iload_n hx hb dX0_steps_40 rfl (lv_at hl 3 rfl) ?_
    obtain ⟨h_4, G⟩ := G
    refine va_zald hx hb hK hP 8 1 rfl rfl h_4 dX0_steps_41 ?_
    refine lv_if_ne (tgt := 79) hx hb dX0_steps_42 (by decide) (fun c_5 => ?_) (fun c_5 => ?_)
    · have G := G.2 c_5
      exact w_C_steps_J79 C hZ G (lv_sub hl [1, 2, 3, 4, 0] rfl) hP hD hS
    · have G := G.1 c_5
      refine lv_aload_n hx hb dX0_steps_45 rfl (lv_at hl 1 rfl) ?_
      refine va_get hx hb hts in_X0 hown hK hP 0 rfl rfl 11 (by decide) (hts _ q188) (fun _ h => h) rfl dX0_steps_46 ?_
      refine lv_iload_n hx hb dX0_steps_49 rfl (lv_at hl 3 rfl) ?_
      refine lv_iconst (v := 1) hx hb dX0_steps_50 (by decide) ?_
      obtain ⟨h_18, G⟩ := G
      refine va_zast hx hb hK hP hD hS 8 1 rfl rfl h_18 dX0_steps_51 (fun H locs hP hD hS => ?_)
      have hP : va_P D vwCl (rW ad b bo bt ca kept locks seenMany bumpMinute bumpBlock bumpTrains waited keptOut used taped fault costSum safeSum allWays torn whr homes (upd isSeen x2.toNatClampNeg (vp_nar .boolean (1 : Int32))) leftA were lockA b_blocks b_guarded b_trains b_omen b_train) H := hP
      have hD : va_D A (rW ad b bo bt ca kept locks seenMany bumpMinute bumpBlock bumpTrains waited keptOut used taped fault costSum safeSum allWays torn whr homes (upd isSeen x2.toNatClampNeg (vp_nar .boolean (1 : Int32))) leftA were lockA b_blocks b_guarded b_trains b_omen b_train) := hD
      refine lv_aload_n hx hb dX0_steps_52 rfl (lv_at hl 1 rfl) ?_
      refine va_get hx hb hts in_X0 hown hK hP 0 rfl rfl 12 (by decide) (hts _ q189) (fun _ h => h) rfl dX0_steps_53 ?_
      refine lv_iload_n hx hb dX0_steps_56 rfl (lv_at hl 3 rfl) ?_
      refine lv_aload_n hx hb dX0_steps_57 rfl (lv_at hl 1 rfl) ?_
      refine va_get hx hb hts in_X0 hown hK hP 0 rfl rfl 0 (by decide) (hts _ q177) (fun _ h => h) rfl dX0_steps_58 ?_
      refine lv_aload_n hx hb dX0_steps_61 rfl (lv_at hl 2 rfl) ?_
      refine lv_iload_n hx hb dX0_steps_62 rfl (lv_at hl 3 rfl) ?_
      refine lv_iconst (v := 0) hx hb dX0_steps_63 (by decide) ?_
      obtain ⟨h_19, G⟩ := G
      refine wc_Vik (As := [.int x2, .int (0 : Int32)]) (rest := [.ref (ad 1), .int x2, .ref (ad 24)]) C (met_B_of l D b bo bt ca H.size b_blocks b_guarded b_trains b_omen b_train x2 (0 : Int32) h_19) (cwV 2 hts (lw_V q600 q601 q602 q73 q603) rfl rfl rfl (by decide +kernel) ⟨Nat.le_of_ble_eq_true rfl, Nat.le_of_ble_eq_true rfl⟩) hP hD hS [12, 13, 14] rfl (by decide) 12 rfl rfl rfl rfl hl.1 (Nat.le_of_ble_eq_true rfl) dX0_steps_64 ⟨Nat.le_of_ble_eq_true rfl, Nat.le_of_ble_eq_true rfl⟩ (fun r_20 u H locs hr hP hD hS => ?_)
      subst hr
      obtain ⟨h_21, G⟩ := G
      refine wc_faithld hx hb hK hP 1 4 rfl rfl h_21 dX0_steps_67 ?_
      refine lv_aload_n hx hb dX0_steps_68 rfl (lv_at hl 2 rfl) ?_
      refine va_getN hx hb hts in_X5 hown hK hP 12 rfl rfl 1 (by decide) (va_Nw.use rfl (hn _ q140 rfl)) (fun _ h => h) rfl dX0_steps_69 ?_
      refine lv_iload hx hb dX0_steps_72 (lv_at hl 0 rfl) ?_
      obtain ⟨h_22, G⟩ := G
      refine va_bald hx hb hK hP 13 2 rfl rfl h_22 dX0_steps_74 ?_
      refine wc_faith (x := (b_omen r_2.toNatClampNeg)) (i := (B_of_e b_train x2 (0 : Int32))) (rest := [.int x2, .ref (ad 24)]) C hP hD hS 2 3 4 5 rfl rfl rfl rfl hl.1 (Nat.le_of_ble_eq_true rfl) dX0_steps_75 (Nat.le_of_ble_eq_true rfl) (Nat.le_of_ble_eq_true rfl) (Nat.zero_le _) (Nat.zero_le _) (fun H locs hP hD hS => ?_)
      obtain ⟨h_24, G⟩ := G
      refine va_iast hx hb hK hP hD hS 9 0 rfl rfl h_24 dX0_steps_78 (fun H locs hP hD hS => ?_)
      have hP : va_P D vwCl (rW ad b bo bt ca kept locks seenMany bumpMinute bumpBlock bumpTrains waited keptOut used taped fault costSum safeSum allWays torn whr homes (upd isSeen x2.toNatClampNeg (vp_nar .boolean (1 : Int32))) (upd leftA x2.toNatClampNeg (F_waits_e (B_of_e b_train x2 (0 : Int32)) (b_omen r_2.toNatClampNeg))) were lockA b_blocks b_guarded b_trains b_omen b_train) H := hP
      have hD : va_D A (rW ad b bo bt ca kept locks seenMany bumpMinute bumpBlock bumpTrains waited keptOut used taped fault costSum safeSum allWays torn whr homes (upd isSeen x2.toNatClampNeg (vp_nar .boolean (1 : Int32))) (upd leftA x2.toNatClampNeg (F_waits_e (B_of_e b_train x2 (0 : Int32)) (b_omen r_2.toNatClampNeg))) were lockA b_blocks b_guarded b_trains b_omen b_train) := hD
      exact w_C_steps_J79 C hZ G (lv_sub hl [1, 2, 3, 4, 0] rfl) hP hD hS
  · have G := G.1 c_3
    refine lv_aload_n hx hb dX0_steps_20 rfl (lv_at hl 1 rfl) ?_
    refine va_get hx hb hts in_X0 hown hK hP 0 rfl rfl 9 (by decide) (hts _ q186) (fun _ h => h) rfl dX0_steps_21 ?_
    refine lv_iload_n hx hb dX0_steps_24 rfl (lv_at hl 3 rfl) ?_
    refine lv_bipush (v := -4) hx hb dX0_steps_25 (by decide) ?_
    obtain ⟨h_25, G⟩ := G
    refine va_iast hx hb hK hP hD hS 6 0 rfl rfl h_25 dX0_steps_27 (fun H locs hP hD hS => ?_)
    have hP : va_P D vwCl (rW ad b bo bt ca kept locks seenMany bumpMinute bumpBlock bumpTrains waited keptOut used taped fault costSum safeSum allWays torn (upd whr x2.toNatClampNeg (-4 : Int32)) homes isSeen leftA were lockA b_blocks b_guarded b_trains b_omen b_train) H := hP
    have hD : va_D A (rW ad b bo bt ca kept locks seenMany bumpMinute bumpBlock bumpTrains waited keptOut used taped fault costSum safeSum allWays torn (upd whr x2.toNatClampNeg (-4 : Int32)) homes isSeen leftA were lockA b_blocks b_guarded b_trains b_omen b_train) := hD
    refine lv_aload_n hx hb dX0_steps_28 rfl (lv_at hl 1 rfl) ?_
    refine va_get hx hb hts in_X0 hown hK hP 0 rfl rfl 10 (by decide) (hts _ q187) (fun _ h => h) rfl dX0_steps_29 ?_
    refine lv_iload_n hx hb dX0_steps_32 rfl (lv_at hl 3 rfl) ?_
    refine lv_iload_n hx hb dX0_steps_33 rfl (lv_at hl 4 rfl) ?_
    obtain ⟨h_26, G⟩ := G
    refine va_iast hx hb hK hP hD hS 7 0 rfl rfl h_26 dX0_steps_34 (fun H locs hP hD hS => ?_)
    have hP : va_P D vwCl (rW ad b bo bt ca kept locks seenMany bumpMinute bumpBlock bumpTrains waited keptOut used taped fault costSum safeSum allWays torn (upd whr x2.toNatClampNeg (-4 : Int32)) (upd homes x2.toNatClampNeg x3) isSeen leftA were lockA b_blocks b_guarded b_trains b_omen b_train) H := hP
    have hD : va_D A (rW ad b bo bt ca kept locks seenMany bumpMinute bumpBlock bumpTrains waited keptOut used taped fault costSum safeSum allWays torn (upd whr x2.toNatClampNeg (-4 : Int32)) (upd homes x2.toNatClampNeg x3) isSeen leftA were lockA b_blocks b_guarded b_trains b_omen b_train) := hD
    rw [hZ]
    exact W.vret hx hb hr (fun t ht hW => ⟨⟨(bumpMinute, bumpBlock, bumpTrains, waited, keptOut, used, (upd whr x2.toNatClampNeg (-4 : Int32)), (upd homes x2.toNatClampNeg x3), isSeen, leftA), rfl, G, by rw [ht]; exact hP, hD⟩, hS.F ht⟩) hS.2.2 dX0_steps_35 hlocks
abbrev rm_C_runs : Room := { frames := 6, cells := 0, slots := 0, locals := 144 }
set_option maxHeartbeats 4000000 in
theorem w_C_runs_L23 {p : Program} {l : Launch} {e : Env} {s : State} {m : MethodId} {args : Array Value} {below : List Frame} {meth : Method} {c : Code} {D : va_G} {ad : Nat → Nat} {b : Nat} {bo : Nat} {bt : Nat} {ca : Nat → ClassId} {A : Nat → Prop} {Z : State → Prop} (C : cx cX0_runs 4 none RX0 D vwCl (tyL ca) A p c meth s m args) {kept : Int32} {locks : Int32} {seenMany : Int32} {bumpMinute : Int32} {bumpBlock : Int32} {bumpTrains : Int32} {waited : Int32} {keptOut : Int32} {used : Int32} {taped : Int32} {fault : Int32} {costSum : Int64} {safeSum : Int64} {allWays : Int64} {torn : Int32} {leftA : Nat → Int32} {were : Nat → Int32} {lockA : Nat → Int32} {b_blocks : Int32} {b_guarded : Int32} {b_trains : Int32} {b_omen : Nat → Int32} {b_train : Nat → Int32}  {k57 : (Nat → Int32) → (Nat → Int32) → (Nat → Int32) → Prop} (hk57 : ∀ (whr : Nat → Int32) (homes : Nat → Int32) (isSeen : Nat → Int32), k57 whr homes isSeen → ∀ (ls : Array Slot) (H : Heap) (locs : List Loc), lv_has ls 4 [(0, .ref (ad 0)), (1, .ref b)] → va_P D vwCl (rW ad b bo bt ca kept locks seenMany bumpMinute bumpBlock bumpTrains waited keptOut used taped fault costSum safeSum allWays torn whr homes isSeen leftA were lockA b_blocks b_guarded b_trains b_omen b_train) H → va_D A (rW ad b bo bt ca kept locks seenMany bumpMinute bumpBlock bumpTrains waited keptOut used taped fault costSum safeSum allWays torn whr homes isSeen leftA were lockA b_blocks b_guarded b_trains b_omen b_train) → va_S A s.heap H locs → W p l e rm_C_runs s m args below meth c H locs 0 0 Z (F0 m 57 ls [])) : ∀ (n : Nat) (whr : Nat → Int32) (homes : Nat → Int32) (isSeen : Nat → Int32) (x2 : Int32), C_runs_L23 k57 n whr homes isSeen x2 → ∀ (ls : Array Slot) (H : Heap) (locs : List Loc), lv_has ls 4 [(0, .ref (ad 0)), (1, .ref b), (2, .int x2)] → va_P D vwCl (rW ad b bo bt ca kept locks seenMany bumpMinute bumpBlock bumpTrains waited keptOut used taped fault costSum safeSum allWays torn whr homes isSeen leftA were lockA b_blocks b_guarded b_trains b_omen b_train) H → va_D A (rW ad b bo bt ca kept locks seenMany bumpMinute bumpBlock bumpTrains waited keptOut used taped fault costSum safeSum allWays torn whr homes isSeen leftA were lockA b_blocks b_guarded b_trains b_omen b_train) → va_S A s.heap H locs → W p l e rm_C_runs s m args below meth c H locs 0 0 Z (F0 m 23 ls []) := by
  have hx := C.1; have hb := C.2.1; have hr := C.2.2.1; have hlocks := C.2.2.2.1; have hml := C.2.2.2.2.1; have hown := C.2.2.2.2.2.1; have hts := C.2.2.2.2.2.2.1; have hn := C.2.2.2.2.2.2.2.1; have hK := C.2.2.2.2.2.2.2.2.1; have hA := C.2.2.2.2.2.2.2.2.2
  intro n
  induction n with
  | zero =>
    intro whr homes isSeen x2 G
    exact False.elim G
  | succ n ih =>
    intro whr homes isSeen x2 G ls H locs hl hP hD hS
    unfold C_runs_L23 at G
    have hk23 := ih
    refine lv_iload_n hx hb dX0_runs_23 rfl (lv_at hl 2 rfl) ?_
    refine lv_iconst (v := 4) hx hb dX0_runs_24 (by decide) ?_
    refine lv_icmp_ge (tgt := 57) hx hb dX0_runs_25 (by decide) (fun c_1 => ?_) (fun c_1 => ?_)
    · have G := G.1 c_1
      exact hk57 _ _ _ G _ _ _ (lv_sub hl [0, 1] rfl) hP hD hS
    · have G := G.2 c_1
      refine lv_aload_n hx hb dX0_runs_28 rfl (lv_at hl 0 rfl) ?_
      refine va_get hx hb hts in_X0 hown hK hP 0 rfl rfl 9 (by decide) (hts _ q186) (fun _ h => h) rfl dX0_runs_29 ?_
      refine lv_iload_n hx hb dX0_runs_32 rfl (lv_at hl 2 rfl) ?_
      refine lv_bipush (v := -4) hx hb dX0_runs_33 (by decide) ?_
      obtain ⟨h_2, G⟩ := G
      refine va_iast hx hb hK hP hD hS 6 0 rfl rfl h_2 dX0_runs_35 (fun H locs hP hD hS => ?_)
      have hP : va_P D vwCl (rW ad b bo bt ca kept locks seenMany bumpMinute bumpBlock bumpTrains waited keptOut used taped fault costSum safeSum allWays torn (upd whr x2.toNatClampNeg (-4 : Int32)) homes isSeen leftA were lockA b_blocks b_guarded b_trains b_omen b_train) H := hP
      have hD : va_D A (rW ad b bo bt ca kept locks seenMany bumpMinute bumpBlock bumpTrains waited keptOut used taped fault costSum safeSum allWays torn (upd whr x2.toNatClampNeg (-4 : Int32)) homes isSeen leftA were lockA b_blocks b_guarded b_trains b_omen b_train) := hD
      refine lv_aload_n hx hb dX0_runs_36 rfl (lv_at hl 0 rfl) ?_
      refine va_get hx hb hts in_X0 hown hK hP 0 rfl rfl 10 (by decide) (hts _ q187) (fun _ h => h) rfl dX0_runs_37 ?_
      refine lv_iload_n hx hb dX0_runs_40 rfl (lv_at hl 2 rfl) ?_
      refine lv_bipush (v := -4) hx hb dX0_runs_41 (by decide) ?_
      obtain ⟨h_3, G⟩ := G
      refine va_iast hx hb hK hP hD hS 7 0 rfl rfl h_3 dX0_runs_43 (fun H locs hP hD hS => ?_)
      have hP : va_P D vwCl (rW ad b bo bt ca kept locks seenMany bumpMinute bumpBlock bumpTrains waited keptOut used taped fault costSum safeSum allWays torn (upd whr x2.toNatClampNeg (-4 : Int32)) (upd homes x2.toNatClampNeg (-4 : Int32)) isSeen leftA were lockA b_blocks b_guarded b_trains b_omen b_train) H := hP
      have hD : va_D A (rW ad b bo bt ca kept locks seenMany bumpMinute bumpBlock bumpTrains waited keptOut used taped fault costSum safeSum allWays torn (upd whr x2.toNatClampNeg (-4 : Int32)) (upd homes x2.toNatClampNeg (-4 : Int32)) isSeen leftA were lockA b_blocks b_guarded b_trains b_omen b_train) := hD
      refine lv_aload_n hx hb dX0_runs_44 rfl (lv_at hl 0 rfl) ?_
      refine va_get hx hb hts in_X0 hown hK hP 0 rfl rfl 11 (by decide) (hts _ q188) (fun _ h => h) rfl dX0_runs_45 ?_
      refine lv_iload_n hx hb dX0_runs_48 rfl (lv_at hl 2 rfl) ?_
      refine lv_iconst (v := 0) hx hb dX0_runs_49 (by decide) ?_
      obtain ⟨h_4, G⟩ := G
      refine va_zast hx hb hK hP hD hS 8 1 rfl rfl h_4 dX0_runs_50 (fun H locs hP hD hS => ?_)
      have hP : va_P D vwCl (rW ad b bo bt ca kept locks seenMany bumpMinute bumpBlock bumpTrains waited keptOut used taped fault costSum safeSum allWays torn (upd whr x2.toNatClampNeg (-4 : Int32)) (upd homes x2.toNatClampNeg (-4 : Int32)) (upd isSeen x2.toNatClampNeg (vp_nar .boolean (0 : Int32))) leftA were lockA b_blocks b_guarded b_trains b_omen b_train) H := hP
      have hD : va_D A (rW ad b bo bt ca kept locks seenMany bumpMinute bumpBlock bumpTrains waited keptOut used taped fault costSum safeSum allWays torn (upd whr x2.toNatClampNeg (-4 : Int32)) (upd homes x2.toNatClampNeg (-4 : Int32)) (upd isSeen x2.toNatClampNeg (vp_nar .boolean (0 : Int32))) leftA were lockA b_blocks b_guarded b_trains b_omen b_train) := hD
      refine lv_iinc (v := (x2 + (1 : Int32))) (lv' := [(2, .int (x2 + (1 : Int32))), (0, .ref (ad 0)), (1, .ref b)]) hx hb dX0_runs_51 hl (k := 2) rfl rfl (by decide) rfl (fun ls hl => ?_)
      refine lv_goto (tgt := 23) hx hb dX0_runs_54 (by decide) ?_
      exact hk23 _ _ _ _ G _ _ _ (lv_sub hl [1, 2, 0] rfl) hP hD hS
set_option maxHeartbeats 4000000 in
theorem w_C_runs_J112 {p : Program} {l : Launch} {e : Env} {s : State} {m : MethodId} {args : Array Value} {below : List Frame} {meth : Method} {c : Code} {D : va_G} {ad : Nat → Nat} {b : Nat} {bo : Nat} {bt : Nat} {ca : Nat → ClassId} {A : Nat → Prop} {Z : State → Prop} (C : cx cX0_runs 4 none RX0 D vwCl (tyL ca) A p c meth s m args) {kept : Int32} {locks : Int32} {seenMany : Int32} {bumpMinute : Int32} {bumpBlock : Int32} {bumpTrains : Int32} {waited : Int32} {keptOut : Int32} {used : Int32} {taped : Int32} {fault : Int32} {costSum : Int64} {safeSum : Int64} {allWays : Int64} {torn : Int32} {whr : Nat → Int32} {homes : Nat → Int32} {isSeen : Nat → Int32} {leftA : Nat → Int32} {were : Nat → Int32} {lockA : Nat → Int32} {b_blocks : Int32} {b_guarded : Int32} {b_trains : Int32} {b_omen : Nat → Int32} {b_train : Nat → Int32} {x2 : Int32} {x3 : Int32}  {k67 : Int32 → Int32 → Int32 → Int32 → Int32 → Int32 → (Nat → Int32) → (Nat → Int32) → (Nat → Int32) → (Nat → Int32) → Int32 → Prop} {k118 : Int32 → Int32 → Int32 → Int32 → Int32 → Int32 → (Nat → Int32) → (Nat → Int32) → (Nat → Int32) → (Nat → Int32) → Prop} (hk67 : ∀ (bumpMinute : Int32) (bumpBlock : Int32) (bumpTrains : Int32) (waited : Int32) (keptOut : Int32) (used : Int32) (whr : Nat → Int32) (homes : Nat → Int32) (isSeen : Nat → Int32) (leftA : Nat → Int32) (x3 : Int32), k67 bumpMinute bumpBlock bumpTrains waited keptOut used whr homes isSeen leftA x3 → ∀ (ls : Array Slot) (H : Heap) (locs : List Loc), lv_has ls 4 [(0, .ref (ad 0)), (1, .ref b), (2, .int x2), (3, .int x3)] → va_P D vwCl (rW ad b bo bt ca kept locks seenMany bumpMinute bumpBlock bumpTrains waited keptOut used taped fault costSum safeSum allWays torn whr homes isSeen leftA were lockA b_blocks b_guarded b_trains b_omen b_train) H → va_D A (rW ad b bo bt ca kept locks seenMany bumpMinute bumpBlock bumpTrains waited keptOut used taped fault costSum safeSum allWays torn whr homes isSeen leftA were lockA b_blocks b_guarded b_trains b_omen b_train) → va_S A s.heap H locs → W p l e rm_C_runs s m args below meth c H locs 0 0 Z (F0 m 67 ls [])) (hk118 : ∀ (bumpMinute : Int32) (bumpBlock : Int32) (bumpTrains : Int32) (waited : Int32) (keptOut : Int32) (used : Int32) (whr : Nat → Int32) (homes : Nat → Int32) (isSeen : Nat → Int32) (leftA : Nat → Int32), k118 bumpMinute bumpBlock bumpTrains waited keptOut used whr homes isSeen leftA → ∀ (ls : Array Slot) (H : Heap) (locs : List Loc), lv_has ls 4 [(0, .ref (ad 0)), (1, .ref b), (2, .int x2)] → va_P D vwCl (rW ad b bo bt ca kept locks seenMany bumpMinute bumpBlock bumpTrains waited keptOut used taped fault costSum safeSum allWays torn whr homes isSeen leftA were lockA b_blocks b_guarded b_trains b_omen b_train) H → va_D A (rW ad b bo bt ca kept locks seenMany bumpMinute bumpBlock bumpTrains waited keptOut used taped fault costSum safeSum allWays torn whr homes isSeen leftA were lockA b_blocks b_guarded b_trains b_omen b_train) → va_S A s.heap H locs → W p l e rm_C_runs s m args below meth c H locs 0 0 Z (F0 m 118 ls [])) (G : C_runs_J112 bumpMinute bumpBlock bumpTrains waited keptOut used whr homes isSeen leftA b_blocks b_guarded b_trains b_omen b_train x2 x3 k67 k118) {ls : Array Slot} {H : Heap} {locs : List Loc} (hl : lv_has ls 4 [(0, .ref (ad 0)), (1, .ref b), (2, .int x2), (3, .int x3)]) (hP : va_P D vwCl (rW ad b bo bt ca kept locks seenMany bumpMinute bumpBlock bumpTrains waited keptOut used taped fault costSum safeSum allWays torn whr homes isSeen leftA were lockA b_blocks b_guarded b_trains b_omen b_train) H) (hD : va_D A (rW ad b bo bt ca kept locks seenMany bumpMinute bumpBlock bumpTrains waited keptOut used taped fault costSum safeSum allWays torn whr homes isSeen leftA were lockA b_blocks b_guarded b_trains b_omen b_train)) (hS : va_S A s.heap H locs) : W p l e rm_C_runs s m args below meth c H locs 0 0 Z (F0 m 112 ls []) := by
  have hx := C.1; have hb := C.2.1; have hr := C.2.2.1; have hlocks := C.2.2.2.1; have hml := C.2.2.2.2.1; have hown := C.2.2.2.2.2.1; have hts := C.2.2.2.2.2.2.1; have hn := C.2.2.2.2.2.2.2.1; have hK := C.2.2.2.2.2.2.2.2.1; have hA := C.2.2.2.2.2.2.2.2.2
  unfold C_runs_J112 at G
  refine lv_iinc (v := (x3 + (1 : Int32))) (lv' := [(3, .int (x3 + (1 : Int32))), (0, .ref (ad 0)), (1, .ref b), (2, .int x2)]) hx hb dX0_runs_112 hl (k := 3) rfl rfl (by decide) rfl (fun ls hl => ?_)
  refine lv_goto (tgt := 67) hx hb dX0_runs_115 (by decide) ?_
  exact hk67 _ _ _ _ _ _ _ _ _ _ _ G _ _ _ (lv_sub hl [1, 2, 3, 0] rfl) hP hD hS
set_option maxHeartbeats 4000000 in
theorem w_C_runs_L67 {p : Program} {l : Launch} {e : Env} {s : State} {m : MethodId} {args : Array Value} {below : List Frame} {meth : Method} {c : Code} {D : va_G} {ad : Nat → Nat} {b : Nat} {bo : Nat} {bt : Nat} {ca : Nat → ClassId} {A : Nat → Prop} {Z : State → Prop} (C : cx cX0_runs 4 none RX0 D vwCl (tyL ca) A p c meth s m args) {kept : Int32} {locks : Int32} {seenMany : Int32} {taped : Int32} {fault : Int32} {costSum : Int64} {safeSum : Int64} {allWays : Int64} {torn : Int32} {were : Nat → Int32} {lockA : Nat → Int32} {b_blocks : Int32} {b_guarded : Int32} {b_trains : Int32} {b_omen : Nat → Int32} {b_train : Nat → Int32} {x2 : Int32} {k118 : Int32 → Int32 → Int32 → Int32 → Int32 → Int32 → (Nat → Int32) → (Nat → Int32) → (Nat → Int32) → (Nat → Int32) → Prop} (hk118 : ∀ (bumpMinute : Int32) (bumpBlock : Int32) (bumpTrains : Int32) (waited : Int32) (keptOut : Int32) (used : Int32) (whr : Nat → Int32) (homes : Nat → Int32) (isSeen : Nat → Int32) (leftA : Nat → Int32), k118 bumpMinute bumpBlock bumpTrains waited keptOut used whr homes isSeen leftA → ∀ (ls : Array Slot) (H : Heap) (locs : List Loc), lv_has ls 4 [(0, .ref (ad 0)), (1, .ref b), (2, .int x2)] → va_P D vwCl (rW ad b bo bt ca kept locks seenMany bumpMinute bumpBlock bumpTrains waited keptOut used taped fault costSum safeSum allWays torn whr homes isSeen leftA were lockA b_blocks b_guarded b_trains b_omen b_train) H → va_D A (rW ad b bo bt ca kept locks seenMany bumpMinute bumpBlock bumpTrains waited keptOut used taped fault costSum safeSum allWays torn whr homes isSeen leftA were lockA b_blocks b_guarded b_trains b_omen b_train) → va_S A s.heap H locs → W p l e rm_C_runs s m args below meth c H locs 0 0 Z (F0 m 118 ls [])) : ∀ (n : Nat) (bumpMinute : Int32) (bumpBlock : Int32) (bumpTrains : Int32) (waited : Int32) (keptOut : Int32) (used : Int32) (whr : Nat → Int32) (homes : Nat → Int32) (isSeen : Nat → Int32) (leftA : Nat → Int32) (x3 : Int32), C_runs_L67 b_blocks b_guarded b_trains b_omen b_train x2 k118 n bumpMinute bumpBlock bumpTrains waited keptOut used whr homes isSeen leftA x3 → ∀ (ls : Array Slot) (H : Heap) (locs : List Loc), lv_has ls 4 [(0, .ref (ad 0)), (1, .ref b), (2, .int x2), (3, .int x3)] → va_P D vwCl (rW ad b bo bt ca kept locks seenMany bumpMinute bumpBlock bumpTrains waited keptOut used taped fault costSum safeSum allWays torn whr homes isSeen leftA were lockA b_blocks b_guarded b_trains b_omen b_train) H → va_D A (rW ad b bo bt ca kept locks seenMany bumpMinute bumpBlock bumpTrains waited keptOut used taped fault costSum safeSum allWays torn whr homes isSeen leftA were lockA b_blocks b_guarded b_trains b_omen b_train) → va_S A s.heap H locs → W p l e rm_C_runs s m args below meth c H locs 0 0 Z (F0 m 67 ls []) := by
  have hx := C.1; have hb := C.2.1; have hr := C.2.2.1; have hlocks := C.2.2.2.1; have hml := C.2.2.2.2.1; have hown := C.2.2.2.2.2.1; have hts := C.2.2.2.2.2.2.1; have hn := C.2.2.2.2.2.2.2.1; have hK := C.2.2.2.2.2.2.2.2.1; have hA := C.2.2.2.2.2.2.2.2.2
  intro n
  induction n with
  | zero =>
    intro bumpMinute bumpBlock bumpTrains waited keptOut used whr homes isSeen leftA x3 G
    exact False.elim G
  | succ n ih =>
    intro bumpMinute bumpBlock bumpTrains waited keptOut used whr homes isSeen leftA x3 G ls H locs hl hP hD hS
    unfold C_runs_L67 at G
    have hk67 := ih
    refine lv_iload_n hx hb dX0_runs_67 rfl (lv_at hl 3 rfl) ?_
    refine lv_aload_n hx hb dX0_runs_68 rfl (lv_at hl 1 rfl) ?_
    refine va_getN hx hb hts in_X5 hown hK hP 12 rfl rfl 3 (by decide) (va_Nw.use rfl (hn _ q146 rfl)) (fun _ h => h) rfl dX0_runs_69 ?_
    refine lv_icmp_ge (tgt := 118) hx hb dX0_runs_72 (by decide) (fun c_10 => ?_) (fun c_10 => ?_)
    · have G := G.1 c_10
      exact hk118 _ _ _ _ _ _ _ _ _ _ G _ _ _ (lv_sub hl [0, 1, 2] rfl) hP hD hS
    · have G := G.2 c_10
      refine lv_aload_n hx hb dX0_runs_75 rfl (lv_at hl 0 rfl) ?_
      refine va_get hx hb hts in_X0 hown hK hP 0 rfl rfl 14 (by decide) (hts _ q191) (fun _ h => h) rfl dX0_runs_76 ?_
      refine lv_bipush (v := -4) hx hb dX0_runs_79 (by decide) ?_
      refine lv_icmp_ne (tgt := 118) hx hb dX0_runs_81 (by decide) (fun c_11 => ?_) (fun c_11 => ?_)
      · have G := G.2 c_11
        exact hk118 _ _ _ _ _ _ _ _ _ _ G _ _ _ (lv_sub hl [0, 1, 2] rfl) hP hD hS
      · have G := G.1 c_11
        refine lv_iload_n hx hb dX0_runs_84 rfl (lv_at hl 2 rfl) ?_
        refine lv_aload_n hx hb dX0_runs_85 rfl (lv_at hl 1 rfl) ?_
        refine lv_iload_n hx hb dX0_runs_86 rfl (lv_at hl 3 rfl) ?_
        refine lv_iconst (v := 2) hx hb dX0_runs_87 (by decide) ?_
        obtain ⟨h_12, G⟩ := G
        refine wc_Vik (As := [.int x3, .int (2 : Int32)]) (rest := [.int x2]) C (met_B_of l D b bo bt ca H.size b_blocks b_guarded b_trains b_omen b_train x3 (2 : Int32) h_12) (cwV 2 hts (lw_V q600 q601 q602 q73 q603) rfl rfl rfl (by decide +kernel) ⟨Nat.le_of_ble_eq_true rfl, Nat.le_of_ble_eq_true rfl⟩) hP hD hS [12, 13, 14] rfl (by decide) 12 rfl rfl rfl rfl hl.1 (Nat.le_of_ble_eq_true rfl) dX0_runs_88 ⟨Nat.le_of_ble_eq_true rfl, Nat.le_of_ble_eq_true rfl⟩ (fun r_13 u H locs hr hP hD hS => ?_)
        subst hr
        refine lv_icmp_lt (tgt := 112) hx hb dX0_runs_91 (by decide) (fun c_14 => ?_) (fun c_14 => ?_)
        · have G := G.1 c_14
          exact w_C_runs_J112 C hk67 hk118 G (lv_sub hl [0, 1, 2, 3] rfl) hP hD hS
        · have G := G.2 c_14
          refine lv_aload_n hx hb dX0_runs_94 rfl (lv_at hl 0 rfl) ?_
          refine va_get hx hb hts in_X0 hown hK hP 0 rfl rfl 10 (by decide) (hts _ q187) (fun _ h => h) rfl dX0_runs_95 ?_
          refine lv_iload_n hx hb dX0_runs_98 rfl (lv_at hl 3 rfl) ?_
          obtain ⟨h_15, G⟩ := G
          refine va_iald hx hb hK hP 7 0 rfl rfl h_15 dX0_runs_99 ?_
          refine lv_bipush (v := -4) hx hb dX0_runs_100 (by decide) ?_
          refine lv_icmp_ne (tgt := 112) hx hb dX0_runs_102 (by decide) (fun c_16 => ?_) (fun c_16 => ?_)
          · have G := G.2 c_16
            exact w_C_runs_J112 C hk67 hk118 G (lv_sub hl [0, 1, 2, 3] rfl) hP hD hS
          · have G := G.1 c_16
            refine lv_aload_n hx hb dX0_runs_105 rfl (lv_at hl 0 rfl) ?_
            refine lv_aload_n hx hb dX0_runs_106 rfl (lv_at hl 1 rfl) ?_
            refine lv_iload_n hx hb dX0_runs_107 rfl (lv_at hl 3 rfl) ?_
            refine lv_iload_n hx hb dX0_runs_108 rfl (lv_at hl 2 rfl) ?_
            refine wc_Vv (As := [.ref b, .int x3, .int x2]) (rest := []) C (met_C_steps l D ad b bo bt ca H.size kept locks seenMany bumpMinute bumpBlock bumpTrains waited keptOut used taped fault costSum safeSum allWays torn whr homes isSeen leftA were lockA b_blocks b_guarded b_trains b_omen b_train x3 x2 _ G) (cwV 3 hts (lw_V q657 q659 qs24 q68 q660) rfl rfl rfl (by decide +kernel) ⟨Nat.le_of_ble_eq_true rfl, Nat.le_of_ble_eq_true rfl⟩) hP hD hS 0 rfl rfl rfl rfl hl.1 (Nat.le_of_ble_eq_true rfl) dX0_runs_109 ⟨Nat.le_of_ble_eq_true rfl, Nat.le_of_ble_eq_true rfl⟩ (fun u H locs G hP hD hS => ?_)
            obtain ⟨bumpMinute_18, bumpBlock_19, bumpTrains_20, waited_21, keptOut_22, used_23, whr_24, homes_25, isSeen_26, leftA_27⟩ := u
            have hP : va_P D vwCl (rW ad b bo bt ca kept locks seenMany bumpMinute_18 bumpBlock_19 bumpTrains_20 waited_21 keptOut_22 used_23 taped fault costSum safeSum allWays torn whr_24 homes_25 isSeen_26 leftA_27 were lockA b_blocks b_guarded b_trains b_omen b_train) H := hP
            have hD : va_D A (rW ad b bo bt ca kept locks seenMany bumpMinute_18 bumpBlock_19 bumpTrains_20 waited_21 keptOut_22 used_23 taped fault costSum safeSum allWays torn whr_24 homes_25 isSeen_26 leftA_27 were lockA b_blocks b_guarded b_trains b_omen b_train) := hD
            exact w_C_runs_J112 C hk67 hk118 G (lv_sub hl [0, 1, 2, 3] rfl) hP hD hS
set_option maxHeartbeats 4000000 in
theorem w_C_runs_L120 {p : Program} {l : Launch} {e : Env} {s : State} {m : MethodId} {args : Array Value} {below : List Frame} {meth : Method} {c : Code} {D : va_G} {ad : Nat → Nat} {b : Nat} {bo : Nat} {bt : Nat} {ca : Nat → ClassId} {A : Nat → Prop} {Z : State → Prop} (C : cx cX0_runs 4 none RX0 D vwCl (tyL ca) A p c meth s m args) {kept : Int32} {locks : Int32} {seenMany : Int32} {bumpMinute : Int32} {bumpBlock : Int32} {bumpTrains : Int32} {waited : Int32} {keptOut : Int32} {used : Int32} {taped : Int32} {fault : Int32} {costSum : Int64} {safeSum : Int64} {allWays : Int64} {torn : Int32} {whr : Nat → Int32} {homes : Nat → Int32} {isSeen : Nat → Int32} {leftA : Nat → Int32} {lockA : Nat → Int32} {b_blocks : Int32} {b_guarded : Int32} {b_trains : Int32} {b_omen : Nat → Int32} {b_train : Nat → Int32} {x2 : Int32} {k151 : (Nat → Int32) → Prop} (hk151 : ∀ (were : Nat → Int32), k151 were → ∀ (ls : Array Slot) (H : Heap) (locs : List Loc), lv_has ls 4 [(0, .ref (ad 0)), (1, .ref b), (2, .int x2)] → va_P D vwCl (rW ad b bo bt ca kept locks seenMany bumpMinute bumpBlock bumpTrains waited keptOut used taped fault costSum safeSum allWays torn whr homes isSeen leftA were lockA b_blocks b_guarded b_trains b_omen b_train) H → va_D A (rW ad b bo bt ca kept locks seenMany bumpMinute bumpBlock bumpTrains waited keptOut used taped fault costSum safeSum allWays torn whr homes isSeen leftA were lockA b_blocks b_guarded b_trains b_omen b_train) → va_S A s.heap H locs → W p l e rm_C_runs s m args below meth c H locs 0 0 Z (F0 m 151 ls [])) : ∀ (n : Nat) (were : Nat → Int32) (x3 : Int32), C_runs_L120 whr b_trains x2 k151 n were x3 → ∀ (ls : Array Slot) (H : Heap) (locs : List Loc), lv_has ls 4 [(0, .ref (ad 0)), (1, .ref b), (2, .int x2), (3, .int x3)] → va_P D vwCl (rW ad b bo bt ca kept locks seenMany bumpMinute bumpBlock bumpTrains waited keptOut used taped fault costSum safeSum allWays torn whr homes isSeen leftA were lockA b_blocks b_guarded b_trains b_omen b_train) H → va_D A (rW ad b bo bt ca kept locks seenMany bumpMinute bumpBlock bumpTrains waited keptOut used taped fault costSum safeSum allWays torn whr homes isSeen leftA were lockA b_blocks b_guarded b_trains b_omen b_train) → va_S A s.heap H locs → W p l e rm_C_runs s m args below meth c H locs 0 0 Z (F0 m 120 ls []) := by
  have hx := C.1; have hb := C.2.1; have hr := C.2.2.1; have hlocks := C.2.2.2.1; have hml := C.2.2.2.2.1; have hown := C.2.2.2.2.2.1; have hts := C.2.2.2.2.2.2.1; have hn := C.2.2.2.2.2.2.2.1; have hK := C.2.2.2.2.2.2.2.2.1; have hA := C.2.2.2.2.2.2.2.2.2
  intro n
  induction n with
  | zero =>
    intro were x3 G
    exact False.elim G
  | succ n ih =>
    intro were x3 G ls H locs hl hP hD hS
    unfold C_runs_L120 at G
    have hk120 := ih
    refine lv_iload_n hx hb dX0_runs_120 rfl (lv_at hl 3 rfl) ?_
    refine lv_aload_n hx hb dX0_runs_121 rfl (lv_at hl 1 rfl) ?_
    refine va_getN hx hb hts in_X5 hown hK hP 12 rfl rfl 3 (by decide) (va_Nw.use rfl (hn _ q146 rfl)) (fun _ h => h) rfl dX0_runs_122 ?_
    refine lv_icmp_ge (tgt := 151) hx hb dX0_runs_125 (by decide) (fun c_39 => ?_) (fun c_39 => ?_)
    · have G := G.1 c_39
      exact hk151 _ G _ _ _ (lv_sub hl [0, 1, 2] rfl) hP hD hS
    · have G := G.2 c_39
      refine lv_aload_n hx hb dX0_runs_128 rfl (lv_at hl 0 rfl) ?_
      refine va_get hx hb hts in_X0 hown hK hP 0 rfl rfl 13 (by decide) (hts _ q190) (fun _ h => h) rfl dX0_runs_129 ?_
      refine lv_iconst (v := 4) hx hb dX0_runs_132 (by decide) ?_
      refine lv_iload_n hx hb dX0_runs_133 rfl (lv_at hl 2 rfl) ?_
      refine lv_imul hx hb dX0_runs_134 ?_
      refine lv_iload_n hx hb dX0_runs_135 rfl (lv_at hl 3 rfl) ?_
      refine lv_iadd hx hb dX0_runs_136 ?_
      refine lv_aload_n hx hb dX0_runs_137 rfl (lv_at hl 0 rfl) ?_
      refine va_get hx hb hts in_X0 hown hK hP 0 rfl rfl 9 (by decide) (hts _ q186) (fun _ h => h) rfl dX0_runs_138 ?_
      refine lv_iload_n hx hb dX0_runs_141 rfl (lv_at hl 3 rfl) ?_
      obtain ⟨h_40, G⟩ := G
      refine va_iald hx hb hK hP 6 0 rfl rfl h_40 dX0_runs_142 ?_
      refine lv_i2b hx hb dX0_runs_143 rfl ?_
      obtain ⟨h_41, G⟩ := G
      refine va_bast hx hb hK hP hD hS 10 2 rfl rfl h_41 dX0_runs_144 (fun H locs hP hD hS => ?_)
      have hP : va_P D vwCl (rW ad b bo bt ca kept locks seenMany bumpMinute bumpBlock bumpTrains waited keptOut used taped fault costSum safeSum allWays torn whr homes isSeen leftA (upd were (((4 : Int32) * x2) + x3).toNatClampNeg (vp_nar .byte (((whr x3.toNatClampNeg)).toInt8.toInt32))) lockA b_blocks b_guarded b_trains b_omen b_train) H := hP
      have hD : va_D A (rW ad b bo bt ca kept locks seenMany bumpMinute bumpBlock bumpTrains waited keptOut used taped fault costSum safeSum allWays torn whr homes isSeen leftA (upd were (((4 : Int32) * x2) + x3).toNatClampNeg (vp_nar .byte (((whr x3.toNatClampNeg)).toInt8.toInt32))) lockA b_blocks b_guarded b_trains b_omen b_train) := hD
      refine lv_iinc (v := (x3 + (1 : Int32))) (lv' := [(3, .int (x3 + (1 : Int32))), (0, .ref (ad 0)), (1, .ref b), (2, .int x2)]) hx hb dX0_runs_145 hl (k := 3) rfl rfl (by decide) rfl (fun ls hl => ?_)
      refine lv_goto (tgt := 120) hx hb dX0_runs_148 (by decide) ?_
      exact hk120 _ _ G _ _ _ (lv_sub hl [1, 2, 3, 0] rfl) hP hD hS
set_option maxHeartbeats 4000000 in
theorem w_C_runs_J118 {p : Program} {l : Launch} {e : Env} {s : State} {m : MethodId} {args : Array Value} {below : List Frame} {meth : Method} {c : Code} {D : va_G} {ad : Nat → Nat} {b : Nat} {bo : Nat} {bt : Nat} {ca : Nat → ClassId} {A : Nat → Prop} {Z : State → Prop} (C : cx cX0_runs 4 none RX0 D vwCl (tyL ca) A p c meth s m args) {kept : Int32} {locks : Int32} {seenMany : Int32} {bumpMinute : Int32} {bumpBlock : Int32} {bumpTrains : Int32} {waited : Int32} {keptOut : Int32} {used : Int32} {taped : Int32} {fault : Int32} {costSum : Int64} {safeSum : Int64} {allWays : Int64} {torn : Int32} {whr : Nat → Int32} {homes : Nat → Int32} {isSeen : Nat → Int32} {leftA : Nat → Int32} {were : Nat → Int32} {lockA : Nat → Int32} {b_blocks : Int32} {b_guarded : Int32} {b_trains : Int32} {b_omen : Nat → Int32} {b_train : Nat → Int32} {x2 : Int32}  {k59 : Int32 → Int32 → Int32 → Int32 → Int32 → Int32 → (Nat → Int32) → (Nat → Int32) → (Nat → Int32) → (Nat → Int32) → (Nat → Int32) → Int32 → Prop} {k157 : Int32 → Int32 → Int32 → Int32 → Int32 → Int32 → (Nat → Int32) → (Nat → Int32) → (Nat → Int32) → (Nat → Int32) → (Nat → Int32) → Prop} (hk59 : ∀ (bumpMinute : Int32) (bumpBlock : Int32) (bumpTrains : Int32) (waited : Int32) (keptOut : Int32) (used : Int32) (whr : Nat → Int32) (homes : Nat → Int32) (isSeen : Nat → Int32) (leftA : Nat → Int32) (were : Nat → Int32) (x2 : Int32), k59 bumpMinute bumpBlock bumpTrains waited keptOut used whr homes isSeen leftA were x2 → ∀ (ls : Array Slot) (H : Heap) (locs : List Loc), lv_has ls 4 [(0, .ref (ad 0)), (1, .ref b), (2, .int x2)] → va_P D vwCl (rW ad b bo bt ca kept locks seenMany bumpMinute bumpBlock bumpTrains waited keptOut used taped fault costSum safeSum allWays torn whr homes isSeen leftA were lockA b_blocks b_guarded b_trains b_omen b_train) H → va_D A (rW ad b bo bt ca kept locks seenMany bumpMinute bumpBlock bumpTrains waited keptOut used taped fault costSum safeSum allWays torn whr homes isSeen leftA were lockA b_blocks b_guarded b_trains b_omen b_train) → va_S A s.heap H locs → W p l e rm_C_runs s m args below meth c H locs 0 0 Z (F0 m 59 ls [])) (hk157 : ∀ (bumpMinute : Int32) (bumpBlock : Int32) (bumpTrains : Int32) (waited : Int32) (keptOut : Int32) (used : Int32) (whr : Nat → Int32) (homes : Nat → Int32) (isSeen : Nat → Int32) (leftA : Nat → Int32) (were : Nat → Int32), k157 bumpMinute bumpBlock bumpTrains waited keptOut used whr homes isSeen leftA were → ∀ (ls : Array Slot) (H : Heap) (locs : List Loc), lv_has ls 4 [] → va_P D vwCl (rW ad b bo bt ca kept locks seenMany bumpMinute bumpBlock bumpTrains waited keptOut used taped fault costSum safeSum allWays torn whr homes isSeen leftA were lockA b_blocks b_guarded b_trains b_omen b_train) H → va_D A (rW ad b bo bt ca kept locks seenMany bumpMinute bumpBlock bumpTrains waited keptOut used taped fault costSum safeSum allWays torn whr homes isSeen leftA were lockA b_blocks b_guarded b_trains b_omen b_train) → va_S A s.heap H locs → W p l e rm_C_runs s m args below meth c H locs 0 0 Z (F0 m 157 ls [])) (G : C_runs_J118 bumpMinute bumpBlock bumpTrains waited keptOut used whr homes isSeen leftA were b_blocks b_guarded b_trains b_omen b_train x2 k59 k157) {ls : Array Slot} {H : Heap} {locs : List Loc} (hl : lv_has ls 4 [(0, .ref (ad 0)), (1, .ref b), (2, .int x2)]) (hP : va_P D vwCl (rW ad b bo bt ca kept locks seenMany bumpMinute bumpBlock bumpTrains waited keptOut used taped fault costSum safeSum allWays torn whr homes isSeen leftA were lockA b_blocks b_guarded b_trains b_omen b_train) H) (hD : va_D A (rW ad b bo bt ca kept locks seenMany bumpMinute bumpBlock bumpTrains waited keptOut used taped fault costSum safeSum allWays torn whr homes isSeen leftA were lockA b_blocks b_guarded b_trains b_omen b_train)) (hS : va_S A s.heap H locs) : W p l e rm_C_runs s m args below meth c H locs 0 0 Z (F0 m 118 ls []) := by
  have hx := C.1; have hb := C.2.1; have hr := C.2.2.1; have hlocks := C.2.2.2.1; have hml := C.2.2.2.2.1; have hown := C.2.2.2.2.2.1; have hts := C.2.2.2.2.2.2.1; have hn := C.2.2.2.2.2.2.2.1; have hK := C.2.2.2.2.2.2.2.2.1; have hA := C.2.2.2.2.2.2.2.2.2
  unfold C_runs_J118 at G
  refine lv_iconst (v := 0) hx hb dX0_runs_118 (by decide) ?_
  refine lv_istore_n (lv' := [(3, .int (0 : Int32)), (0, .ref (ad 0)), (1, .ref b), (2, .int x2)]) hx hb dX0_runs_119 rfl hl (by decide) rfl (fun ls hl => ?_)
  obtain ⟨n_42, G⟩ := G
  refine w_C_runs_L120 C (fun were_43 G ls H locs hl hP hD hS => ?_) n_42 _ _ G _ _ _ (lv_sub hl [1, 2, 3, 0] rfl) hP hD hS
  refine lv_iinc (v := (x2 + (1 : Int32))) (lv' := [(2, .int (x2 + (1 : Int32))), (0, .ref (ad 0)), (1, .ref b)]) hx hb dX0_runs_151 hl (k := 2) rfl rfl (by decide) rfl (fun ls hl => ?_)
  refine lv_goto (tgt := 59) hx hb dX0_runs_154 (by decide) ?_
  exact hk59 _ _ _ _ _ _ _ _ _ _ _ _ G _ _ _ (lv_sub hl [1, 2, 0] rfl) hP hD hS
set_option maxHeartbeats 4000000 in
theorem w_C_runs_L59 {p : Program} {l : Launch} {e : Env} {s : State} {m : MethodId} {args : Array Value} {below : List Frame} {meth : Method} {c : Code} {D : va_G} {ad : Nat → Nat} {b : Nat} {bo : Nat} {bt : Nat} {ca : Nat → ClassId} {A : Nat → Prop} {Z : State → Prop} (C : cx cX0_runs 4 none RX0 D vwCl (tyL ca) A p c meth s m args) {kept : Int32} {locks : Int32} {seenMany : Int32} {taped : Int32} {fault : Int32} {costSum : Int64} {safeSum : Int64} {allWays : Int64} {torn : Int32} {lockA : Nat → Int32} {b_blocks : Int32} {b_guarded : Int32} {b_trains : Int32} {b_omen : Nat → Int32} {b_train : Nat → Int32}  {k157 : Int32 → Int32 → Int32 → Int32 → Int32 → Int32 → (Nat → Int32) → (Nat → Int32) → (Nat → Int32) → (Nat → Int32) → (Nat → Int32) → Prop} (hk157 : ∀ (bumpMinute : Int32) (bumpBlock : Int32) (bumpTrains : Int32) (waited : Int32) (keptOut : Int32) (used : Int32) (whr : Nat → Int32) (homes : Nat → Int32) (isSeen : Nat → Int32) (leftA : Nat → Int32) (were : Nat → Int32), k157 bumpMinute bumpBlock bumpTrains waited keptOut used whr homes isSeen leftA were → ∀ (ls : Array Slot) (H : Heap) (locs : List Loc), lv_has ls 4 [] → va_P D vwCl (rW ad b bo bt ca kept locks seenMany bumpMinute bumpBlock bumpTrains waited keptOut used taped fault costSum safeSum allWays torn whr homes isSeen leftA were lockA b_blocks b_guarded b_trains b_omen b_train) H → va_D A (rW ad b bo bt ca kept locks seenMany bumpMinute bumpBlock bumpTrains waited keptOut used taped fault costSum safeSum allWays torn whr homes isSeen leftA were lockA b_blocks b_guarded b_trains b_omen b_train) → va_S A s.heap H locs → W p l e rm_C_runs s m args below meth c H locs 0 0 Z (F0 m 157 ls [])) : ∀ (n : Nat) (bumpMinute : Int32) (bumpBlock : Int32) (bumpTrains : Int32) (waited : Int32) (keptOut : Int32) (used : Int32) (whr : Nat → Int32) (homes : Nat → Int32) (isSeen : Nat → Int32) (leftA : Nat → Int32) (were : Nat → Int32) (x2 : Int32), C_runs_L59 b_blocks b_guarded b_trains b_omen b_train k157 n bumpMinute bumpBlock bumpTrains waited keptOut used whr homes isSeen leftA were x2 → ∀ (ls : Array Slot) (H : Heap) (locs : List Loc), lv_has ls 4 [(0, .ref (ad 0)), (1, .ref b), (2, .int x2)] → va_P D vwCl (rW ad b bo bt ca kept locks seenMany bumpMinute bumpBlock bumpTrains waited keptOut used taped fault costSum safeSum allWays torn whr homes isSeen leftA were lockA b_blocks b_guarded b_trains b_omen b_train) H → va_D A (rW ad b bo bt ca kept locks seenMany bumpMinute bumpBlock bumpTrains waited keptOut used taped fault costSum safeSum allWays torn whr homes isSeen leftA were lockA b_blocks b_guarded b_trains b_omen b_train) → va_S A s.heap H locs → W p l e rm_C_runs s m args below meth c H locs 0 0 Z (F0 m 59 ls []) := by
  have hx := C.1; have hb := C.2.1; have hr := C.2.2.1; have hlocks := C.2.2.2.1; have hml := C.2.2.2.2.1; have hown := C.2.2.2.2.2.1; have hts := C.2.2.2.2.2.2.1; have hn := C.2.2.2.2.2.2.2.1; have hK := C.2.2.2.2.2.2.2.2.1; have hA := C.2.2.2.2.2.2.2.2.2
  intro n
  induction n with
  | zero =>
    intro bumpMinute bumpBlock bumpTrains waited keptOut used whr homes isSeen leftA were x2 G
    exact False.elim G
  | succ n ih =>
    intro bumpMinute bumpBlock bumpTrains waited keptOut used whr homes isSeen leftA were x2 G ls H locs hl hP hD hS
    unfold C_runs_L59 at G
    have hk59 := ih
    refine lv_iload_n hx hb dX0_runs_59 rfl (lv_at hl 2 rfl) ?_
    refine lv_bipush (v := 120) hx hb dX0_runs_60 (by decide) ?_
    refine lv_icmp_ge (tgt := 157) hx hb dX0_runs_62 (by decide) (fun c_9 => ?_) (fun c_9 => ?_)
    · have G := G.1 c_9
      exact hk157 _ _ _ _ _ _ _ _ _ _ _ G _ _ _ (lv_sub hl [] rfl) hP hD hS
    · have G := G.2 c_9
      refine lv_iconst (v := 0) hx hb dX0_runs_65 (by decide) ?_
      refine lv_istore_n (lv' := [(3, .int (0 : Int32)), (0, .ref (ad 0)), (1, .ref b), (2, .int x2)]) hx hb dX0_runs_66 rfl hl (by decide) rfl (fun ls hl => ?_)
      obtain ⟨n_28, G⟩ := G
      refine w_C_runs_L67 C (fun bumpMinute_29 bumpBlock_30 bumpTrains_31 waited_32 keptOut_33 used_34 whr_35 homes_36 isSeen_37 leftA_38 G ls H locs hl hP hD hS => ?_) n_28 _ _ _ _ _ _ _ _ _ _ _ G _ _ _ (lv_sub hl [1, 2, 3, 0] rfl) hP hD hS
      exact w_C_runs_J118 C hk59 hk157 G (lv_sub hl [0, 1, 2] rfl) hP hD hS
set_option maxHeartbeats 4000000 in
theorem met_C_runs (l : Launch) (D : va_G) (ad : Nat → Nat) (b : Nat) (bo : Nat) (bt : Nat) (ca : Nat → ClassId) (sz : Nat) (kept : Int32) (locks : Int32) (seenMany : Int32) (bumpMinute : Int32) (bumpBlock : Int32) (bumpTrains : Int32) (waited : Int32) (keptOut : Int32) (used : Int32) (taped : Int32) (fault : Int32) (costSum : Int64) (safeSum : Int64) (allWays : Int64) (torn : Int32) (whr : Nat → Int32) (homes : Nat → Int32) (isSeen : Nat → Int32) (leftA : Nat → Int32) (were : Nat → Int32) (lockA : Nat → Int32) (b_blocks : Int32) (b_guarded : Int32) (b_trains : Int32) (b_omen : Nat → Int32) (b_train : Nat → Int32)  (Q : Int32 → Int32 → Int32 → Int32 → Int32 → Int32 → (Nat → Int32) → (Nat → Int32) → (Nat → Int32) → (Nat → Int32) → (Nat → Int32) → Prop) (G : C_runs bumpMinute bumpBlock bumpTrains waited keptOut used whr homes isSeen leftA were b_blocks b_guarded b_trains b_omen b_train Q) : Met l yX0_runs (ws_ yX0_runs cX0_runs 4 none) rm_C_runs (va_Pc [.ref (ad 0), .ref b] (wpre D vwCl (tyL ca) (rW ad b bo bt ca kept locks seenMany bumpMinute bumpBlock bumpTrains waited keptOut used taped fault costSum safeSum allWays torn whr homes isSeen leftA were lockA b_blocks b_guarded b_trains b_omen b_train) sz)) (va_Qv (fun (u : Int32 × Int32 × Int32 × Int32 × Int32 × Int32 × (Nat → Int32) × (Nat → Int32) × (Nat → Int32) × (Nat → Int32) × (Nat → Int32)) => Q u.1 u.2.1 u.2.2.1 u.2.2.2.1 u.2.2.2.2.1 u.2.2.2.2.2.1 u.2.2.2.2.2.2.1 u.2.2.2.2.2.2.2.1 u.2.2.2.2.2.2.2.2.1 u.2.2.2.2.2.2.2.2.2.1 u.2.2.2.2.2.2.2.2.2.2) (wpost D vwCl (va_A (rW ad b bo bt ca kept locks seenMany bumpMinute bumpBlock bumpTrains waited keptOut used taped fault costSum safeSum allWays torn whr homes isSeen leftA were lockA b_blocks b_guarded b_trains b_omen b_train) sz) (fun (u : Int32 × Int32 × Int32 × Int32 × Int32 × Int32 × (Nat → Int32) × (Nat → Int32) × (Nat → Int32) × (Nat → Int32) × (Nat → Int32)) => (rW ad b bo bt ca kept locks seenMany u.1 u.2.1 u.2.2.1 u.2.2.2.1 u.2.2.2.2.1 u.2.2.2.2.2.1 taped fault costSum safeSum allWays torn u.2.2.2.2.2.2.1 u.2.2.2.2.2.2.2.1 u.2.2.2.2.2.2.2.2.1 u.2.2.2.2.2.2.2.2.2.1 u.2.2.2.2.2.2.2.2.2.2 lockA b_blocks b_guarded b_trains b_omen b_train))) (va_A (rW ad b bo bt ca kept locks seenMany bumpMinute bumpBlock bumpTrains waited keptOut used taped fault costSum safeSum allWays torn whr homes isSeen leftA were lockA b_blocks b_guarded b_trains b_omen b_train) sz)) 0 0 (va_A (rW ad b bo bt ca kept locks seenMany bumpMinute bumpBlock bumpTrains waited keptOut used taped fault costSum safeSum allWays torn whr homes isSeen leftA were lockA b_blocks b_guarded b_trains b_omen b_train) sz) := by
  refine met_of (fun A => (va_Qv (fun (u : Int32 × Int32 × Int32 × Int32 × Int32 × Int32 × (Nat → Int32) × (Nat → Int32) × (Nat → Int32) × (Nat → Int32) × (Nat → Int32)) => Q u.1 u.2.1 u.2.2.1 u.2.2.2.1 u.2.2.2.2.1 u.2.2.2.2.2.1 u.2.2.2.2.2.2.1 u.2.2.2.2.2.2.2.1 u.2.2.2.2.2.2.2.2.1 u.2.2.2.2.2.2.2.2.2.1 u.2.2.2.2.2.2.2.2.2.2) (wpost D vwCl A (fun (u : Int32 × Int32 × Int32 × Int32 × Int32 × Int32 × (Nat → Int32) × (Nat → Int32) × (Nat → Int32) × (Nat → Int32) × (Nat → Int32)) => (rW ad b bo bt ca kept locks seenMany u.1 u.2.1 u.2.2.1 u.2.2.2.1 u.2.2.2.2.1 u.2.2.2.2.2.1 taped fault costSum safeSum allWays torn u.2.2.2.2.2.2.1 u.2.2.2.2.2.2.2.1 u.2.2.2.2.2.2.2.2.1 u.2.2.2.2.2.2.2.2.2.1 u.2.2.2.2.2.2.2.2.2.2 lockA b_blocks b_guarded b_trains b_omen b_train))) A)) (by decide) (Nat.le_of_ble_eq_true rfl) ?_
  intro p e s m args below meth c Z A hZ C H locs hP hD hS ls hl
  have hx := C.1; have hb := C.2.1; have hr := C.2.2.1; have hlocks := C.2.2.2.1; have hml := C.2.2.2.2.1; have hown := C.2.2.2.2.2.1; have hts := C.2.2.2.2.2.2.1; have hn := C.2.2.2.2.2.2.2.1; have hK := C.2.2.2.2.2.2.2.2.1; have hA := C.2.2.2.2.2.2.2.2.2
  have hl : lv_has ls 4 [(0, .ref (ad 0)), (1, .ref b)] := hl
  unfold C_runs at G
  refine lv_aload_n hx hb dX0_runs_0 rfl (lv_at hl 0 rfl) ?_
  refine lv_bipush (v := -4) hx hb dX0_runs_1 (by decide) ?_
  refine va_put hx hb hts in_X0 tyX0 tyX0_ok nmX0 hown hK hP hD hS 0 rfl rfl 14 (by decide) (hts _ q191) (fun _ h => h) rfl (tyX0_ok 14 (by decide)) rfl rfl (Nat.le_of_ble_eq_true rfl) dX0_runs_3 (fun H locs hP hD hS => ?_)
  have hP : va_P D vwCl (rW ad b bo bt ca kept locks seenMany (-4 : Int32) bumpBlock bumpTrains waited keptOut used taped fault costSum safeSum allWays torn whr homes isSeen leftA were lockA b_blocks b_guarded b_trains b_omen b_train) H := hP
  have hD : va_D A (rW ad b bo bt ca kept locks seenMany (-4 : Int32) bumpBlock bumpTrains waited keptOut used taped fault costSum safeSum allWays torn whr homes isSeen leftA were lockA b_blocks b_guarded b_trains b_omen b_train) := hD
  refine lv_aload_n hx hb dX0_runs_6 rfl (lv_at hl 0 rfl) ?_
  refine lv_iconst (v := 0) hx hb dX0_runs_7 (by decide) ?_
  refine va_put hx hb hts in_X0 tyX0 tyX0_ok nmX0 hown hK hP hD hS 0 rfl rfl 17 (by decide) (hts _ q194) (fun _ h => h) rfl (tyX0_ok 17 (by decide)) rfl rfl (Nat.le_of_ble_eq_true rfl) dX0_runs_8 (fun H locs hP hD hS => ?_)
  have hP : va_P D vwCl (rW ad b bo bt ca kept locks seenMany (-4 : Int32) bumpBlock bumpTrains (0 : Int32) keptOut used taped fault costSum safeSum allWays torn whr homes isSeen leftA were lockA b_blocks b_guarded b_trains b_omen b_train) H := hP
  have hD : va_D A (rW ad b bo bt ca kept locks seenMany (-4 : Int32) bumpBlock bumpTrains (0 : Int32) keptOut used taped fault costSum safeSum allWays torn whr homes isSeen leftA were lockA b_blocks b_guarded b_trains b_omen b_train) := hD
  refine lv_aload_n hx hb dX0_runs_11 rfl (lv_at hl 0 rfl) ?_
  refine lv_iconst (v := 0) hx hb dX0_runs_12 (by decide) ?_
  refine va_put hx hb hts in_X0 tyX0 tyX0_ok nmX0 hown hK hP hD hS 0 rfl rfl 18 (by decide) (hts _ q195) (fun _ h => h) rfl (tyX0_ok 18 (by decide)) rfl rfl (Nat.le_of_ble_eq_true rfl) dX0_runs_13 (fun H locs hP hD hS => ?_)
  have hP : va_P D vwCl (rW ad b bo bt ca kept locks seenMany (-4 : Int32) bumpBlock bumpTrains (0 : Int32) (0 : Int32) used taped fault costSum safeSum allWays torn whr homes isSeen leftA were lockA b_blocks b_guarded b_trains b_omen b_train) H := hP
  have hD : va_D A (rW ad b bo bt ca kept locks seenMany (-4 : Int32) bumpBlock bumpTrains (0 : Int32) (0 : Int32) used taped fault costSum safeSum allWays torn whr homes isSeen leftA were lockA b_blocks b_guarded b_trains b_omen b_train) := hD
  refine lv_aload_n hx hb dX0_runs_16 rfl (lv_at hl 0 rfl) ?_
  refine lv_iconst (v := 0) hx hb dX0_runs_17 (by decide) ?_
  refine va_put hx hb hts in_X0 tyX0 tyX0_ok nmX0 hown hK hP hD hS 0 rfl rfl 19 (by decide) (hts _ q196) (fun _ h => h) rfl (tyX0_ok 19 (by decide)) rfl rfl (Nat.le_of_ble_eq_true rfl) dX0_runs_18 (fun H locs hP hD hS => ?_)
  have hP : va_P D vwCl (rW ad b bo bt ca kept locks seenMany (-4 : Int32) bumpBlock bumpTrains (0 : Int32) (0 : Int32) (0 : Int32) taped fault costSum safeSum allWays torn whr homes isSeen leftA were lockA b_blocks b_guarded b_trains b_omen b_train) H := hP
  have hD : va_D A (rW ad b bo bt ca kept locks seenMany (-4 : Int32) bumpBlock bumpTrains (0 : Int32) (0 : Int32) (0 : Int32) taped fault costSum safeSum allWays torn whr homes isSeen leftA were lockA b_blocks b_guarded b_trains b_omen b_train) := hD
  refine lv_iconst (v := 0) hx hb dX0_runs_21 (by decide) ?_
  refine lv_istore_n (lv' := [(2, .int (0 : Int32)), (0, .ref (ad 0)), (1, .ref b)]) hx hb dX0_runs_22 rfl hl (by decide) rfl (fun ls hl => ?_)
  obtain ⟨n_5, G⟩ := G
  refine w_C_runs_L23 C (fun whr_6 homes_7 isSeen_8 G ls H locs hl hP hD hS => ?_) n_5 _ _ _ _ G _ _ _ (lv_sub hl [1, 2, 0] rfl) hP hD hS
  refine lv_iconst (v := 0) hx hb dX0_runs_57 (by decide) ?_
  refine lv_istore_n (lv' := [(2, .int (0 : Int32)), (0, .ref (ad 0)), (1, .ref b)]) hx hb dX0_runs_58 rfl hl (by decide) rfl (fun ls hl => ?_)
  obtain ⟨n_44, G⟩ := G
  refine w_C_runs_L59 C (fun bumpMinute_45 bumpBlock_46 bumpTrains_47 waited_48 keptOut_49 used_50 whr_51 homes_52 isSeen_53 leftA_54 were_55 G ls H locs hl hP hD hS => ?_) n_44 _ _ _ _ _ _ _ _ _ _ _ _ G _ _ _ (lv_sub hl [1, 2, 0] rfl) hP hD hS
  rw [hZ]
  exact W.vret hx hb hr (fun t ht hW => ⟨⟨(bumpMinute_45, bumpBlock_46, bumpTrains_47, waited_48, keptOut_49, used_50, whr_51, homes_52, isSeen_53, leftA_54, were_55), rfl, G, by rw [ht]; exact hP, hD⟩, hS.F ht⟩) hS.2.2 dX0_runs_157 hlocks
abbrev rm_C_cost : Room := { frames := 2, cells := 0, slots := 0, locals := 22 }
set_option maxHeartbeats 4000000 in
theorem w_C_cost_L4 {p : Program} {l : Launch} {e : Env} {s : State} {m : MethodId} {args : Array Value} {below : List Frame} {meth : Method} {c : Code} {D : va_G} {ad : Nat → Nat} {b : Nat} {bo : Nat} {bt : Nat} {ca : Nat → ClassId} {A : Nat → Prop} {Z : State → Prop} (C : cx cX0_cost 4 (some .int) RX0 D vwCl (tyL ca) A p c meth s m args) {kept : Int32} {locks : Int32} {seenMany : Int32} {bumpMinute : Int32} {bumpBlock : Int32} {bumpTrains : Int32} {waited : Int32} {keptOut : Int32} {used : Int32} {taped : Int32} {fault : Int32} {costSum : Int64} {safeSum : Int64} {allWays : Int64} {torn : Int32} {whr : Nat → Int32} {homes : Nat → Int32} {isSeen : Nat → Int32} {leftA : Nat → Int32} {were : Nat → Int32} {lockA : Nat → Int32} {b_blocks : Int32} {b_guarded : Int32} {b_trains : Int32} {b_omen : Nat → Int32} {b_train : Nat → Int32}  {k50 : Int32 → Prop} (hk50 : ∀ (x2 : Int32), k50 x2 → ∀ (ls : Array Slot) (H : Heap) (locs : List Loc), lv_has ls 4 [(2, .int x2)] → va_P D vwCl (rW ad b bo bt ca kept locks seenMany bumpMinute bumpBlock bumpTrains waited keptOut used taped fault costSum safeSum allWays torn whr homes isSeen leftA were lockA b_blocks b_guarded b_trains b_omen b_train) H → va_D A (rW ad b bo bt ca kept locks seenMany bumpMinute bumpBlock bumpTrains waited keptOut used taped fault costSum safeSum allWays torn whr homes isSeen leftA were lockA b_blocks b_guarded b_trains b_omen b_train) → va_S A s.heap H locs → W p l e rm_C_cost s m args below meth c H locs 0 0 Z (F0 m 50 ls [])) : ∀ (n : Nat) (x2 : Int32) (x3 : Int32), C_cost_L4 homes b_trains b_train k50 n x2 x3 → ∀ (ls : Array Slot) (H : Heap) (locs : List Loc), lv_has ls 4 [(0, .ref (ad 0)), (1, .ref b), (2, .int x2), (3, .int x3)] → va_P D vwCl (rW ad b bo bt ca kept locks seenMany bumpMinute bumpBlock bumpTrains waited keptOut used taped fault costSum safeSum allWays torn whr homes isSeen leftA were lockA b_blocks b_guarded b_trains b_omen b_train) H → va_D A (rW ad b bo bt ca kept locks seenMany bumpMinute bumpBlock bumpTrains waited keptOut used taped fault costSum safeSum allWays torn whr homes isSeen leftA were lockA b_blocks b_guarded b_trains b_omen b_train) → va_S A s.heap H locs → W p l e rm_C_cost s m args below meth c H locs 0 0 Z (F0 m 4 ls []) := by
  have hx := C.1; have hb := C.2.1; have hr := C.2.2.1; have hlocks := C.2.2.2.1; have hml := C.2.2.2.2.1; have hown := C.2.2.2.2.2.1; have hts := C.2.2.2.2.2.2.1; have hn := C.2.2.2.2.2.2.2.1; have hK := C.2.2.2.2.2.2.2.2.1; have hA := C.2.2.2.2.2.2.2.2.2
  intro n
  induction n with
  | zero =>
    intro x2 x3 G
    exact False.elim G
  | succ n ih =>
    intro x2 x3 G ls H locs hl hP hD hS
    unfold C_cost_L4 at G
    have hk4 := ih
    refine lv_iload_n hx hb dX0_cost_4 rfl (lv_at hl 3 rfl) ?_
    refine lv_aload_n hx hb dX0_cost_5 rfl (lv_at hl 1 rfl) ?_
    refine va_getN hx hb hts in_X5 hown hK hP 12 rfl rfl 3 (by decide) (va_Nw.use rfl (hn _ q146 rfl)) (fun _ h => h) rfl dX0_cost_6 ?_
    refine lv_icmp_ge (tgt := 50) hx hb dX0_cost_9 (by decide) (fun c_1 => ?_) (fun c_1 => ?_)
    · have G := G.1 c_1
      exact hk50 _ G _ _ _ (lv_sub hl [2] rfl) hP hD hS
    · have G := G.2 c_1
      refine lv_iload_n hx hb dX0_cost_12 rfl (lv_at hl 2 rfl) ?_
      refine lv_aload_n hx hb dX0_cost_13 rfl (lv_at hl 0 rfl) ?_
      refine va_get hx hb hts in_X0 hown hK hP 0 rfl rfl 10 (by decide) (hts _ q187) (fun _ h => h) rfl dX0_cost_14 ?_
      refine lv_iload_n hx hb dX0_cost_17 rfl (lv_at hl 3 rfl) ?_
      obtain ⟨h_2, G⟩ := G
      refine va_iald hx hb hK hP 7 0 rfl rfl h_2 dX0_cost_18 ?_
      refine lv_bipush (v := -4) hx hb dX0_cost_19 (by decide) ?_
      obtain ⟨h_4, G⟩ := G
      have hJ : ∀ (H : Heap) (locs : List Loc), va_P D vwCl (rW ad b bo bt ca kept locks seenMany bumpMinute bumpBlock bumpTrains waited keptOut used taped fault costSum safeSum allWays torn whr homes isSeen leftA were lockA b_blocks b_guarded b_trains b_omen b_train) H → va_D A (rW ad b bo bt ca kept locks seenMany bumpMinute bumpBlock bumpTrains waited keptOut used taped fault costSum safeSum allWays torn whr homes isSeen leftA were lockA b_blocks b_guarded b_trains b_omen b_train) → va_S A s.heap H locs → ∀ v_7 : Int32, v_7 = (if (homes x3.toNatClampNeg) = (-4 : Int32) then (120 : Int32) else (homes x3.toNatClampNeg)) → W p l e rm_C_cost s m args below meth c H locs 0 0 Z (F0 m 35 ls (.int v_7 :: [.int x2])) := by
        intro H locs hP hD hS v_7 hv
        subst hv
        refine lv_aload_n hx hb dX0_cost_35 rfl (lv_at hl 1 rfl) ?_
        refine lv_iload_n hx hb dX0_cost_36 rfl (lv_at hl 3 rfl) ?_
        refine lv_iconst (v := 3) hx hb dX0_cost_37 (by decide) ?_
        obtain ⟨h_5, G⟩ := G
        refine wc_Vik (As := [.int x3, .int (3 : Int32)]) (rest := [.int (if (homes x3.toNatClampNeg) = (-4 : Int32) then (120 : Int32) else (homes x3.toNatClampNeg)), .int x2]) C (met_B_of l D b bo bt ca H.size b_blocks b_guarded b_trains b_omen b_train x3 (3 : Int32) h_5) (cwV 2 hts (lw_V q600 q601 q602 q73 q603) rfl rfl rfl (by decide +kernel) ⟨Nat.le_of_ble_eq_true rfl, Nat.le_of_ble_eq_true rfl⟩) hP hD hS [12, 13, 14] rfl (by decide) 12 rfl rfl rfl rfl hl.1 (Nat.le_of_ble_eq_true rfl) dX0_cost_38 ⟨Nat.le_of_ble_eq_true rfl, Nat.le_of_ble_eq_true rfl⟩ (fun r_6 u H locs hr hP hD hS => ?_)
        subst hr
        refine lv_imul hx hb dX0_cost_41 ?_
        refine lv_iadd hx hb dX0_cost_42 ?_
        refine lv_istore_n (lv' := [(2, .int (x2 + ((if (homes x3.toNatClampNeg) = (-4 : Int32) then (120 : Int32) else (homes x3.toNatClampNeg)) * (B_of_e b_train x3 (3 : Int32))))), (0, .ref (ad 0)), (1, .ref b), (3, .int x3)]) hx hb dX0_cost_43 rfl hl (by decide) rfl (fun ls hl => ?_)
        refine lv_iinc (v := (x3 + (1 : Int32))) (lv' := [(3, .int (x3 + (1 : Int32))), (2, .int (x2 + ((if (homes x3.toNatClampNeg) = (-4 : Int32) then (120 : Int32) else (homes x3.toNatClampNeg)) * (B_of_e b_train x3 (3 : Int32))))), (0, .ref (ad 0)), (1, .ref b)]) hx hb dX0_cost_44 hl (k := 3) rfl rfl (by decide) rfl (fun ls hl => ?_)
        refine lv_goto (tgt := 4) hx hb dX0_cost_47 (by decide) ?_
        exact hk4 _ _ G _ _ _ (lv_sub hl [2, 3, 1, 0] rfl) hP hD hS
      refine lv_icmp_ne (tgt := 29) hx hb dX0_cost_21 (by decide) (fun c_3 => ?_) (fun c_3 => ?_)
      · refine lv_aload_n hx hb dX0_cost_29 rfl (lv_at hl 0 rfl) ?_
        refine va_get hx hb hts in_X0 hown hK hP 0 rfl rfl 10 (by decide) (hts _ q187) (fun _ h => h) rfl dX0_cost_30 ?_
        refine lv_iload_n hx hb dX0_cost_33 rfl (lv_at hl 3 rfl) ?_
        refine va_iald hx hb hK hP 7 0 rfl rfl (h_4 c_3) dX0_cost_34 ?_
        exact hJ _ _ hP hD hS _ (eF c_3 rfl)
      · refine lv_bipush (v := 120) hx hb dX0_cost_24 (by decide) ?_
        refine lv_goto (tgt := 35) hx hb dX0_cost_26 (by decide) ?_
        exact hJ _ _ hP hD hS _ (eT c_3 rfl)
set_option maxHeartbeats 4000000 in
theorem met_C_cost (l : Launch) (D : va_G) (ad : Nat → Nat) (b : Nat) (bo : Nat) (bt : Nat) (ca : Nat → ClassId) (sz : Nat) (kept : Int32) (locks : Int32) (seenMany : Int32) (bumpMinute : Int32) (bumpBlock : Int32) (bumpTrains : Int32) (waited : Int32) (keptOut : Int32) (used : Int32) (taped : Int32) (fault : Int32) (costSum : Int64) (safeSum : Int64) (allWays : Int64) (torn : Int32) (whr : Nat → Int32) (homes : Nat → Int32) (isSeen : Nat → Int32) (leftA : Nat → Int32) (were : Nat → Int32) (lockA : Nat → Int32) (b_blocks : Int32) (b_guarded : Int32) (b_trains : Int32) (b_omen : Nat → Int32) (b_train : Nat → Int32)  (Q : Int32 → Prop) (G : C_cost homes b_trains b_train Q) : Met l yX0_cost (ws_ yX0_cost cX0_cost 4 (some .int)) rm_C_cost (va_Pc [.ref (ad 0), .ref b] (wpre D vwCl (tyL ca) (rW ad b bo bt ca kept locks seenMany bumpMinute bumpBlock bumpTrains waited keptOut used taped fault costSum safeSum allWays torn whr homes isSeen leftA were lockA b_blocks b_guarded b_trains b_omen b_train) sz)) (va_Qi (fun (r : Int32) (u : Unit) => Q r) (wpost D vwCl (va_A (rW ad b bo bt ca kept locks seenMany bumpMinute bumpBlock bumpTrains waited keptOut used taped fault costSum safeSum allWays torn whr homes isSeen leftA were lockA b_blocks b_guarded b_trains b_omen b_train) sz) (fun (u : Unit) => (rW ad b bo bt ca kept locks seenMany bumpMinute bumpBlock bumpTrains waited keptOut used taped fault costSum safeSum allWays torn whr homes isSeen leftA were lockA b_blocks b_guarded b_trains b_omen b_train))) (va_A (rW ad b bo bt ca kept locks seenMany bumpMinute bumpBlock bumpTrains waited keptOut used taped fault costSum safeSum allWays torn whr homes isSeen leftA were lockA b_blocks b_guarded b_trains b_omen b_train) sz)) 0 0 (va_A (rW ad b bo bt ca kept locks seenMany bumpMinute bumpBlock bumpTrains waited keptOut used taped fault costSum safeSum allWays torn whr homes isSeen leftA were lockA b_blocks b_guarded b_trains b_omen b_train) sz) := by
  refine met_of (fun A => (va_Qi (fun (r : Int32) (u : Unit) => Q r) (wpost D vwCl A (fun (u : Unit) => (rW ad b bo bt ca kept locks seenMany bumpMinute bumpBlock bumpTrains waited keptOut used taped fault costSum safeSum allWays torn whr homes isSeen leftA were lockA b_blocks b_guarded b_trains b_omen b_train))) A)) (by decide) (Nat.le_of_ble_eq_true rfl) ?_
  intro p e s m args below meth c Z A hZ C H locs hP hD hS ls hl
  have hx := C.1; have hb := C.2.1; have hr := C.2.2.1; have hlocks := C.2.2.2.1; have hml := C.2.2.2.2.1; have hown := C.2.2.2.2.2.1; have hts := C.2.2.2.2.2.2.1; have hn := C.2.2.2.2.2.2.2.1; have hK := C.2.2.2.2.2.2.2.2.1; have hA := C.2.2.2.2.2.2.2.2.2
  have hl : lv_has ls 4 [(0, .ref (ad 0)), (1, .ref b)] := hl
  unfold C_cost at G
  refine lv_iconst (v := 0) hx hb dX0_cost_0 (by decide) ?_
  refine lv_istore_n (lv' := [(2, .int (0 : Int32)), (0, .ref (ad 0)), (1, .ref b)]) hx hb dX0_cost_1 rfl hl (by decide) rfl (fun ls hl => ?_)
  refine lv_iconst (v := 0) hx hb dX0_cost_2 (by decide) ?_
  refine lv_istore_n (lv' := [(3, .int (0 : Int32)), (2, .int (0 : Int32)), (0, .ref (ad 0)), (1, .ref b)]) hx hb dX0_cost_3 rfl hl (by decide) rfl (fun ls hl => ?_)
  obtain ⟨n_8, G⟩ := G
  refine w_C_cost_L4 C (fun x2_9 G ls H locs hl hP hD hS => ?_) n_8 _ _ G _ _ _ (lv_sub hl [2, 3, 1, 0] rfl) hP hD hS
  refine lv_iload_n hx hb dX0_cost_50 rfl (lv_at hl 0 rfl) ?_
  rw [hZ]
  exact W.iret hx hb hr (fun t ht hW => ⟨⟨x2_9, (), rfl, G, by rw [ht]; exact hP, hD⟩, hS.F ht⟩) hS.2.2 dX0_cost_51 hlocks
abbrev rm_C_homed : Room := { frames := 1, cells := 0, slots := 0, locals := 0 }
set_option maxHeartbeats 4000000 in
theorem w_C_homed_L4 {p : Program} {l : Launch} {e : Env} {s : State} {m : MethodId} {args : Array Value} {below : List Frame} {meth : Method} {c : Code} {D : va_G} {ad : Nat → Nat} {b : Nat} {bo : Nat} {bt : Nat} {ca : Nat → ClassId} {A : Nat → Prop} {Z : State → Prop} (C : cx cX0_homed 4 (some .int) RX0 D vwCl (tyL ca) A p c meth s m args) {kept : Int32} {locks : Int32} {seenMany : Int32} {bumpMinute : Int32} {bumpBlock : Int32} {bumpTrains : Int32} {waited : Int32} {keptOut : Int32} {used : Int32} {taped : Int32} {fault : Int32} {costSum : Int64} {safeSum : Int64} {allWays : Int64} {torn : Int32} {whr : Nat → Int32} {homes : Nat → Int32} {isSeen : Nat → Int32} {leftA : Nat → Int32} {were : Nat → Int32} {lockA : Nat → Int32} {b_blocks : Int32} {b_guarded : Int32} {b_trains : Int32} {b_omen : Nat → Int32} {b_train : Nat → Int32}  {k37 : Int32 → Prop} (hk37 : ∀ (x2 : Int32), k37 x2 → ∀ (ls : Array Slot) (H : Heap) (locs : List Loc), lv_has ls 4 [(2, .int x2)] → va_P D vwCl (rW ad b bo bt ca kept locks seenMany bumpMinute bumpBlock bumpTrains waited keptOut used taped fault costSum safeSum allWays torn whr homes isSeen leftA were lockA b_blocks b_guarded b_trains b_omen b_train) H → va_D A (rW ad b bo bt ca kept locks seenMany bumpMinute bumpBlock bumpTrains waited keptOut used taped fault costSum safeSum allWays torn whr homes isSeen leftA were lockA b_blocks b_guarded b_trains b_omen b_train) → va_S A s.heap H locs → W p l e rm_C_homed s m args below meth c H locs 0 0 Z (F0 m 37 ls [])) : ∀ (n : Nat) (x2 : Int32) (x3 : Int32), C_homed_L4 homes b_trains k37 n x2 x3 → ∀ (ls : Array Slot) (H : Heap) (locs : List Loc), lv_has ls 4 [(0, .ref (ad 0)), (1, .ref b), (2, .int x2), (3, .int x3)] → va_P D vwCl (rW ad b bo bt ca kept locks seenMany bumpMinute bumpBlock bumpTrains waited keptOut used taped fault costSum safeSum allWays torn whr homes isSeen leftA were lockA b_blocks b_guarded b_trains b_omen b_train) H → va_D A (rW ad b bo bt ca kept locks seenMany bumpMinute bumpBlock bumpTrains waited keptOut used taped fault costSum safeSum allWays torn whr homes isSeen leftA were lockA b_blocks b_guarded b_trains b_omen b_train) → va_S A s.heap H locs → W p l e rm_C_homed s m args below meth c H locs 0 0 Z (F0 m 4 ls []) := by
  have hx := C.1; have hb := C.2.1; have hr := C.2.2.1; have hlocks := C.2.2.2.1; have hml := C.2.2.2.2.1; have hown := C.2.2.2.2.2.1; have hts := C.2.2.2.2.2.2.1; have hn := C.2.2.2.2.2.2.2.1; have hK := C.2.2.2.2.2.2.2.2.1; have hA := C.2.2.2.2.2.2.2.2.2
  intro n
  induction n with
  | zero =>
    intro x2 x3 G
    exact False.elim G
  | succ n ih =>
    intro x2 x3 G ls H locs hl hP hD hS
    unfold C_homed_L4 at G
    have hk4 := ih
    refine lv_iload_n hx hb dX0_homed_4 rfl (lv_at hl 3 rfl) ?_
    refine lv_aload_n hx hb dX0_homed_5 rfl (lv_at hl 1 rfl) ?_
    refine va_getN hx hb hts in_X5 hown hK hP 12 rfl rfl 3 (by decide) (va_Nw.use rfl (hn _ q146 rfl)) (fun _ h => h) rfl dX0_homed_6 ?_
    refine lv_icmp_ge (tgt := 37) hx hb dX0_homed_9 (by decide) (fun c_1 => ?_) (fun c_1 => ?_)
    · have G := G.1 c_1
      exact hk37 _ G _ _ _ (lv_sub hl [2] rfl) hP hD hS
    · have G := G.2 c_1
      refine lv_iload_n hx hb dX0_homed_12 rfl (lv_at hl 2 rfl) ?_
      refine lv_aload_n hx hb dX0_homed_13 rfl (lv_at hl 0 rfl) ?_
      refine va_get hx hb hts in_X0 hown hK hP 0 rfl rfl 10 (by decide) (hts _ q187) (fun _ h => h) rfl dX0_homed_14 ?_
      refine lv_iload_n hx hb dX0_homed_17 rfl (lv_at hl 3 rfl) ?_
      obtain ⟨h_2, G⟩ := G
      refine va_iald hx hb hK hP 7 0 rfl rfl h_2 dX0_homed_18 ?_
      refine lv_bipush (v := -4) hx hb dX0_homed_19 (by decide) ?_
      have hJ : ∀ (H : Heap) (locs : List Loc), va_P D vwCl (rW ad b bo bt ca kept locks seenMany bumpMinute bumpBlock bumpTrains waited keptOut used taped fault costSum safeSum allWays torn whr homes isSeen leftA were lockA b_blocks b_guarded b_trains b_omen b_train) H → va_D A (rW ad b bo bt ca kept locks seenMany bumpMinute bumpBlock bumpTrains waited keptOut used taped fault costSum safeSum allWays torn whr homes isSeen leftA were lockA b_blocks b_guarded b_trains b_omen b_train) → va_S A s.heap H locs → ∀ v_4 : Int32, v_4 = (if (homes x3.toNatClampNeg) = (-4 : Int32) then (0 : Int32) else (1 : Int32)) → W p l e rm_C_homed s m args below meth c H locs 0 0 Z (F0 m 29 ls (.int v_4 :: [.int x2])) := by
        intro H locs hP hD hS v_4 hv
        subst hv
        refine lv_iadd hx hb dX0_homed_29 ?_
        refine lv_istore_n (lv' := [(2, .int (x2 + (if (homes x3.toNatClampNeg) = (-4 : Int32) then (0 : Int32) else (1 : Int32)))), (0, .ref (ad 0)), (1, .ref b), (3, .int x3)]) hx hb dX0_homed_30 rfl hl (by decide) rfl (fun ls hl => ?_)
        refine lv_iinc (v := (x3 + (1 : Int32))) (lv' := [(3, .int (x3 + (1 : Int32))), (2, .int (x2 + (if (homes x3.toNatClampNeg) = (-4 : Int32) then (0 : Int32) else (1 : Int32)))), (0, .ref (ad 0)), (1, .ref b)]) hx hb dX0_homed_31 hl (k := 3) rfl rfl (by decide) rfl (fun ls hl => ?_)
        refine lv_goto (tgt := 4) hx hb dX0_homed_34 (by decide) ?_
        exact hk4 _ _ G _ _ _ (lv_sub hl [2, 3, 1, 0] rfl) hP hD hS
      refine lv_icmp_ne (tgt := 28) hx hb dX0_homed_21 (by decide) (fun c_3 => ?_) (fun c_3 => ?_)
      · refine lv_iconst (v := 1) hx hb dX0_homed_28 (by decide) ?_
        exact hJ _ _ hP hD hS _ (eF c_3 rfl)
      · refine lv_iconst (v := 0) hx hb dX0_homed_24 (by decide) ?_
        refine lv_goto (tgt := 29) hx hb dX0_homed_25 (by decide) ?_
        exact hJ _ _ hP hD hS _ (eT c_3 rfl)
set_option maxHeartbeats 4000000 in
theorem met_C_homed (l : Launch) (D : va_G) (ad : Nat → Nat) (b : Nat) (bo : Nat) (bt : Nat) (ca : Nat → ClassId) (sz : Nat) (kept : Int32) (locks : Int32) (seenMany : Int32) (bumpMinute : Int32) (bumpBlock : Int32) (bumpTrains : Int32) (waited : Int32) (keptOut : Int32) (used : Int32) (taped : Int32) (fault : Int32) (costSum : Int64) (safeSum : Int64) (allWays : Int64) (torn : Int32) (whr : Nat → Int32) (homes : Nat → Int32) (isSeen : Nat → Int32) (leftA : Nat → Int32) (were : Nat → Int32) (lockA : Nat → Int32) (b_blocks : Int32) (b_guarded : Int32) (b_trains : Int32) (b_omen : Nat → Int32) (b_train : Nat → Int32)  (Q : Int32 → Prop) (G : C_homed homes b_trains Q) : Met l yX0_homed (ws_ yX0_homed cX0_homed 4 (some .int)) rm_C_homed (va_Pc [.ref (ad 0), .ref b] (wpre D vwCl (tyL ca) (rW ad b bo bt ca kept locks seenMany bumpMinute bumpBlock bumpTrains waited keptOut used taped fault costSum safeSum allWays torn whr homes isSeen leftA were lockA b_blocks b_guarded b_trains b_omen b_train) sz)) (va_Qi (fun (r : Int32) (u : Unit) => Q r) (wpost D vwCl (va_A (rW ad b bo bt ca kept locks seenMany bumpMinute bumpBlock bumpTrains waited keptOut used taped fault costSum safeSum allWays torn whr homes isSeen leftA were lockA b_blocks b_guarded b_trains b_omen b_train) sz) (fun (u : Unit) => (rW ad b bo bt ca kept locks seenMany bumpMinute bumpBlock bumpTrains waited keptOut used taped fault costSum safeSum allWays torn whr homes isSeen leftA were lockA b_blocks b_guarded b_trains b_omen b_train))) (va_A (rW ad b bo bt ca kept locks seenMany bumpMinute bumpBlock bumpTrains waited keptOut used taped fault costSum safeSum allWays torn whr homes isSeen leftA were lockA b_blocks b_guarded b_trains b_omen b_train) sz)) 0 0 (va_A (rW ad b bo bt ca kept locks seenMany bumpMinute bumpBlock bumpTrains waited keptOut used taped fault costSum safeSum allWays torn whr homes isSeen leftA were lockA b_blocks b_guarded b_trains b_omen b_train) sz) := by
  refine met_of (fun A => (va_Qi (fun (r : Int32) (u : Unit) => Q r) (wpost D vwCl A (fun (u : Unit) => (rW ad b bo bt ca kept locks seenMany bumpMinute bumpBlock bumpTrains waited keptOut used taped fault costSum safeSum allWays torn whr homes isSeen leftA were lockA b_blocks b_guarded b_trains b_omen b_train))) A)) (by decide) (Nat.le_of_ble_eq_true rfl) ?_
  intro p e s m args below meth c Z A hZ C H locs hP hD hS ls hl
  have hx := C.1; have hb := C.2.1; have hr := C.2.2.1; have hlocks := C.2.2.2.1; have hml := C.2.2.2.2.1; have hown := C.2.2.2.2.2.1; have hts := C.2.2.2.2.2.2.1; have hn := C.2.2.2.2.2.2.2.1; have hK := C.2.2.2.2.2.2.2.2.1; have hA := C.2.2.2.2.2.2.2.2.2
  have hl : lv_has ls 4 [(0, .ref (ad 0)), (1, .ref b)] := hl
  unfold C_homed at G
  refine lv_iconst (v := 0) hx hb dX0_homed_0 (by decide) ?_
  refine lv_istore_n (lv' := [(2, .int (0 : Int32)), (0, .ref (ad 0)), (1, .ref b)]) hx hb dX0_homed_1 rfl hl (by decide) rfl (fun ls hl => ?_)
  refine lv_iconst (v := 0) hx hb dX0_homed_2 (by decide) ?_
  refine lv_istore_n (lv' := [(3, .int (0 : Int32)), (2, .int (0 : Int32)), (0, .ref (ad 0)), (1, .ref b)]) hx hb dX0_homed_3 rfl hl (by decide) rfl (fun ls hl => ?_)
  obtain ⟨n_5, G⟩ := G
  refine w_C_homed_L4 C (fun x2_6 G ls H locs hl hP hD hS => ?_) n_5 _ _ G _ _ _ (lv_sub hl [2, 3, 1, 0] rfl) hP hD hS
  refine lv_iload_n hx hb dX0_homed_37 rfl (lv_at hl 0 rfl) ?_
  rw [hZ]
  exact W.iret hx hb hr (fun t ht hW => ⟨⟨x2_6, (), rfl, G, by rw [ht]; exact hP, hD⟩, hS.F ht⟩) hS.2.2 dX0_homed_38 hlocks
abbrev rm_C_feed : Room := { frames := 2, cells := 0, slots := 0, locals := 25 }
set_option maxHeartbeats 4000000 in
theorem met_C_feed (l : Launch) (D : va_G) (ad : Nat → Nat) (ca : Nat → ClassId) (pl : va_W) (sz : Nat) (kept : Int32) (locks : Int32) (seenMany : Int32) (bumpMinute : Int32) (bumpBlock : Int32) (bumpTrains : Int32) (waited : Int32) (keptOut : Int32) (used : Int32) (taped : Int32) (fault : Int32) (costSum : Int64) (safeSum : Int64) (allWays : Int64) (torn : Int32) (n_blocks : Int32) (n_guarded : Int32) (n_trains : Int32) (n_omen : Nat → Int32) (n_train : Nat → Int32) (t_blocks : Int32) (t_guarded : Int32) (t_trains : Int32) (t_omen : Nat → Int32) (t_train : Nat → Int32) (i0_blocks : Int32) (i0_guarded : Int32) (i0_trains : Int32) (i0_omen : Nat → Int32) (i0_train : Nat → Int32) (i1_blocks : Int32) (i1_guarded : Int32) (i1_trains : Int32) (i1_omen : Nat → Int32) (i1_train : Nat → Int32) (lockA : Nat → Int32) (seenA : Nat → Int32) (whr : Nat → Int32) (homes : Nat → Int32) (isSeen : Nat → Int32) (leftA : Nat → Int32) (were : Nat → Int32) (tape : Nat → Int32) (would : Nat → Int32) (row0 : Option Nat) (row1 : Option Nat) (row2 : Option Nat) (row3 : Option Nat) (x1 : Int32) (Q : Int32 → Int32 → (Nat → Int32) → Prop) (G : C_feed taped tape x1 Q) : Met l yX0_feed (ws_ yX0_feed cX0_feed 2 (some .int)) rm_C_feed (va_Pc [.ref (ad 0), .int x1] (wpre D vwCl (tyL ca) ((oW ad ca kept locks seenMany bumpMinute bumpBlock bumpTrains waited keptOut used taped fault costSum safeSum allWays torn n_blocks n_guarded n_trains n_omen n_train t_blocks t_guarded t_trains t_omen t_train i0_blocks i0_guarded i0_trains i0_omen i0_train i1_blocks i1_guarded i1_trains i1_omen i1_train lockA seenA whr homes isSeen leftA were tape would row0 row1 row2 row3) ++ pl) sz)) (va_Qi (fun (r : Int32) (u : Int32 × (Nat → Int32)) => Q r u.1 u.2) (wpost D vwCl (va_A ((oW ad ca kept locks seenMany bumpMinute bumpBlock bumpTrains waited keptOut used taped fault costSum safeSum allWays torn n_blocks n_guarded n_trains n_omen n_train t_blocks t_guarded t_trains t_omen t_train i0_blocks i0_guarded i0_trains i0_omen i0_train i1_blocks i1_guarded i1_trains i1_omen i1_train lockA seenA whr homes isSeen leftA were tape would row0 row1 row2 row3) ++ pl) sz) (fun (u : Int32 × (Nat → Int32)) => ((oW ad ca kept locks seenMany bumpMinute bumpBlock bumpTrains waited keptOut used u.1 fault costSum safeSum allWays torn n_blocks n_guarded n_trains n_omen n_train t_blocks t_guarded t_trains t_omen t_train i0_blocks i0_guarded i0_trains i0_omen i0_train i1_blocks i1_guarded i1_trains i1_omen i1_train lockA seenA whr homes isSeen leftA were u.2 would row0 row1 row2 row3) ++ pl))) (va_A ((oW ad ca kept locks seenMany bumpMinute bumpBlock bumpTrains waited keptOut used taped fault costSum safeSum allWays torn n_blocks n_guarded n_trains n_omen n_train t_blocks t_guarded t_trains t_omen t_train i0_blocks i0_guarded i0_trains i0_omen i0_train i1_blocks i1_guarded i1_trains i1_omen i1_train lockA seenA whr homes isSeen leftA were tape would row0 row1 row2 row3) ++ pl) sz)) 0 0 (va_A ((oW ad ca kept locks seenMany bumpMinute bumpBlock bumpTrains waited keptOut used taped fault costSum safeSum allWays torn n_blocks n_guarded n_trains n_omen n_train t_blocks t_guarded t_trains t_omen t_train i0_blocks i0_guarded i0_trains i0_omen i0_train i1_blocks i1_guarded i1_trains i1_omen i1_train lockA seenA whr homes isSeen leftA were tape would row0 row1 row2 row3) ++ pl) sz) := by
  refine met_of (fun A => (va_Qi (fun (r : Int32) (u : Int32 × (Nat → Int32)) => Q r u.1 u.2) (wpost D vwCl A (fun (u : Int32 × (Nat → Int32)) => ((oW ad ca kept locks seenMany bumpMinute bumpBlock bumpTrains waited keptOut used u.1 fault costSum safeSum allWays torn n_blocks n_guarded n_trains n_omen n_train t_blocks t_guarded t_trains t_omen t_train i0_blocks i0_guarded i0_trains i0_omen i0_train i1_blocks i1_guarded i1_trains i1_omen i1_train lockA seenA whr homes isSeen leftA were u.2 would row0 row1 row2 row3) ++ pl))) A)) (by decide) (Nat.le_of_ble_eq_true rfl) ?_
  intro p e s m args below meth c Z A hZ C H locs hP hD hS ls hl
  have hx := C.1; have hb := C.2.1; have hr := C.2.2.1; have hlocks := C.2.2.2.1; have hml := C.2.2.2.2.1; have hown := C.2.2.2.2.2.1; have hts := C.2.2.2.2.2.2.1; have hn := C.2.2.2.2.2.2.2.1; have hK := C.2.2.2.2.2.2.2.2.1; have hA := C.2.2.2.2.2.2.2.2.2
  have hl : lv_has ls 2 [(0, .ref (ad 0)), (1, .int x1)] := hl
  unfold C_feed at G
  refine lv_iload_n hx hb dX0_feed_0 rfl (lv_at hl 1 rfl) ?_
  refine lv_i2l hx hb dX0_feed_1 rfl ?_
  refine lv_lconst (v := 0) hx hb dX0_feed_2 (by decide) ?_
  refine lv_ldc2 hx hb hown (hts _ q270) dX0_feed_3 ?_
  refine wc_Sik (As := [.long ((x1).toInt64), .long (0 : Int64), .long (127 : Int64)]) (rest := []) C (met_C_in l D ca H.size ((x1).toInt64) (0 : Int64) (127 : Int64)) (va_cwS 3 hts (lw_S q271 q272 q68 q273) rfl rfl rfl (by decide +kernel) ⟨Nat.le_of_ble_eq_true rfl, Nat.le_of_ble_eq_true rfl⟩) hP hD hS [] rfl (by decide) rfl rfl hl.1 (Nat.le_of_ble_eq_true rfl) dX0_feed_6 ⟨Nat.le_of_ble_eq_true rfl, Nat.le_of_ble_eq_true rfl⟩ (fun r_1 u H locs hr hP hD hS => ?_)
  subst hr
  refine lv_if_ne (tgt := 14) hx hb dX0_feed_9 (by decide) (fun c_2 => ?_) (fun c_2 => ?_)
  · have G := G.2 c_2
    refine lv_aload_n hx hb dX0_feed_14 rfl (lv_at hl 0 rfl) ?_
    refine va_get hx hb hts in_X0 hown hK hP 0 rfl rfl 21 (by decide) (hts _ q199) (fun _ h => h) rfl dX0_feed_15 ?_
    refine lv_sipush (v := 160) hx hb dX0_feed_18 (by decide) ?_
    refine lv_icmp_ne (tgt := 27) hx hb dX0_feed_21 (by decide) (fun c_3 => ?_) (fun c_3 => ?_)
    · have G := G.2 c_3
      refine lv_aload_n hx hb dX0_feed_27 rfl (lv_at hl 0 rfl) ?_
      refine va_get hx hb hts in_X0 hown hK hP 0 rfl rfl 20 (by decide) (hts _ q198) (fun _ h => h) rfl dX0_feed_28 ?_
      refine lv_aload_n hx hb dX0_feed_31 rfl (lv_at hl 0 rfl) ?_
      refine va_get hx hb hts in_X0 hown hK hP 0 rfl rfl 21 (by decide) (hts _ q199) (fun _ h => h) rfl dX0_feed_32 ?_
      refine lv_iload_n hx hb dX0_feed_35 rfl (lv_at hl 1 rfl) ?_
      refine lv_i2b hx hb dX0_feed_36 rfl ?_
      obtain ⟨h_4, G⟩ := G
      refine va_bast hx hb hK hP hD hS 26 2 rfl rfl h_4 dX0_feed_37 (fun H locs hP hD hS => ?_)
      have hP : va_P D vwCl ((oW ad ca kept locks seenMany bumpMinute bumpBlock bumpTrains waited keptOut used taped fault costSum safeSum allWays torn n_blocks n_guarded n_trains n_omen n_train t_blocks t_guarded t_trains t_omen t_train i0_blocks i0_guarded i0_trains i0_omen i0_train i1_blocks i1_guarded i1_trains i1_omen i1_train lockA seenA whr homes isSeen leftA were (upd tape taped.toNatClampNeg (vp_nar .byte ((x1).toInt8.toInt32))) would row0 row1 row2 row3) ++ pl) H := hP
      have hD : va_D A ((oW ad ca kept locks seenMany bumpMinute bumpBlock bumpTrains waited keptOut used taped fault costSum safeSum allWays torn n_blocks n_guarded n_trains n_omen n_train t_blocks t_guarded t_trains t_omen t_train i0_blocks i0_guarded i0_trains i0_omen i0_train i1_blocks i1_guarded i1_trains i1_omen i1_train lockA seenA whr homes isSeen leftA were (upd tape taped.toNatClampNeg (vp_nar .byte ((x1).toInt8.toInt32))) would row0 row1 row2 row3) ++ pl) := hD
      refine lv_aload_n hx hb dX0_feed_38 rfl (lv_at hl 0 rfl) ?_
      refine lv_dup hx hb dX0_feed_39 rfl ?_
      refine va_get hx hb hts in_X0 hown hK hP 0 rfl rfl 21 (by decide) (hts _ q199) (fun _ h => h) rfl dX0_feed_40 ?_
      refine lv_iconst (v := 1) hx hb dX0_feed_43 (by decide) ?_
      refine lv_iadd hx hb dX0_feed_44 ?_
      refine va_put hx hb hts in_X0 tyX0 tyX0_ok nmX0 hown hK hP hD hS 0 rfl rfl 21 (by decide) (hts _ q199) (fun _ h => h) rfl (tyX0_ok 21 (by decide)) rfl rfl (Nat.le_of_ble_eq_true rfl) dX0_feed_45 (fun H locs hP hD hS => ?_)
      have hP : va_P D vwCl ((oW ad ca kept locks seenMany bumpMinute bumpBlock bumpTrains waited keptOut used (taped + (1 : Int32)) fault costSum safeSum allWays torn n_blocks n_guarded n_trains n_omen n_train t_blocks t_guarded t_trains t_omen t_train i0_blocks i0_guarded i0_trains i0_omen i0_train i1_blocks i1_guarded i1_trains i1_omen i1_train lockA seenA whr homes isSeen leftA were (upd tape taped.toNatClampNeg (vp_nar .byte ((x1).toInt8.toInt32))) would row0 row1 row2 row3) ++ pl) H := hP
      have hD : va_D A ((oW ad ca kept locks seenMany bumpMinute bumpBlock bumpTrains waited keptOut used (taped + (1 : Int32)) fault costSum safeSum allWays torn n_blocks n_guarded n_trains n_omen n_train t_blocks t_guarded t_trains t_omen t_train i0_blocks i0_guarded i0_trains i0_omen i0_train i1_blocks i1_guarded i1_trains i1_omen i1_train lockA seenA whr homes isSeen leftA were (upd tape taped.toNatClampNeg (vp_nar .byte ((x1).toInt8.toInt32))) would row0 row1 row2 row3) ++ pl) := hD
      refine lv_aload_n hx hb dX0_feed_48 rfl (lv_at hl 0 rfl) ?_
      refine va_get hx hb hts in_X0 hown hK hP 0 rfl rfl 21 (by decide) (hts _ q199) (fun _ h => h) rfl dX0_feed_49 ?_
      rw [hZ]
      exact W.iret hx hb hr (fun t ht hW => ⟨⟨(taped + (1 : Int32)), ((taped + (1 : Int32)), (upd tape taped.toNatClampNeg (vp_nar .byte ((x1).toInt8.toInt32)))), rfl, G, by rw [ht]; exact hP, hD⟩, hS.F ht⟩) hS.2.2 dX0_feed_52 hlocks
    · have G := G.1 c_3
      refine lv_bipush (v := -3) hx hb dX0_feed_24 (by decide) ?_
      rw [hZ]
      exact W.iret hx hb hr (fun t ht hW => ⟨⟨(-3 : Int32), (taped, tape), rfl, G, by rw [ht]; exact hP, hD⟩, hS.F ht⟩) hS.2.2 dX0_feed_26 hlocks
  · have G := G.1 c_2
    refine lv_iconst (v := -1) hx hb dX0_feed_12 (by decide) ?_
    rw [hZ]
    exact W.iret hx hb hr (fun t ht hW => ⟨⟨(-1 : Int32), (taped, tape), rfl, G, by rw [ht]; exact hP, hD⟩, hS.F ht⟩) hS.2.2 dX0_feed_13 hlocks
