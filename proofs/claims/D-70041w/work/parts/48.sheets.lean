set_option maxRecDepth 100000
def C_lay (sh : Sh) (x1 x2 x3 : Int32) (Q : Int32 → Sh → Prop) : Prop :=
  (C_in_e (x1.toInt64) (0 : Int64) (3 : Int64) = 0 → Q (-1) sh) ∧ (¬ C_in_e (x1.toInt64) (0 : Int64) (3 : Int64) = 0 → vp_in x1 4 ∧ (∀ (t n : Nat) (f : Nat → Int32), sh x1.toNatClampNeg = some (t, n, f) → (vp_in x2 n → Q 1 (shSet sh x1.toNatClampNeg (some (t, n, upd f x2.toNatClampNeg (if t = 2 then vp_nar .byte (x3.toInt8.toInt32) else if t = 3 then vp_nar .short (x3.toInt16.toInt32) else x3))))) ∧ (¬ vp_in x2 n → Q (-12) sh)) ∧ (sh x1.toNatClampNeg = none → Q (-11) sh))
abbrev rm_C_lay : Room := { frames := 8, cells := 3, slots := 1010, locals := 10260 }
set_option maxHeartbeats 8000000 in
theorem met_C_lay (l : Launch) (hst : l.stackTraces = false) (D : va_G) (sk sv : Nat → Nat) (ad : Nat → Nat) (ca : Nat → ClassId) (pl : va_W) (sz : Nat) (kept : Int32) (locks : Int32) (seenMany : Int32) (bumpMinute : Int32) (bumpBlock : Int32) (bumpTrains : Int32) (waited : Int32) (keptOut : Int32) (used : Int32) (taped : Int32) (fault : Int32) (costSum : Int64) (safeSum : Int64) (allWays : Int64) (torn : Int32) (n_blocks : Int32) (n_guarded : Int32) (n_trains : Int32) (n_omen : Nat → Int32) (n_train : Nat → Int32) (t_blocks : Int32) (t_guarded : Int32) (t_trains : Int32) (t_omen : Nat → Int32) (t_train : Nat → Int32) (i0_blocks : Int32) (i0_guarded : Int32) (i0_trains : Int32) (i0_omen : Nat → Int32) (i0_train : Nat → Int32) (i1_blocks : Int32) (i1_guarded : Int32) (i1_trains : Int32) (i1_omen : Nat → Int32) (i1_train : Nat → Int32) (lockA : Nat → Int32) (seenA : Nat → Int32) (whr : Nat → Int32) (homes : Nat → Int32) (isSeen : Nat → Int32) (leftA : Nat → Int32) (were : Nat → Int32) (tape : Nat → Int32) (would : Nat → Int32) (rw : Nat → Option Nat) (sh : Sh) (hR : RowsOK ca pl rw sh) (x1 x2 x3 : Int32) (Q : Int32 → Sh → Prop) (G : C_lay sh x1 x2 x3 Q) : Met l yX0_lay (wsW_ yX0_lay cX0_lay 6 (some .int) [(25, 74, 75, 307), (25, 74, 80, 309)]) rm_C_lay (va_Pc [.ref (ad 0), .int x1, .int x2, .int x3] (wpreF D vwCl (tyL ca) sk sv ((oW ad ca kept locks seenMany bumpMinute bumpBlock bumpTrains waited keptOut used taped fault costSum safeSum allWays torn n_blocks n_guarded n_trains n_omen n_train t_blocks t_guarded t_trains t_omen t_train i0_blocks i0_guarded i0_trains i0_omen i0_train i1_blocks i1_guarded i1_trains i1_omen i1_train lockA seenA whr homes isSeen leftA were tape would (rw 0) (rw 1) (rw 2) (rw 3)) ++ pl) sz)) (va_Qi (fun (r : Int32) (u : (Sh × (Nat → Option Nat) × va_W)) => Q r u.1 ∧ RowsOK ca u.2.2 u.2.1 u.1) (wpost D vwCl (va_A ((oW ad ca kept locks seenMany bumpMinute bumpBlock bumpTrains waited keptOut used taped fault costSum safeSum allWays torn n_blocks n_guarded n_trains n_omen n_train t_blocks t_guarded t_trains t_omen t_train i0_blocks i0_guarded i0_trains i0_omen i0_train i1_blocks i1_guarded i1_trains i1_omen i1_train lockA seenA whr homes isSeen leftA were tape would (rw 0) (rw 1) (rw 2) (rw 3)) ++ pl) sz) (fun (u : (Sh × (Nat → Option Nat) × va_W)) => ((oW ad ca kept locks seenMany bumpMinute bumpBlock bumpTrains waited keptOut used taped fault costSum safeSum allWays torn n_blocks n_guarded n_trains n_omen n_train t_blocks t_guarded t_trains t_omen t_train i0_blocks i0_guarded i0_trains i0_omen i0_train i1_blocks i1_guarded i1_trains i1_omen i1_train lockA seenA whr homes isSeen leftA were tape would (u.2.1 0) (u.2.1 1) (u.2.1 2) (u.2.1 3)) ++ u.2.2))) (va_A ((oW ad ca kept locks seenMany bumpMinute bumpBlock bumpTrains waited keptOut used taped fault costSum safeSum allWays torn n_blocks n_guarded n_trains n_omen n_train t_blocks t_guarded t_trains t_omen t_train i0_blocks i0_guarded i0_trains i0_omen i0_train i1_blocks i1_guarded i1_trains i1_omen i1_train lockA seenA whr homes isSeen leftA were tape would (rw 0) (rw 1) (rw 2) (rw 3)) ++ pl) sz)) 3 1010 (va_A ((oW ad ca kept locks seenMany bumpMinute bumpBlock bumpTrains waited keptOut used taped fault costSum safeSum allWays torn n_blocks n_guarded n_trains n_omen n_train t_blocks t_guarded t_trains t_omen t_train i0_blocks i0_guarded i0_trains i0_omen i0_train i1_blocks i1_guarded i1_trains i1_omen i1_train lockA seenA whr homes isSeen leftA were tape would (rw 0) (rw 1) (rw 2) (rw 3)) ++ pl) sz) := by
  unfold C_lay at G
  refine met_ofN ?_
  refine met_ofHF (hh := [(25, 74, 75, 307), (25, 74, 80, 309)]) (fun A => (va_Qi (fun (r : Int32) (u : (Sh × (Nat → Option Nat) × va_W)) => Q r u.1 ∧ RowsOK ca u.2.2 u.2.1 u.1) (wpost D vwCl A (fun (u : (Sh × (Nat → Option Nat) × va_W)) => ((oW ad ca kept locks seenMany bumpMinute bumpBlock bumpTrains waited keptOut used taped fault costSum safeSum allWays torn n_blocks n_guarded n_trains n_omen n_train t_blocks t_guarded t_trains t_omen t_train i0_blocks i0_guarded i0_trains i0_omen i0_train i1_blocks i1_guarded i1_trains i1_omen i1_train lockA seenA whr homes isSeen leftA were tape would (u.2.1 0) (u.2.1 1) (u.2.1 2) (u.2.1 3)) ++ u.2.2))) A)) (fun _ => (fun _ _ _ _ => False)) (by decide) (Nat.le_of_ble_eq_true rfl) ?_
  intro p e s m args below meth c Z A hZ C hE hNC hnh hmn H locs hP hD hS ls hl
  have hx := C.1; have hb := C.2.1; have hr := C.2.2.1; have hlocks := C.2.2.2.1; have hml := C.2.2.2.2.1; have hown := C.2.2.2.2.2.1; have hts := C.2.2.2.2.2.2.1; have hn := C.2.2.2.2.2.2.2.1; have hK := C.2.2.2.2.2.2.2.2.1; have hA := C.2.2.2.2.2.2.2.2.2
  have hl : lv_has ls 6 [(0, .ref (ad 0)), (1, .int x1), (2, .int x2), (3, .int x3)] := hl
  have hcB : s.vm.findClass "[B" = some (ca 2) := va_nm_byte (hK.2 2 _ rfl).2
  have hcS : s.vm.findClass "[S" = some (ca 3) := va_nm_short (hK.2 3 _ rfl).2
  have hcI : s.vm.findClass "[I" = some (ca 0) := va_nm_int (hK.2 0 _ rfl).2
  have hkB : ∀ cS, s.vm.findClass "[B" = some cS → ∃ k, s.vm.classes[cS]? = some k ∧ arK "[B" k := fun cS h => arK_of (hts _ q162) (by decide +kernel) (by decide +kernel) h
  have hkS : ∀ cS, s.vm.findClass "[S" = some cS → ∃ k, s.vm.classes[cS]? = some k ∧ arK "[S" k := fun cS h => arK_of (hts _ q839) (by decide +kernel) (by decide +kernel) h
  have hkI : ∀ cS, s.vm.findClass "[I" = some cS → ∃ k, s.vm.classes[cS]? = some k ∧ arK "[I" k := fun cS h => arK_of (hts _ q175) (by decide +kernel) (by decide +kernel) h
  refine lv_iload_n hx hb dX0_lay_0 rfl (lv_at hl 1 rfl) ?_
  refine lv_i2l hx hb dX0_lay_1 rfl ?_
  refine lv_lconst (v := 0) hx hb dX0_lay_2 (by decide) ?_
  refine lv_ldc2 hx hb hown (hts _ q599) dX0_lay_3 ?_
  refine wc_Sik (As := [.long ((x1).toInt64), .long (0 : Int64), .long (3 : Int64)]) (rest := []) C (met_C_in l D ca H.size ((x1).toInt64) (0 : Int64) (3 : Int64)) (va_cwS 3 hts (lw_S q271 q272 q68 q273) rfl rfl rfl (by decide +kernel) ⟨Nat.le_of_ble_eq_true rfl, Nat.le_of_ble_eq_true rfl⟩) hP hD hS [] rfl (by decide) rfl rfl hl.1 (Nat.le_of_ble_eq_true rfl) dX0_lay_6 ⟨Nat.le_of_ble_eq_true rfl, Nat.le_of_ble_eq_true rfl⟩ (fun r_1 u H locs hr hP hD hS => ?_)
  subst hr
  refine lv_if_ne (tgt := 14) hx hb dX0_lay_9 (by decide) (fun c => ?_) (fun c => ?_)
  · obtain ⟨hk, G⟩ := G.2 c
    refine lv_aload_n hx hb dX0_lay_14 rfl (lv_at hl 0 rfl) ?_
    refine va_get hx hb hts in_X0 hown hK hP 0 rfl rfl 27 (by decide) (hts _ q205) (fun _ h => h) rfl dX0_lay_15 ?_
    refine lv_iload_n hx hb dX0_lay_18 rfl (lv_at hl 1 rfl) ?_
    refine wc_rowget (r := rw) C hP hk rfl rfl rfl rfl rfl dX0_lay_19 dX0_lay_20 ?_
    rcases hR.get (vi4_lt hk) with ⟨e1, e2⟩ | ⟨t, n, f, a, j, e1, e2, hn40, e3, e4, hRs⟩
    · rw [e2]
      refine lv_astoreN (lv' := [(4, .null), (0, .ref (ad 0)), (1, .int x1), (2, .int x2), (3, .int x3)]) hx hb dX0_lay_23 hl (by decide) rfl (fun ls hl => ?_)
      refine lv_aloadN hx hb dX0_lay_25 (lv_at hl 0 rfl) ?_
      refine lv_instN hx hb dX0_lay_27 ?_
      refine lv_if_eq (tgt := 45) hx hb dX0_lay_30 (by decide) (fun c1 => ?_) (fun c1 => absurd rfl c1)
      refine lv_aloadN hx hb dX0_lay_45 (lv_at hl 0 rfl) ?_
      refine lv_instN hx hb dX0_lay_47 ?_
      refine lv_if_eq (tgt := 65) hx hb dX0_lay_50 (by decide) (fun c2 => ?_) (fun c2 => absurd rfl c2)
      refine lv_aloadN hx hb dX0_lay_65 (lv_at hl 0 rfl) ?_
      refine lv_castN hx hb dX0_lay_67 ?_
      refine lv_iload_n hx hb dX0_lay_70 rfl (lv_at hl 3 rfl) ?_
      refine lv_iload_n hx hb dX0_lay_71 rfl (lv_at hl 4 rfl) ?_
      refine vx_iastoreN hx hb dX0_lay_72 (sx_npe C hE hst hP hS hl.1 (Nat.le_of_ble_eq_true rfl) (Nat.le_of_ble_eq_true rfl) ⟨Nat.le_of_ble_eq_true rfl, Nat.le_of_ble_eq_true rfl⟩ (fun H q9 ce hP hS hc9 hv9 hcl9 => ?_))
      refine vx_catch (name := nmNPE) (E := nmNPE) hown [] { startPc := 25, endPc := 74, handlerPc := 75, catchType := 307 } [{ startPc := 25, endPc := 74, handlerPc := 80, catchType := 309 }] hnh (fun z h => by cases h) (by decide) (by decide) (hts _ q844) (va_Nw.use rfl (hn _ q866 rfl)) hc9 hv9 hcl9 ?_
      refine lv_astore (lv' := [(5, .ref q9), (4, .null), (0, .ref (ad 0)), (1, .int x1), (2, .int x2), (3, .int x3)]) hx hb dX0_lay_75 hl (by decide) rfl (fun ls hl => ?_)
      refine lv_bipush (v := -11) hx hb dX0_lay_77 (by decide) ?_
      rw [hZ]
      refine vx_ret ?_
      refine W.widen (k := 3) (n := 1010) (by decide) (by decide) ?_
      exact W.iret hx hb hr (fun t ht hW => ⟨⟨_, (sh, rw, pl), rfl, ⟨G.2 e1, hR⟩, by rw [ht]; exact hP, hD⟩, hS.F ht⟩) hS.2.2 dX0_lay_79 hlocks
    · rw [e3]
      refine lv_astore (lv' := [(4, .ref a), (0, .ref (ad 0)), (1, .int x1), (2, .int x2), (3, .int x3)]) hx hb dX0_lay_23 hl (by decide) rfl (fun ls hl => ?_)
      refine lv_aload hx hb dX0_lay_25 (lv_at hl 0 rfl) ?_
      have G := G.1 t n f e1
      rcases e2 with rfl | rfl | rfl
      · refine va_instE hx hb hown (hts _ q888) (va_arr hP (wc_at (n := 33) rfl e4) hcB) dX0_lay_27 ?_
        refine lv_if_eq (tgt := 45) hx hb dX0_lay_30 (by decide) (fun c1 => absurd c1 (by decide)) (fun c1 => ?_)
        refine lv_aload hx hb dX0_lay_33 (lv_at hl 0 rfl) ?_
        refine va_castA hx hb hown (hts _ q888) hP (33 + j) (wc_at (n := 33) rfl e4) hcB dX0_lay_35 ?_
        refine lv_iload_n hx hb dX0_lay_38 rfl (lv_at hl 3 rfl) ?_
        refine lv_iload_n hx hb dX0_lay_39 rfl (lv_at hl 4 rfl) ?_
        refine lv_i2b hx hb dX0_lay_40 rfl ?_
        by_cases hv : vp_in x2 n
        · refine va_bast hx hb hK hP hD hS (33 + j) 2 (wc_at (n := 33) rfl e4) rfl hv dX0_lay_41 (fun H locs hP hD hS => ?_)
          rw [wc_setr (n := 33) rfl] at hP hD
          refine lv_goto (tgt := 73) hx hb dX0_lay_42 (by decide) ?_
          refine lv_iconst (v := 1) hx hb dX0_lay_73 (by decide) ?_
          rw [hZ]
          refine vx_ret ?_
          refine W.widen (k := 3) (n := 1010) (by decide) (by decide) ?_
          exact W.iret hx hb hr (fun t ht hW => ⟨⟨_, (_, rw, (pl.set j (a, .inl (ca 2, n, .inl (upd f x2.toNatClampNeg (vp_nar .byte ((x3).toInt8.toInt32))))))), rfl, ⟨G.1 hv, hRs _⟩, by rw [ht]; exact hP, hD⟩, hS.F ht⟩) hS.2.2 dX0_lay_74 hlocks
        · refine vx_bastZ hx hb hK hP (33 + j) 2 (wc_at (n := 33) rfl e4) rfl hv dX0_lay_41 (fun tx htx => sx_aio C hE hst hP hS hl.1 hn40 htx (Nat.le_of_ble_eq_true rfl) (Nat.le_of_ble_eq_true rfl) ⟨Nat.le_of_ble_eq_true rfl, Nat.le_of_ble_eq_true rfl⟩ (fun H q9 ce hP hS hc9 hv9 hcl9 => ?_))
          refine vx_catch (name := nmIOB) (E := nmAIO) hown [{ startPc := 25, endPc := 74, handlerPc := 75, catchType := 307 }] { startPc := 25, endPc := 74, handlerPc := 80, catchType := 309 } [] hnh (fun z h => by obtain rfl := List.mem_singleton.mp h; exact Or.inr ⟨by decide, nmNPE, hts _ q844, hNC (nmAIO, nmNPE) (by decide)⟩) (by decide) (by decide) (hts _ q869) (va_Nw.use rfl (hn _ q1359 rfl)) hc9 hv9 hcl9 ?_
          refine lv_astore (lv' := [(5, .ref q9), (4, .ref a), (0, .ref (ad 0)), (1, .int x1), (2, .int x2), (3, .int x3)]) hx hb dX0_lay_80 hl (by decide) rfl (fun ls hl => ?_)
          refine lv_bipush (v := -12) hx hb dX0_lay_82 (by decide) ?_
          rw [hZ]
          refine vx_ret ?_
          refine W.widen (k := 3) (n := 1010) (by decide) (by decide) ?_
          exact W.iret hx hb hr (fun t ht hW => ⟨⟨_, (sh, rw, pl), rfl, ⟨G.2 hv, hR⟩, by rw [ht]; exact hP, hD⟩, hS.F ht⟩) hS.2.2 dX0_lay_84 hlocks
      · refine va_instNo hx hb hown (hts _ q888) (hNC ("[S", "[B") (by decide)) (va_arr hP (wc_at (n := 33) rfl e4) hcS) dX0_lay_27 ?_
        refine lv_if_eq (tgt := 45) hx hb dX0_lay_30 (by decide) (fun c1 => ?_) (fun c1 => absurd rfl c1)
        refine lv_aload hx hb dX0_lay_45 (lv_at hl 0 rfl) ?_
        refine va_instE hx hb hown (hts _ q889) (va_arr hP (wc_at (n := 33) rfl e4) hcS) dX0_lay_47 ?_
        refine lv_if_eq (tgt := 65) hx hb dX0_lay_50 (by decide) (fun c2 => absurd c2 (by decide)) (fun c2 => ?_)
        refine lv_aload hx hb dX0_lay_53 (lv_at hl 0 rfl) ?_
        refine va_castA hx hb hown (hts _ q889) hP (33 + j) (wc_at (n := 33) rfl e4) hcS dX0_lay_55 ?_
        refine lv_iload_n hx hb dX0_lay_58 rfl (lv_at hl 3 rfl) ?_
        refine lv_iload_n hx hb dX0_lay_59 rfl (lv_at hl 4 rfl) ?_
        refine lv_i2s hx hb dX0_lay_60 rfl ?_
        by_cases hv : vp_in x2 n
        · refine va_sast hx hb hK hP hD hS (33 + j) 3 (wc_at (n := 33) rfl e4) rfl hv dX0_lay_61 (fun H locs hP hD hS => ?_)
          rw [wc_setr (n := 33) rfl] at hP hD
          refine lv_goto (tgt := 73) hx hb dX0_lay_62 (by decide) ?_
          refine lv_iconst (v := 1) hx hb dX0_lay_73 (by decide) ?_
          rw [hZ]
          refine vx_ret ?_
          refine W.widen (k := 3) (n := 1010) (by decide) (by decide) ?_
          exact W.iret hx hb hr (fun t ht hW => ⟨⟨_, (_, rw, (pl.set j (a, .inl (ca 3, n, .inl (upd f x2.toNatClampNeg (vp_nar .short ((x3).toInt16.toInt32))))))), rfl, ⟨G.1 hv, hRs _⟩, by rw [ht]; exact hP, hD⟩, hS.F ht⟩) hS.2.2 dX0_lay_74 hlocks
        · refine vx_sastZ hx hb hK hP (33 + j) 3 (wc_at (n := 33) rfl e4) rfl hv dX0_lay_61 (fun tx htx => sx_aio C hE hst hP hS hl.1 hn40 htx (Nat.le_of_ble_eq_true rfl) (Nat.le_of_ble_eq_true rfl) ⟨Nat.le_of_ble_eq_true rfl, Nat.le_of_ble_eq_true rfl⟩ (fun H q9 ce hP hS hc9 hv9 hcl9 => ?_))
          refine vx_catch (name := nmIOB) (E := nmAIO) hown [{ startPc := 25, endPc := 74, handlerPc := 75, catchType := 307 }] { startPc := 25, endPc := 74, handlerPc := 80, catchType := 309 } [] hnh (fun z h => by obtain rfl := List.mem_singleton.mp h; exact Or.inr ⟨by decide, nmNPE, hts _ q844, hNC (nmAIO, nmNPE) (by decide)⟩) (by decide) (by decide) (hts _ q869) (va_Nw.use rfl (hn _ q1359 rfl)) hc9 hv9 hcl9 ?_
          refine lv_astore (lv' := [(5, .ref q9), (4, .ref a), (0, .ref (ad 0)), (1, .int x1), (2, .int x2), (3, .int x3)]) hx hb dX0_lay_80 hl (by decide) rfl (fun ls hl => ?_)
          refine lv_bipush (v := -12) hx hb dX0_lay_82 (by decide) ?_
          rw [hZ]
          refine vx_ret ?_
          refine W.widen (k := 3) (n := 1010) (by decide) (by decide) ?_
          exact W.iret hx hb hr (fun t ht hW => ⟨⟨_, (sh, rw, pl), rfl, ⟨G.2 hv, hR⟩, by rw [ht]; exact hP, hD⟩, hS.F ht⟩) hS.2.2 dX0_lay_84 hlocks
      · refine va_instNo hx hb hown (hts _ q888) (hNC ("[I", "[B") (by decide)) (va_arr hP (wc_at (n := 33) rfl e4) hcI) dX0_lay_27 ?_
        refine lv_if_eq (tgt := 45) hx hb dX0_lay_30 (by decide) (fun c1 => ?_) (fun c1 => absurd rfl c1)
        refine lv_aload hx hb dX0_lay_45 (lv_at hl 0 rfl) ?_
        refine va_instNo hx hb hown (hts _ q889) (hNC ("[I", "[S") (by decide)) (va_arr hP (wc_at (n := 33) rfl e4) hcI) dX0_lay_47 ?_
        refine lv_if_eq (tgt := 65) hx hb dX0_lay_50 (by decide) (fun c2 => ?_) (fun c2 => absurd rfl c2)
        refine lv_aload hx hb dX0_lay_65 (lv_at hl 0 rfl) ?_
        refine va_castA hx hb hown (hts _ q890) hP (33 + j) (wc_at (n := 33) rfl e4) hcI dX0_lay_67 ?_
        refine lv_iload_n hx hb dX0_lay_70 rfl (lv_at hl 3 rfl) ?_
        refine lv_iload_n hx hb dX0_lay_71 rfl (lv_at hl 4 rfl) ?_
        by_cases hv : vp_in x2 n
        · refine va_iast hx hb hK hP hD hS (33 + j) 0 (wc_at (n := 33) rfl e4) rfl hv dX0_lay_72 (fun H locs hP hD hS => ?_)
          rw [wc_setr (n := 33) rfl] at hP hD
          refine lv_iconst (v := 1) hx hb dX0_lay_73 (by decide) ?_
          rw [hZ]
          refine vx_ret ?_
          refine W.widen (k := 3) (n := 1010) (by decide) (by decide) ?_
          exact W.iret hx hb hr (fun t ht hW => ⟨⟨_, (_, rw, (pl.set j (a, .inl (ca 0, n, .inl (upd f x2.toNatClampNeg x3))))), rfl, ⟨G.1 hv, hRs _⟩, by rw [ht]; exact hP, hD⟩, hS.F ht⟩) hS.2.2 dX0_lay_74 hlocks
        · refine vx_iastZ hx hb hK hP (33 + j) 0 (wc_at (n := 33) rfl e4) rfl hv dX0_lay_72 (fun tx htx => sx_aio C hE hst hP hS hl.1 hn40 htx (Nat.le_of_ble_eq_true rfl) (Nat.le_of_ble_eq_true rfl) ⟨Nat.le_of_ble_eq_true rfl, Nat.le_of_ble_eq_true rfl⟩ (fun H q9 ce hP hS hc9 hv9 hcl9 => ?_))
          refine vx_catch (name := nmIOB) (E := nmAIO) hown [{ startPc := 25, endPc := 74, handlerPc := 75, catchType := 307 }] { startPc := 25, endPc := 74, handlerPc := 80, catchType := 309 } [] hnh (fun z h => by obtain rfl := List.mem_singleton.mp h; exact Or.inr ⟨by decide, nmNPE, hts _ q844, hNC (nmAIO, nmNPE) (by decide)⟩) (by decide) (by decide) (hts _ q869) (va_Nw.use rfl (hn _ q1359 rfl)) hc9 hv9 hcl9 ?_
          refine lv_astore (lv' := [(5, .ref q9), (4, .ref a), (0, .ref (ad 0)), (1, .int x1), (2, .int x2), (3, .int x3)]) hx hb dX0_lay_80 hl (by decide) rfl (fun ls hl => ?_)
          refine lv_bipush (v := -12) hx hb dX0_lay_82 (by decide) ?_
          rw [hZ]
          refine vx_ret ?_
          refine W.widen (k := 3) (n := 1010) (by decide) (by decide) ?_
          exact W.iret hx hb hr (fun t ht hW => ⟨⟨_, (sh, rw, pl), rfl, ⟨G.2 hv, hR⟩, by rw [ht]; exact hP, hD⟩, hS.F ht⟩) hS.2.2 dX0_lay_84 hlocks
  · refine lv_iconst (v := -1) hx hb dX0_lay_12 (by decide) ?_
    rw [hZ]
    refine vx_ret ?_
    refine W.widen (k := 3) (n := 1010) (by decide) (by decide) ?_
    exact W.iret hx hb hr (fun t ht hW => ⟨⟨_, (sh, rw, pl), rfl, ⟨G.1 c, hR⟩, by rw [ht]; exact hP, hD⟩, hS.F ht⟩) hS.2.2 dX0_lay_13 hlocks
theorem cn_le40 {x : Int32} (h : x ≤ 40) : x.toNatClampNeg ≤ 40 := by
  have h1 := Int32.le_iff_toInt_le.mp h
  have h2 : x.toNatClampNeg = x.toInt.toNat := rfl
  have h3 : (40 : Int32).toInt = 40 := by decide
  omega
def C_sheet (sh : Sh) (x1 x2 x3 : Int32) (Q : Int32 → Sh → Prop) : Prop :=
  (C_isSheet_e x1 x2 = 0 → Q (-1) sh) ∧ (¬ C_isSheet_e x1 x2 = 0 → (¬ x3 ≤ 40 → Q (-1) sh) ∧ (x3 ≤ 40 → vp_in x1 4 ∧ (x3 < 0 → Q (-14) sh) ∧ (¬ x3 < 0 → Q 1 (shSet sh x1.toNatClampNeg (some (laneT x2, x3.toNatClampNeg, fun _ => 0))))))
abbrev rm_C_sheet : Room := { frames := 8, cells := 3, slots := 1010, locals := 10260 }
set_option maxHeartbeats 8000000 in
theorem met_C_sheet (l : Launch) (hst : l.stackTraces = false) (D : va_G) (sk sv : Nat → Nat) (ad : Nat → Nat) (ca : Nat → ClassId) (pl : va_W) (sz : Nat) (kept : Int32) (locks : Int32) (seenMany : Int32) (bumpMinute : Int32) (bumpBlock : Int32) (bumpTrains : Int32) (waited : Int32) (keptOut : Int32) (used : Int32) (taped : Int32) (fault : Int32) (costSum : Int64) (safeSum : Int64) (allWays : Int64) (torn : Int32) (n_blocks : Int32) (n_guarded : Int32) (n_trains : Int32) (n_omen : Nat → Int32) (n_train : Nat → Int32) (t_blocks : Int32) (t_guarded : Int32) (t_trains : Int32) (t_omen : Nat → Int32) (t_train : Nat → Int32) (i0_blocks : Int32) (i0_guarded : Int32) (i0_trains : Int32) (i0_omen : Nat → Int32) (i0_train : Nat → Int32) (i1_blocks : Int32) (i1_guarded : Int32) (i1_trains : Int32) (i1_omen : Nat → Int32) (i1_train : Nat → Int32) (lockA : Nat → Int32) (seenA : Nat → Int32) (whr : Nat → Int32) (homes : Nat → Int32) (isSeen : Nat → Int32) (leftA : Nat → Int32) (were : Nat → Int32) (tape : Nat → Int32) (would : Nat → Int32) (rw : Nat → Option Nat) (sh : Sh) (hR : RowsOK ca pl rw sh) (x1 x2 x3 : Int32) (Q : Int32 → Sh → Prop) (G : C_sheet sh x1 x2 x3 Q) : Met l yX0_sheet (wsW_ yX0_sheet cX0_sheet 5 (some .int) [(16, 50, 51, 301)]) rm_C_sheet (va_Pc [.ref (ad 0), .int x1, .int x2, .int x3] (wpreF D vwCl (tyL ca) sk sv ((oW ad ca kept locks seenMany bumpMinute bumpBlock bumpTrains waited keptOut used taped fault costSum safeSum allWays torn n_blocks n_guarded n_trains n_omen n_train t_blocks t_guarded t_trains t_omen t_train i0_blocks i0_guarded i0_trains i0_omen i0_train i1_blocks i1_guarded i1_trains i1_omen i1_train lockA seenA whr homes isSeen leftA were tape would (rw 0) (rw 1) (rw 2) (rw 3)) ++ pl) sz)) (va_Qi (fun (r : Int32) (u : (Sh × (Nat → Option Nat) × va_W)) => Q r u.1 ∧ RowsOK ca u.2.2 u.2.1 u.1) (wpost D vwCl (va_A ((oW ad ca kept locks seenMany bumpMinute bumpBlock bumpTrains waited keptOut used taped fault costSum safeSum allWays torn n_blocks n_guarded n_trains n_omen n_train t_blocks t_guarded t_trains t_omen t_train i0_blocks i0_guarded i0_trains i0_omen i0_train i1_blocks i1_guarded i1_trains i1_omen i1_train lockA seenA whr homes isSeen leftA were tape would (rw 0) (rw 1) (rw 2) (rw 3)) ++ pl) sz) (fun (u : (Sh × (Nat → Option Nat) × va_W)) => ((oW ad ca kept locks seenMany bumpMinute bumpBlock bumpTrains waited keptOut used taped fault costSum safeSum allWays torn n_blocks n_guarded n_trains n_omen n_train t_blocks t_guarded t_trains t_omen t_train i0_blocks i0_guarded i0_trains i0_omen i0_train i1_blocks i1_guarded i1_trains i1_omen i1_train lockA seenA whr homes isSeen leftA were tape would (u.2.1 0) (u.2.1 1) (u.2.1 2) (u.2.1 3)) ++ u.2.2))) (va_A ((oW ad ca kept locks seenMany bumpMinute bumpBlock bumpTrains waited keptOut used taped fault costSum safeSum allWays torn n_blocks n_guarded n_trains n_omen n_train t_blocks t_guarded t_trains t_omen t_train i0_blocks i0_guarded i0_trains i0_omen i0_train i1_blocks i1_guarded i1_trains i1_omen i1_train lockA seenA whr homes isSeen leftA were tape would (rw 0) (rw 1) (rw 2) (rw 3)) ++ pl) sz)) 3 1010 (va_A ((oW ad ca kept locks seenMany bumpMinute bumpBlock bumpTrains waited keptOut used taped fault costSum safeSum allWays torn n_blocks n_guarded n_trains n_omen n_train t_blocks t_guarded t_trains t_omen t_train i0_blocks i0_guarded i0_trains i0_omen i0_train i1_blocks i1_guarded i1_trains i1_omen i1_train lockA seenA whr homes isSeen leftA were tape would (rw 0) (rw 1) (rw 2) (rw 3)) ++ pl) sz) := by
  unfold C_sheet at G
  refine met_ofN ?_
  refine met_ofHF (hh := [(16, 50, 51, 301)]) (fun A => (va_Qi (fun (r : Int32) (u : (Sh × (Nat → Option Nat) × va_W)) => Q r u.1 ∧ RowsOK ca u.2.2 u.2.1 u.1) (wpost D vwCl A (fun (u : (Sh × (Nat → Option Nat) × va_W)) => ((oW ad ca kept locks seenMany bumpMinute bumpBlock bumpTrains waited keptOut used taped fault costSum safeSum allWays torn n_blocks n_guarded n_trains n_omen n_train t_blocks t_guarded t_trains t_omen t_train i0_blocks i0_guarded i0_trains i0_omen i0_train i1_blocks i1_guarded i1_trains i1_omen i1_train lockA seenA whr homes isSeen leftA were tape would (u.2.1 0) (u.2.1 1) (u.2.1 2) (u.2.1 3)) ++ u.2.2))) A)) (fun _ => (fun _ _ _ _ => False)) (by decide) (Nat.le_of_ble_eq_true rfl) ?_
  intro p e s m args below meth c Z A hZ C hE hNC hnh hmn H locs hP hD hS ls hl
  have hx := C.1; have hb := C.2.1; have hr := C.2.2.1; have hlocks := C.2.2.2.1; have hml := C.2.2.2.2.1; have hown := C.2.2.2.2.2.1; have hts := C.2.2.2.2.2.2.1; have hn := C.2.2.2.2.2.2.2.1; have hK := C.2.2.2.2.2.2.2.2.1; have hA := C.2.2.2.2.2.2.2.2.2
  have hl : lv_has ls 5 [(0, .ref (ad 0)), (1, .int x1), (2, .int x2), (3, .int x3)] := hl
  have hcB : s.vm.findClass "[B" = some (ca 2) := va_nm_byte (hK.2 2 _ rfl).2
  have hcS : s.vm.findClass "[S" = some (ca 3) := va_nm_short (hK.2 3 _ rfl).2
  have hcI : s.vm.findClass "[I" = some (ca 0) := va_nm_int (hK.2 0 _ rfl).2
  have hkB : ∀ cS, s.vm.findClass "[B" = some cS → ∃ k, s.vm.classes[cS]? = some k ∧ arK "[B" k := fun cS h => arK_of (hts _ q162) (by decide +kernel) (by decide +kernel) h
  have hkS : ∀ cS, s.vm.findClass "[S" = some cS → ∃ k, s.vm.classes[cS]? = some k ∧ arK "[S" k := fun cS h => arK_of (hts _ q839) (by decide +kernel) (by decide +kernel) h
  have hkI : ∀ cS, s.vm.findClass "[I" = some cS → ∃ k, s.vm.classes[cS]? = some k ∧ arK "[I" k := fun cS h => arK_of (hts _ q175) (by decide +kernel) (by decide +kernel) h
  refine lv_iload_n hx hb dX0_sheet_0 rfl (lv_at hl 1 rfl) ?_
  refine lv_iload_n hx hb dX0_sheet_1 rfl (lv_at hl 2 rfl) ?_
  refine wc_Sik (As := [.int x1, .int x2]) (rest := []) C (met_C_isSheet l D ca H.size x1 x2) (va_cwS 2 hts (lw_S q836 q837 q68 q838) rfl rfl rfl (by decide +kernel) ⟨Nat.le_of_ble_eq_true rfl, Nat.le_of_ble_eq_true rfl⟩) hP hD hS [] rfl (by decide) rfl rfl hl.1 (Nat.le_of_ble_eq_true rfl) dX0_sheet_2 ⟨Nat.le_of_ble_eq_true rfl, Nat.le_of_ble_eq_true rfl⟩ (fun r_1 u H locs hr hP hD hS => ?_)
  subst hr
  refine lv_if_eq (tgt := 14) hx hb dX0_sheet_5 (by decide) (fun c => ?_) (fun c => ?_)
  · refine lv_iconst (v := -1) hx hb dX0_sheet_14 (by decide) ?_
    rw [hZ]
    refine vx_ret ?_
    refine W.widen (k := 3) (n := 1010) (by simp only [Nat.zero_add]; omega) (by simp only [Nat.zero_add]; omega) ?_
    exact W.iret hx hb hr (fun t ht hW => ⟨⟨_, (sh, rw, pl), rfl, ⟨G.1 c, hR⟩, by rw [ht]; exact hP, hD⟩, hS.F ht⟩) hS.2.2 dX0_sheet_15 hlocks
  · have G := G.2 c
    refine lv_iload_n hx hb dX0_sheet_8 rfl (lv_at hl 3 rfl) ?_
    refine lv_bipush (v := 40) hx hb dX0_sheet_9 (by decide) ?_
    refine lv_icmp_le (tgt := 16) hx hb dX0_sheet_11 (by decide) (fun c2 => ?_) (fun c2 => ?_)
    · obtain ⟨hk, G⟩ := G.2 c2
      refine lv_aload_n hx hb dX0_sheet_16 rfl (lv_at hl 0 rfl) ?_
      refine va_get hx hb hts in_X0 hown hK hP 0 rfl rfl 27 (by decide) (hts _ q205) (fun _ h => h) rfl dX0_sheet_17 ?_
      refine lv_iload_n hx hb dX0_sheet_20 rfl (lv_at hl 1 rfl) ?_
      refine wc_faithld hx hb hK hP 28 6 rfl rfl hk dX0_sheet_21 ?_
      refine lv_iload_n hx hb dX0_sheet_22 rfl (lv_at hl 2 rfl) ?_
      refine lv_if_ne (tgt := 32) hx hb dX0_sheet_23 (by decide) (fun c3 => ?_) (fun c3 => ?_)
      · refine lv_iload_n hx hb dX0_sheet_32 rfl (lv_at hl 2 rfl) ?_
        refine lv_iconst (v := 1) hx hb dX0_sheet_33 (by decide) ?_
        refine lv_icmp_ne (tgt := 43) hx hb dX0_sheet_34 (by decide) (fun c4 => ?_) (fun c4 => ?_)
        · refine lv_iload_n hx hb dX0_sheet_43 rfl (lv_at hl 3 rfl) ?_
          by_cases h0 : x3 < 0
          · refine sx_neg C hE hst hP hS hl.1 h0 dX0_sheet_44 (Nat.le_of_ble_eq_true rfl) (Nat.le_of_ble_eq_true rfl) ⟨Nat.le_of_ble_eq_true rfl, Nat.le_of_ble_eq_true rfl⟩ (fun H q9 ce hP hS hc9 hv9 hcl9 => ?_)
            refine vx_catch (name := nmNeg) (E := nmNeg) hown [] { startPc := 16, endPc := 50, handlerPc := 51, catchType := 301 } [] hnh (fun z h => by cases h) (by decide) (by decide) (hts _ q807) (va_Nw.use rfl (hn _ q827 rfl)) hc9 hv9 hcl9 ?_
            refine lv_astore (lv' := [(4, .ref q9), (0, .ref (ad 0)), (1, .int x1), (2, .int x2), (3, .int x3)]) hx hb dX0_sheet_51 hl (by decide) rfl (fun ls hl => ?_)
            refine lv_bipush (v := -14) hx hb dX0_sheet_53 (by decide) ?_
            rw [hZ]
            refine vx_ret ?_
            refine W.widen (k := 3) (n := 1010) (by simp only [Nat.zero_add]; omega) (by simp only [Nat.zero_add]; omega) ?_
            exact W.iret hx hb hr (fun t ht hW => ⟨⟨_, (sh, rw, pl), rfl, ⟨G.1 h0, hR⟩, by rw [ht]; exact hP, hD⟩, hS.F ht⟩) hS.2.2 dX0_sheet_55 hlocks
          · have h40 : x3.toNatClampNeg ≤ 40 := cn_le40 c2
            refine va_newa (atype := .int) (ty := .int) (a0 := (x3.toNatClampNeg, .inl (fun _ => 0))) (N' := x3.toNatClampNeg) hx hb (hts _ q175) rfl hK hP hD hS hA (fun cA => (vp_cell_i cA _ _)) h0 rfl (Nat.le_trans (Nat.mul_le_mul_right _ h40) (by decide)) (by show 0 + 1 ≤ 3; decide) (by show 0 + x3.toNatClampNeg ≤ 1010; omega) dX0_sheet_44 (fun qa cA H hK2 hP hD hS => ?_)
            obtain rfl : cA = ca 0 := ca_u hK2 0 _ rfl
            have hP : va_P D vwCl ((oW ad ca kept locks seenMany bumpMinute bumpBlock bumpTrains waited keptOut used taped fault costSum safeSum allWays torn n_blocks n_guarded n_trains n_omen n_train t_blocks t_guarded t_trains t_omen t_train i0_blocks i0_guarded i0_trains i0_omen i0_train i1_blocks i1_guarded i1_trains i1_omen i1_train lockA seenA whr homes isSeen leftA were tape would (rw 0) (rw 1) (rw 2) (rw 3)) ++ (pl ++ [(qa, .inl (ca 0, x3.toNatClampNeg, .inl (fun _ => 0)))])) H := by have h := hP; rw [List.append_assoc] at h; exact h
            have hD : va_D A ((oW ad ca kept locks seenMany bumpMinute bumpBlock bumpTrains waited keptOut used taped fault costSum safeSum allWays torn n_blocks n_guarded n_trains n_omen n_train t_blocks t_guarded t_trains t_omen t_train i0_blocks i0_guarded i0_trains i0_omen i0_train i1_blocks i1_guarded i1_trains i1_omen i1_train lockA seenA whr homes isSeen leftA were tape would (rw 0) (rw 1) (rw 2) (rw 3)) ++ (pl ++ [(qa, .inl (ca 0, x3.toNatClampNeg, .inl (fun _ => 0)))])) := by have h := hD; rw [List.append_assoc] at h; exact h
            refine wc_rowput C (fun r => ((oW ad ca kept locks seenMany bumpMinute bumpBlock bumpTrains waited keptOut used taped fault costSum safeSum allWays torn n_blocks n_guarded n_trains n_omen n_train t_blocks t_guarded t_trains t_omen t_train i0_blocks i0_guarded i0_trains i0_omen i0_train i1_blocks i1_guarded i1_trains i1_omen i1_train lockA seenA whr homes isSeen leftA were tape would (r 0) (r 1) (r 2) (r 3)) ++ (pl ++ [(qa, .inl (ca 0, x3.toNatClampNeg, .inl (fun _ => 0)))]))) (r := rw) hP hD hS hk rfl rfl rfl rfl rfl rfl rfl rfl dX0_sheet_46 (fun H locs hP hD hS => ?_)
            refine lv_iconst (v := 1) hx hb dX0_sheet_49 (by decide) ?_
            rw [hZ]
            refine vx_ret ?_
            refine W.widen (k := 3) (n := 1010) (by simp only [Nat.zero_add]; omega) (by simp only [Nat.zero_add]; omega) ?_
            exact W.iret hx hb hr (fun t ht hW => ⟨⟨_, (shSet sh x1.toNatClampNeg (some (laneT x2, x3.toNatClampNeg, fun _ => 0)), shSet rw x1.toNatClampNeg (some qa), (pl ++ [(qa, .inl (ca 0, x3.toNatClampNeg, .inl (fun _ => 0)))])), rfl, ⟨G.2 h0, by rw [laneT_2 c3 c4]; exact hR.put (by omega) h40⟩, by rw [ht]; exact hP, hD⟩, hS.F ht⟩) hS.2.2 dX0_sheet_50 hlocks
        · refine lv_iload_n hx hb dX0_sheet_37 rfl (lv_at hl 3 rfl) ?_
          by_cases h0 : x3 < 0
          · refine sx_neg C hE hst hP hS hl.1 h0 dX0_sheet_38 (Nat.le_of_ble_eq_true rfl) (Nat.le_of_ble_eq_true rfl) ⟨Nat.le_of_ble_eq_true rfl, Nat.le_of_ble_eq_true rfl⟩ (fun H q9 ce hP hS hc9 hv9 hcl9 => ?_)
            refine vx_catch (name := nmNeg) (E := nmNeg) hown [] { startPc := 16, endPc := 50, handlerPc := 51, catchType := 301 } [] hnh (fun z h => by cases h) (by decide) (by decide) (hts _ q807) (va_Nw.use rfl (hn _ q827 rfl)) hc9 hv9 hcl9 ?_
            refine lv_astore (lv' := [(4, .ref q9), (0, .ref (ad 0)), (1, .int x1), (2, .int x2), (3, .int x3)]) hx hb dX0_sheet_51 hl (by decide) rfl (fun ls hl => ?_)
            refine lv_bipush (v := -14) hx hb dX0_sheet_53 (by decide) ?_
            rw [hZ]
            refine vx_ret ?_
            refine W.widen (k := 3) (n := 1010) (by simp only [Nat.zero_add]; omega) (by simp only [Nat.zero_add]; omega) ?_
            exact W.iret hx hb hr (fun t ht hW => ⟨⟨_, (sh, rw, pl), rfl, ⟨G.1 h0, hR⟩, by rw [ht]; exact hP, hD⟩, hS.F ht⟩) hS.2.2 dX0_sheet_55 hlocks
          · have h40 : x3.toNatClampNeg ≤ 40 := cn_le40 c2
            refine va_newa (atype := .short) (ty := .short) (a0 := (x3.toNatClampNeg, .inl (fun _ => 0))) (N' := x3.toNatClampNeg) hx hb (hts _ q839) rfl hK hP hD hS hA (fun cA => (vp_cell_i cA _ _)) h0 rfl (Nat.le_trans (Nat.mul_le_mul_right _ h40) (by decide)) (by show 0 + 1 ≤ 3; decide) (by show 0 + x3.toNatClampNeg ≤ 1010; omega) dX0_sheet_38 (fun qa cA H hK2 hP hD hS => ?_)
            obtain rfl : cA = ca 3 := ca_u hK2 3 _ rfl
            have hP : va_P D vwCl ((oW ad ca kept locks seenMany bumpMinute bumpBlock bumpTrains waited keptOut used taped fault costSum safeSum allWays torn n_blocks n_guarded n_trains n_omen n_train t_blocks t_guarded t_trains t_omen t_train i0_blocks i0_guarded i0_trains i0_omen i0_train i1_blocks i1_guarded i1_trains i1_omen i1_train lockA seenA whr homes isSeen leftA were tape would (rw 0) (rw 1) (rw 2) (rw 3)) ++ (pl ++ [(qa, .inl (ca 3, x3.toNatClampNeg, .inl (fun _ => 0)))])) H := by have h := hP; rw [List.append_assoc] at h; exact h
            have hD : va_D A ((oW ad ca kept locks seenMany bumpMinute bumpBlock bumpTrains waited keptOut used taped fault costSum safeSum allWays torn n_blocks n_guarded n_trains n_omen n_train t_blocks t_guarded t_trains t_omen t_train i0_blocks i0_guarded i0_trains i0_omen i0_train i1_blocks i1_guarded i1_trains i1_omen i1_train lockA seenA whr homes isSeen leftA were tape would (rw 0) (rw 1) (rw 2) (rw 3)) ++ (pl ++ [(qa, .inl (ca 3, x3.toNatClampNeg, .inl (fun _ => 0)))])) := by have h := hD; rw [List.append_assoc] at h; exact h
            refine lv_goto (tgt := 46) hx hb dX0_sheet_40 (by decide) ?_
            refine wc_rowput C (fun r => ((oW ad ca kept locks seenMany bumpMinute bumpBlock bumpTrains waited keptOut used taped fault costSum safeSum allWays torn n_blocks n_guarded n_trains n_omen n_train t_blocks t_guarded t_trains t_omen t_train i0_blocks i0_guarded i0_trains i0_omen i0_train i1_blocks i1_guarded i1_trains i1_omen i1_train lockA seenA whr homes isSeen leftA were tape would (r 0) (r 1) (r 2) (r 3)) ++ (pl ++ [(qa, .inl (ca 3, x3.toNatClampNeg, .inl (fun _ => 0)))]))) (r := rw) hP hD hS hk rfl rfl rfl rfl rfl rfl rfl rfl dX0_sheet_46 (fun H locs hP hD hS => ?_)
            refine lv_iconst (v := 1) hx hb dX0_sheet_49 (by decide) ?_
            rw [hZ]
            refine vx_ret ?_
            refine W.widen (k := 3) (n := 1010) (by simp only [Nat.zero_add]; omega) (by simp only [Nat.zero_add]; omega) ?_
            exact W.iret hx hb hr (fun t ht hW => ⟨⟨_, (shSet sh x1.toNatClampNeg (some (laneT x2, x3.toNatClampNeg, fun _ => 0)), shSet rw x1.toNatClampNeg (some qa), (pl ++ [(qa, .inl (ca 3, x3.toNatClampNeg, .inl (fun _ => 0)))])), rfl, ⟨G.2 h0, by rw [laneT_1 c3 c4]; exact hR.put (by omega) h40⟩, by rw [ht]; exact hP, hD⟩, hS.F ht⟩) hS.2.2 dX0_sheet_50 hlocks
      · refine lv_iload_n hx hb dX0_sheet_26 rfl (lv_at hl 3 rfl) ?_
        by_cases h0 : x3 < 0
        · refine sx_neg C hE hst hP hS hl.1 h0 dX0_sheet_27 (Nat.le_of_ble_eq_true rfl) (Nat.le_of_ble_eq_true rfl) ⟨Nat.le_of_ble_eq_true rfl, Nat.le_of_ble_eq_true rfl⟩ (fun H q9 ce hP hS hc9 hv9 hcl9 => ?_)
          refine vx_catch (name := nmNeg) (E := nmNeg) hown [] { startPc := 16, endPc := 50, handlerPc := 51, catchType := 301 } [] hnh (fun z h => by cases h) (by decide) (by decide) (hts _ q807) (va_Nw.use rfl (hn _ q827 rfl)) hc9 hv9 hcl9 ?_
          refine lv_astore (lv' := [(4, .ref q9), (0, .ref (ad 0)), (1, .int x1), (2, .int x2), (3, .int x3)]) hx hb dX0_sheet_51 hl (by decide) rfl (fun ls hl => ?_)
          refine lv_bipush (v := -14) hx hb dX0_sheet_53 (by decide) ?_
          rw [hZ]
          refine vx_ret ?_
          refine W.widen (k := 3) (n := 1010) (by simp only [Nat.zero_add]; omega) (by simp only [Nat.zero_add]; omega) ?_
          exact W.iret hx hb hr (fun t ht hW => ⟨⟨_, (sh, rw, pl), rfl, ⟨G.1 h0, hR⟩, by rw [ht]; exact hP, hD⟩, hS.F ht⟩) hS.2.2 dX0_sheet_55 hlocks
        · have h40 : x3.toNatClampNeg ≤ 40 := cn_le40 c2
          refine va_newa (atype := .byte) (ty := .byte) (a0 := (x3.toNatClampNeg, .inl (fun _ => 0))) (N' := x3.toNatClampNeg) hx hb (hts _ q162) rfl hK hP hD hS hA (fun cA => (vp_cell_i cA _ _)) h0 rfl (Nat.le_trans (Nat.mul_le_mul_right _ h40) (by decide)) (by show 0 + 1 ≤ 3; decide) (by show 0 + x3.toNatClampNeg ≤ 1010; omega) dX0_sheet_27 (fun qa cA H hK2 hP hD hS => ?_)
          obtain rfl : cA = ca 2 := ca_u hK2 2 _ rfl
          have hP : va_P D vwCl ((oW ad ca kept locks seenMany bumpMinute bumpBlock bumpTrains waited keptOut used taped fault costSum safeSum allWays torn n_blocks n_guarded n_trains n_omen n_train t_blocks t_guarded t_trains t_omen t_train i0_blocks i0_guarded i0_trains i0_omen i0_train i1_blocks i1_guarded i1_trains i1_omen i1_train lockA seenA whr homes isSeen leftA were tape would (rw 0) (rw 1) (rw 2) (rw 3)) ++ (pl ++ [(qa, .inl (ca 2, x3.toNatClampNeg, .inl (fun _ => 0)))])) H := by have h := hP; rw [List.append_assoc] at h; exact h
          have hD : va_D A ((oW ad ca kept locks seenMany bumpMinute bumpBlock bumpTrains waited keptOut used taped fault costSum safeSum allWays torn n_blocks n_guarded n_trains n_omen n_train t_blocks t_guarded t_trains t_omen t_train i0_blocks i0_guarded i0_trains i0_omen i0_train i1_blocks i1_guarded i1_trains i1_omen i1_train lockA seenA whr homes isSeen leftA were tape would (rw 0) (rw 1) (rw 2) (rw 3)) ++ (pl ++ [(qa, .inl (ca 2, x3.toNatClampNeg, .inl (fun _ => 0)))])) := by have h := hD; rw [List.append_assoc] at h; exact h
          refine lv_goto (tgt := 46) hx hb dX0_sheet_29 (by decide) ?_
          refine wc_rowput C (fun r => ((oW ad ca kept locks seenMany bumpMinute bumpBlock bumpTrains waited keptOut used taped fault costSum safeSum allWays torn n_blocks n_guarded n_trains n_omen n_train t_blocks t_guarded t_trains t_omen t_train i0_blocks i0_guarded i0_trains i0_omen i0_train i1_blocks i1_guarded i1_trains i1_omen i1_train lockA seenA whr homes isSeen leftA were tape would (r 0) (r 1) (r 2) (r 3)) ++ (pl ++ [(qa, .inl (ca 2, x3.toNatClampNeg, .inl (fun _ => 0)))]))) (r := rw) hP hD hS hk rfl rfl rfl rfl rfl rfl rfl rfl dX0_sheet_46 (fun H locs hP hD hS => ?_)
          refine lv_iconst (v := 1) hx hb dX0_sheet_49 (by decide) ?_
          rw [hZ]
          refine vx_ret ?_
          refine W.widen (k := 3) (n := 1010) (by simp only [Nat.zero_add]; omega) (by simp only [Nat.zero_add]; omega) ?_
          exact W.iret hx hb hr (fun t ht hW => ⟨⟨_, (shSet sh x1.toNatClampNeg (some (laneT x2, x3.toNatClampNeg, fun _ => 0)), shSet rw x1.toNatClampNeg (some qa), (pl ++ [(qa, .inl (ca 2, x3.toNatClampNeg, .inl (fun _ => 0)))])), rfl, ⟨G.2 h0, by rw [laneT_0 c3]; exact hR.put (by omega) h40⟩, by rw [ht]; exact hP, hD⟩, hS.F ht⟩) hS.2.2 dX0_sheet_50 hlocks
    · refine lv_iconst (v := -1) hx hb dX0_sheet_14 (by decide) ?_
      rw [hZ]
      refine vx_ret ?_
      refine W.widen (k := 3) (n := 1010) (by simp only [Nat.zero_add]; omega) (by simp only [Nat.zero_add]; omega) ?_
      exact W.iret hx hb hr (fun t ht hW => ⟨⟨_, (sh, rw, pl), rfl, ⟨G.1 c2, hR⟩, by rw [ht]; exact hP, hD⟩, hS.F ht⟩) hS.2.2 dX0_sheet_15 hlocks
