set_option maxRecDepth 100000
/-! lemmas on ints, bytes, updates -/
theorem i8_id {x : Int32} (h1 : -128 ≤ x.toInt) (h2 : x.toInt ≤ 127) : x.toInt8.toInt32 = x := by
  rw [← Int32.toInt_inj, Int8.toInt_toInt32, Int32.toInt_toInt8, Int.bmod_def]
  omega
theorem nar_id {x : Int32} (h1 : -128 ≤ x.toInt) (h2 : x.toInt ≤ 127) : vp_nar .byte x = x := i8_id h1 h2
theorem nb_id {x : Int32} (h1 : -128 ≤ x.toInt) (h2 : x.toInt ≤ 127) : vp_nar .byte (x.toInt8.toInt32) = x := by
  rw [i8_id h1 h2]
  exact nar_id h1 h2
theorem add_i {a b : Int32} (h1 : -2147483648 ≤ a.toInt + b.toInt) (h2 : a.toInt + b.toInt ≤ 2147483647) : (a + b).toInt = a.toInt + b.toInt := by
  rw [Int32.toInt_add, Int.bmod_def]
  omega
theorem sub_i {a b : Int32} (h1 : -2147483648 ≤ a.toInt - b.toInt) (h2 : a.toInt - b.toInt ≤ 2147483647) : (a - b).toInt = a.toInt - b.toInt := by
  rw [Int32.toInt_sub, Int.bmod_def]
  omega
theorem mul_i {a b : Int32} (h1 : -2147483648 ≤ a.toInt * b.toInt) (h2 : a.toInt * b.toInt ≤ 2147483647) : (a * b).toInt = a.toInt * b.toInt := by
  rw [Int32.toInt_mul, Int.bmod_def]
  omega
theorem i1 : (1 : Int32).toInt = 1 := by decide
theorem i2 : (2 : Int32).toInt = 2 := by decide
theorem i3 : (3 : Int32).toInt = 3 := by decide
theorem i4 : (4 : Int32).toInt = 4 := by decide
theorem i9 : (9 : Int32).toInt = 9 := by decide
theorem upd_eq (f : Nat → Int32) (k : Nat) (v : Int32) : upd f k v k = v := by simp [upd]
theorem upd_ne (f : Nat → Int32) {k j : Nat} (v : Int32) (h : j ≠ k) : upd f k v j = f j := by simp [upd, h]
/-- a train's number, a block's -/
theorem tr_in {x T : Int32} (hT : T.toInt ≤ 4) (h0 : 0 ≤ T.toInt) (c : ¬ C_in_e x.toInt64 (0 : Int64) (T - (1 : Int32)).toInt64 = 0) : 0 ≤ x.toInt ∧ x.toInt < T.toInt := by
  have h := in32 c
  rw [z64, sub_i (by rw [i1]; omega) (by rw [i1]; omega), i1] at h
  omega
theorem bl_in {x B : Int32} (hB : B.toInt ≤ 8) (h0 : 2 ≤ B.toInt) (c : ¬ C_in_e x.toInt64 (0 : Int64) (B - (1 : Int32)).toInt64 = 0) : 0 ≤ x.toInt ∧ x.toInt < B.toInt := by
  have h := in32 c
  rw [z64, sub_i (by rw [i1]; omega) (by rw [i1]; omega), i1] at h
  omega
theorem of_ix {x y : Int32} (h1 : 0 ≤ x.toInt) (h2 : x.toInt < 4) (h3 : 0 ≤ y.toInt) (h4 : y.toInt ≤ 3) : ((4 : Int32) * x + y).toInt = 4 * x.toInt + y.toInt := by
  have h5 : ((4 : Int32) * x).toInt = 4 * x.toInt := by rw [mul_i (by rw [i4]; omega) (by rw [i4]; omega), i4]
  rw [add_i (by rw [h5]; omega) (by rw [h5]; omega), h5]
theorem pg_ix {x y : Int32} (h1 : 0 ≤ x.toInt) (h2 : x.toInt < 4) (h3 : 0 ≤ y.toInt) (h4 : y.toInt ≤ 3) : (((9 : Int32) + (4 : Int32) * y) + x).toInt = 9 + 4 * y.toInt + x.toInt := by
  have h5 : ((4 : Int32) * y).toInt = 4 * y.toInt := by rw [mul_i (by rw [i4]; omega) (by rw [i4]; omega), i4]
  have h6 : ((9 : Int32) + (4 : Int32) * y).toInt = 9 + 4 * y.toInt := by rw [add_i (by rw [h5, i9]; omega) (by rw [h5, i9]; omega), h5, i9]
  rw [add_i (by rw [h6]; omega) (by rw [h6]; omega), h6]
/-- a train's entry on the page -/
theorem pg_tr {st tr om : Nat → Int32} {G : Int32} (h : pgOK st 0 G om tr) {x y : Int32} (h1 : 0 ≤ x.toInt) (h2 : x.toInt < 4) (h3 : 0 ≤ y.toInt) (h4 : y.toInt ≤ 3) : st (((9 : Int32) + (4 : Int32) * y) + x).toNatClampNeg = tr ((4 : Int32) * x + y).toNatClampNeg := by
  rw [cl_of, cl_of, pg_ix h1 h2 h3 h4, of_ix h1 h2 h3 h4]
  have e1 : (9 + 4 * y.toInt + x.toInt).toNat = 0 + 9 + 4 * y.toInt.toNat + x.toInt.toNat := by omega
  have e2 : (4 * x.toInt + y.toInt).toNat = 4 * x.toInt.toNat + y.toInt.toNat := by omega
  rw [e1, e2]
  exact h.2.2 x.toInt.toNat (by omega) y.toInt.toNat (by omega)
theorem sok_train : SOK_train Inv := by
  intro kept locks seenMany bumpMinute bumpBlock bumpTrains waited keptOut used taped fault costSum safeSum allWays torn n_blocks n_guarded n_trains n_omen n_train t_blocks t_guarded t_trains t_omen t_train i0_blocks i0_guarded i0_trains i0_omen i0_train i1_blocks i1_guarded i1_trains i1_omen i1_train lockA seenA whr homes isSeen leftA were tape would m_blocks m_trainMany m_lockMany m_readBlocks m_readTrains m_readLockMany m_blocksTold m_omensTold m_highBlock m_taped m_fault m_broken m_brokenAt m_spot m_here m_token m_value m_bumpAt m_bumpIn m_bumpOf m_waited m_keptOut m_visited m_seenMany m_drawn m_torn m_state m_locks m_waits m_readPage m_readLocks m_tape m_cuts m_letters m_place m_left m_hasSeen m_homeAt m_places m_seen m_wouldBe m_isKept m_lanes m_lengths m_cells sh x1 x2 hI
  obtain ⟨hB, hT, hL, htp, hft, hsm, htr, hw, hcu, hle, hlk, bok, pok, lok, aok, im0, im1, kok, tok, sok, hsh⟩ := hI
  subst hB hT hL htp hft hsm htr
  have hv : ¬ C_isTrain_e m_trainMany x1 = 0 → ¬ C_in_e x2.toInt64 (0 : Int64) (3 : Int64) = 0 → (0 ≤ x1.toInt ∧ x1.toInt < 4) ∧ (0 ≤ x2.toInt ∧ x2.toInt ≤ 3) := by
    intro c1 c2
    have h1 := tr_in bok.2.2.2.1 bok.2.2.1 c1
    have h2 := in32c c2
    have h3 := bok.2.2.2.1
    rw [z64, show (3 : Int64).toInt = 3 from by decide] at h2
    exact ⟨by omega, h2⟩
  refine ⟨fun c1 c2 => ?_, fun c1 c2 => ?_, ?_, ⟨rfl, rfl, rfl, rfl, rfl, rfl, rfl, hw, hcu, hle, hlk, bok, pok, lok, aok, im0, im1, kok, tok, sok, hsh⟩⟩
  · obtain ⟨⟨a1, a2⟩, a3, a4⟩ := hv c1 c2
    exact vp_of (by rw [of_ix a1 a2 a3 a4]; omega) (by rw [of_ix a1 a2 a3 a4]; omega)
  · obtain ⟨⟨a1, a2⟩, a3, a4⟩ := hv c1 c2
    exact vp_of (by rw [pg_ix a1 a2 a3 a4]; omega) (by rw [pg_ix a1 a2 a3 a4]; omega)
  unfold C_train_e M_train_e
  rw [show M_isTrain_e m_trainMany x1 = C_isTrain_e m_trainMany x1 from rfl, Min_C]
  by_cases c1 : C_isTrain_e m_trainMany x1 = 0
  · rw [if_pos c1, if_pos c1]
  rw [if_neg c1, if_neg c1]
  by_cases c2 : C_in_e x2.toInt64 (0 : Int64) (3 : Int64) = 0
  · rw [if_pos c2, if_pos c2]
  rw [if_neg c2, if_neg c2]
  obtain ⟨⟨a1, a2⟩, a3, a4⟩ := hv c1 c2
  exact (pg_tr pok a1 a2 a3 a4).symm
theorem sok_feed : SOK_feed Inv := by
  intro kept locks seenMany bumpMinute bumpBlock bumpTrains waited keptOut used taped fault costSum safeSum allWays torn n_blocks n_guarded n_trains n_omen n_train t_blocks t_guarded t_trains t_omen t_train i0_blocks i0_guarded i0_trains i0_omen i0_train i1_blocks i1_guarded i1_trains i1_omen i1_train lockA seenA whr homes isSeen leftA were tape would m_blocks m_trainMany m_lockMany m_readBlocks m_readTrains m_readLockMany m_blocksTold m_omensTold m_highBlock m_taped m_fault m_broken m_brokenAt m_spot m_here m_token m_value m_bumpAt m_bumpIn m_bumpOf m_waited m_keptOut m_visited m_seenMany m_drawn m_torn m_state m_locks m_waits m_readPage m_readLocks m_tape m_cuts m_letters m_place m_left m_hasSeen m_homeAt m_places m_seen m_wouldBe m_isKept m_lanes m_lengths m_cells sh x1 hI
  obtain ⟨hB, hT, hL, htp, hft, hsm, htr, hw, hcu, hle, hlk, bok, pok, lok, aok, im0, im1, kok, tok, sok, hsh⟩ := hI
  subst hB hT hL htp hft hsm htr
  unfold C_feed M_feed
  refine ⟨fun c => ⟨fun _ => ⟨rfl, ⟨rfl, rfl, rfl, rfl, rfl, rfl, rfl, hw, hcu, hle, hlk, bok, pok, lok, aok, im0, im1, kok, tok, sok, hsh⟩⟩, fun c2 => absurd c c2⟩, fun c => ⟨fun c3 => ⟨fun c2 => absurd c2 c, fun _ => ⟨fun _ => ⟨rfl, ⟨rfl, rfl, rfl, rfl, rfl, rfl, rfl, hw, hcu, hle, hlk, bok, pok, lok, aok, im0, im1, kok, tok, sok, hsh⟩⟩, fun c4 => absurd c3 c4⟩⟩, fun c3 => ?_⟩⟩
  have h1 := in32c c
  rw [z64, show (127 : Int64).toInt = 127 from by decide] at h1
  have h2 := tok.1
  have h3 := tok.2.1
  have h4 : m_taped.toInt ≠ 160 := fun h => c3 (Int32.toInt_inj.mp (by rw [h]; decide))
  have h5 : vp_in m_taped 160 := vp_of h2 (by omega)
  have h6 : (m_taped + (1 : Int32)).toInt = m_taped.toInt + 1 := by rw [add_i (by rw [i1]; omega) (by rw [i1]; omega), i1]
  refine ⟨h5, fun c2 => absurd c2 c, fun _ => ⟨fun c4 => absurd c4 c3, fun _ => ⟨h5, rfl, ⟨rfl, rfl, rfl, rfl, rfl, rfl, rfl, hw, hcu, hle, hlk, bok, pok, lok, aok, im0, im1, kok, ?_, sok, hsh⟩⟩⟩⟩
  refine ⟨by omega, by omega, fun i hi => ?_⟩
  rw [nb_id (by omega) (by omega)]
  by_cases e : i = m_taped.toNatClampNeg
  · rw [e, upd_eq, upd_eq]
    exact ⟨rfl, by omega, by omega⟩
  · rw [upd_ne _ _ e, upd_ne _ _ e]
    rw [cl_of] at e
    exact tok.2.2 i (by omega)
