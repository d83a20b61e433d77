set_option maxRecDepth 100000
theorem sok_forget : SOK_forget Inv := by
  intro kept locks seenMany bumpMinute bumpBlock bumpTrains waited keptOut used taped fault costSum safeSum allWays torn n_blocks n_guarded n_trains n_omen n_train t_blocks t_guarded t_trains t_omen t_train i0_blocks i0_guarded i0_trains i0_omen i0_train i1_blocks i1_guarded i1_trains i1_omen i1_train lockA seenA whr homes isSeen leftA were tape would m_blocks m_trainMany m_lockMany m_readBlocks m_readTrains m_readLockMany m_blocksTold m_omensTold m_highBlock m_taped m_fault m_broken m_brokenAt m_spot m_here m_token m_value m_bumpAt m_bumpIn m_bumpOf m_waited m_keptOut m_visited m_seenMany m_drawn m_torn m_state m_locks m_waits m_readPage m_readLocks m_tape m_cuts m_letters m_place m_left m_hasSeen m_homeAt m_places m_seen m_wouldBe m_isKept m_lanes m_lengths m_cells sh x1 hI
  obtain ⟨hB, hT, hL, htp, hft, hsm, htr, hw, hcu, hle, hlk, bok, pok, lok, aok, im0, im1, kok, tok, sok, hsh⟩ := hI
  subst hB hT hL htp hft hsm htr
  unfold C_forget M_forget
  refine ⟨fun c => ⟨fun _ => ⟨rfl, ⟨rfl, rfl, rfl, rfl, rfl, rfl, rfl, hw, hcu, hle, hlk, bok, pok, lok, aok, im0, im1, kok, tok, sok, hsh⟩⟩, fun c2 => absurd c c2⟩, fun c => ⟨fun c2 => absurd c2 c, fun _ => ⟨rfl, ⟨rfl, rfl, rfl, rfl, rfl, rfl, rfl, hw, hcu, hle, hlk, bok, pok, lok, aok, im0, im1, kok, tok, ?_, hsh⟩⟩⟩⟩
  have h := in32 c
  rw [z64] at h
  exact ⟨h.1, Int.le_trans h.2 sok.2.1, fun k hk => sok.2.2 k (Int.lt_of_lt_of_le hk h.2)⟩
theorem sok_end : SOK_end Inv := by
  intro kept locks seenMany bumpMinute bumpBlock bumpTrains waited keptOut used taped fault costSum safeSum allWays torn n_blocks n_guarded n_trains n_omen n_train t_blocks t_guarded t_trains t_omen t_train i0_blocks i0_guarded i0_trains i0_omen i0_train i1_blocks i1_guarded i1_trains i1_omen i1_train lockA seenA whr homes isSeen leftA were tape would m_blocks m_trainMany m_lockMany m_readBlocks m_readTrains m_readLockMany m_blocksTold m_omensTold m_highBlock m_taped m_fault m_broken m_brokenAt m_spot m_here m_token m_value m_bumpAt m_bumpIn m_bumpOf m_waited m_keptOut m_visited m_seenMany m_drawn m_torn m_state m_locks m_waits m_readPage m_readLocks m_tape m_cuts m_letters m_place m_left m_hasSeen m_homeAt m_places m_seen m_wouldBe m_isKept m_lanes m_lengths m_cells sh x1 hI
  obtain ⟨hB, hT, hL, htp, hft, hsm, htr, hw, hcu, hle, hlk, bok, pok, lok, aok, im0, im1, kok, tok, sok, hsh⟩ := hI
  subst hB hT hL htp hft hsm htr
  unfold C_end M_end
  refine ⟨fun c => ⟨fun _ => ⟨rfl, ⟨rfl, rfl, rfl, rfl, rfl, rfl, rfl, hw, hcu, hle, hlk, bok, pok, lok, aok, im0, im1, kok, tok, sok, hsh⟩⟩, fun c2 => absurd c c2⟩, fun c => ⟨fun c2 => absurd c2 c, fun _ => ⟨rfl, ⟨rfl, rfl, rfl, rfl, rfl, rfl, rfl, hw, hcu, hle, hlk, bok, pok, lok, aok, im0, im1, kok, ?_, sok, hsh⟩⟩⟩⟩
  have h := in32 c
  rw [z64] at h
  exact ⟨h.1, Int.le_trans h.2 tok.2.1, fun k hk => tok.2.2 k (Int.lt_of_lt_of_le hk h.2)⟩
theorem sok_lock : SOK_lock Inv := by
  intro kept locks seenMany bumpMinute bumpBlock bumpTrains waited keptOut used taped fault costSum safeSum allWays torn n_blocks n_guarded n_trains n_omen n_train t_blocks t_guarded t_trains t_omen t_train i0_blocks i0_guarded i0_trains i0_omen i0_train i1_blocks i1_guarded i1_trains i1_omen i1_train lockA seenA whr homes isSeen leftA were tape would m_blocks m_trainMany m_lockMany m_readBlocks m_readTrains m_readLockMany m_blocksTold m_omensTold m_highBlock m_taped m_fault m_broken m_brokenAt m_spot m_here m_token m_value m_bumpAt m_bumpIn m_bumpOf m_waited m_keptOut m_visited m_seenMany m_drawn m_torn m_state m_locks m_waits m_readPage m_readLocks m_tape m_cuts m_letters m_place m_left m_hasSeen m_homeAt m_places m_seen m_wouldBe m_isKept m_lanes m_lengths m_cells sh x1 x2 hI
  obtain ⟨hB, hT, hL, htp, hft, hsm, htr, hw, hcu, hle, hlk, bok, pok, lok, aok, im0, im1, kok, tok, sok, hsh⟩ := hI
  subst hB hT hL htp hft hsm htr
  have hv : ¬ C_in_e x1.toInt64 (0 : Int64) (m_lockMany - (1 : Int32)).toInt64 = 0 → ¬ C_in_e x2.toInt64 (0 : Int64) (1 : Int64) = 0 → (((2 : Int32) * x1 + x2).toNatClampNeg : Int) < 2 * m_lockMany.toInt ∧ vp_in ((2 : Int32) * x1 + x2) 8 := by
    intro c1 c2
    have h1 := in32 c1
    have h2 := in32c c2
    have h3 := lok.1
    have h4 := lok.2.1
    rw [z64] at h1 h2
    rw [show (1 : Int64).toInt = 1 from by decide] at h2
    have h5 : (m_lockMany - (1 : Int32)).toInt = m_lockMany.toInt - 1 := by
      rw [Int32.toInt_sub, show (1 : Int32).toInt = 1 from by decide, Int.bmod_def]
      omega
    have h6 : ((2 : Int32) * x1 + x2).toInt = 2 * x1.toInt + x2.toInt := by
      rw [Int32.toInt_add, Int32.toInt_mul, show (2 : Int32).toInt = 2 from by decide, Int.bmod_def, Int.bmod_def]
      omega
    exact ⟨by rw [cl_of, h6]; omega, vp_of (by omega) (by omega)⟩
  refine ⟨fun c1 c2 => (hv c1 c2).2, fun c1 c2 => (hv c1 c2).2, ?_, ⟨rfl, rfl, rfl, rfl, rfl, rfl, rfl, hw, hcu, hle, hlk, bok, pok, lok, aok, im0, im1, kok, tok, sok, hsh⟩⟩
  unfold C_lock_e M_lock_e C_isPart_e
  rw [Min_C, Min_C]
  by_cases c1 : C_in_e x1.toInt64 (0 : Int64) (m_lockMany - (1 : Int32)).toInt64 = 0
  · rw [if_pos c1, if_pos c1]
  rw [if_neg c1, if_neg c1]
  by_cases c2 : C_in_e x2.toInt64 (0 : Int64) (1 : Int64) = 0
  · rw [if_pos c2, if_pos c2]
  rw [if_neg c2, if_neg c2]
  exact (hlk _ (hv c1 c2).1).symm
