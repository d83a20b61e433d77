set_option maxRecDepth 100000
theorem sok_block : SOK_block Inv := by
  intro kept locks seenMany bumpMinute bumpBlock bumpTrains waited keptOut used taped fault costSum safeSum allWays torn n_blocks n_guarded n_trains n_omen n_train t_blocks t_guarded t_trains t_omen t_train i0_blocks i0_guarded i0_trains i0_omen i0_train i1_blocks i1_guarded i1_trains i1_omen i1_train lockA seenA whr homes isSeen leftA were tape would m_blocks m_trainMany m_lockMany m_readBlocks m_readTrains m_readLockMany m_blocksTold m_omensTold m_highBlock m_taped m_fault m_broken m_brokenAt m_spot m_here m_token m_value m_bumpAt m_bumpIn m_bumpOf m_waited m_keptOut m_visited m_seenMany m_drawn m_torn m_state m_locks m_waits m_readPage m_readLocks m_tape m_cuts m_letters m_place m_left m_hasSeen m_homeAt m_places m_seen m_wouldBe m_isKept m_lanes m_lengths m_cells sh x1 x2 hI
  obtain ⟨hB, hT, hL, htp, hft, hsm, htr, hw, hcu, hle, hlk, bok, pok, lok, aok, im0, im1, kok, tok, sok, hsh⟩ := hI
  subst hB hT hL htp hft hsm htr
  have hL9 : m_lockMany = nI m_lockMany.toInt.toNat := of_nn lok.1
  have hL4 : m_lockMany.toInt.toNat ≤ 4 := by have := lok.2.1; omega
  have hy : ∀ k : Int32 → Prop, k (lws lockA x1 m_lockMany.toInt.toNat) → ∃ n : Nat, C_block_L27 m_lockMany lockA x1 k n 0 0 := fun k hk => by rw [hL9]; exact ⟨_, lkC_L hL4 hk _ 0 (Nat.zero_add _)⟩
  have hz : ∀ k : Int32 → Prop, k (lws lockA x1 m_lockMany.toInt.toNat) → M_lockedWith m_lockMany m_locks x1 k := fun k hk => by
    rw [hL9]
    exact ⟨_, lkM_L (k := fun x => k x) hL4 (by rw [lws_eq x1 _ (fun l hl => hlk l (by omega))]; exact hk) _ 0 (Nat.zero_add _)⟩
  have hg : m_state (8 : Int32).toNatClampNeg = n_guarded := pok.2.1
  unfold C_block M_block
  rw [show M_isBlock_e m_blocks x1 = C_isBlock_e m_blocks x1 from rfl, Min_C, hg]
  refine ⟨fun c => ⟨fun _ => ⟨rfl, ⟨rfl, rfl, rfl, rfl, rfl, rfl, rfl, hw, hcu, hle, hlk, bok, pok, lok, aok, im0, im1, kok, tok, sok, hsh⟩⟩, fun c2 => absurd c c2⟩, fun c => ⟨fun c2 => ⟨fun c3 => absurd c3 c, fun _ => ⟨fun _ => ⟨rfl, ⟨rfl, rfl, rfl, rfl, rfl, rfl, rfl, hw, hcu, hle, hlk, bok, pok, lok, aok, im0, im1, kok, tok, sok, hsh⟩⟩, fun c3 => absurd c2 c3⟩⟩, fun c2 => ?_⟩⟩
  have h1 := bl_in bok.2.1 bok.1 c
  have h2 := bok.2.1
  refine hy _ ⟨fun _ => vp_of h1.1 (by omega), fun c3 => absurd c3 c, fun _ => ⟨fun c3 => absurd c3 c2, fun _ => ⟨fun e0 => ?_, fun e0 => ⟨fun e1 => ?_, fun e1 => hz _ ?_⟩⟩⟩⟩
  · rw [if_pos e0]
    have h3 := pok.1 x1.toNatClampNeg (by rw [cl_of]; omega)
    rw [Nat.zero_add] at h3
    exact ⟨vp_of h1.1 (by omega), h3.symm, ⟨rfl, rfl, rfl, rfl, rfl, rfl, rfl, hw, hcu, hle, hlk, bok, pok, lok, aok, im0, im1, kok, tok, sok, hsh⟩⟩
  · rw [if_neg e0, if_pos e1]
    exact ⟨rfl, ⟨rfl, rfl, rfl, rfl, rfl, rfl, rfl, hw, hcu, hle, hlk, bok, pok, lok, aok, im0, im1, kok, tok, sok, hsh⟩⟩
  · rw [if_neg e0, if_neg e1]
    exact ⟨rfl, ⟨rfl, rfl, rfl, rfl, rfl, rfl, rfl, hw, hcu, hle, hlk, bok, pok, lok, aok, im0, im1, kok, tok, sok, hsh⟩⟩
