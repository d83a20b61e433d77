set_option maxRecDepth 100000
theorem sok_rule : SOK_rule Inv := by
  intro kept locks seenMany bumpMinute bumpBlock bumpTrains waited keptOut used taped fault costSum safeSum allWays torn n_blocks n_guarded n_trains n_omen n_train t_blocks t_guarded t_trains t_omen t_train i0_blocks i0_guarded i0_trains i0_omen i0_train i1_blocks i1_guarded i1_trains i1_omen i1_train lockA seenA whr homes isSeen leftA were tape would m_blocks m_trainMany m_lockMany m_readBlocks m_readTrains m_readLockMany m_blocksTold m_omensTold m_highBlock m_taped m_fault m_broken m_brokenAt m_spot m_here m_token m_value m_bumpAt m_bumpIn m_bumpOf m_waited m_keptOut m_visited m_seenMany m_drawn m_torn m_state m_locks m_waits m_readPage m_readLocks m_tape m_cuts m_letters m_place m_left m_hasSeen m_homeAt m_places m_seen m_wouldBe m_isKept m_lanes m_lengths m_cells sh x1 hI
  obtain ⟨hB, hT, hL, htp, hft, hsm, htr, hw, hcu, hle, hlk, bok, pok, lok, aok, im0, im1, kok, tok, sok, hsh⟩ := hI
  subst hB hT hL htp hft hsm htr
  have hB9 : m_blocks = nI m_blocks.toInt.toNat := of_nn (Int.le_trans (by decide) bok.1)
  have hB8 : m_blocks.toInt.toNat ≤ 8 := by have := bok.2.1; omega
  have ho : ∀ b : Nat, b < 8 → m_state b = n_omen b ∧ 0 ≤ (n_omen b).toInt := fun b hb => ⟨by have := pok.1 b hb; rwa [Nat.zero_add] at this, (bok.2.2.2.2.1 b hb).1⟩
  have hy : ∀ Q : Int32 → Prop, Q (hs n_omen m_blocks.toInt.toNat) → B_hung m_blocks n_omen Q := fun Q hQ => by rw [hB9]; exact hung_y hB8 n_omen hQ
  have hz : ∀ Q : Int32 → Prop, Q (hs n_omen m_blocks.toInt.toNat) → M_omens m_blocks m_state Q := fun Q hQ => by rw [hB9]; exact omens_y hB8 ho hQ
  have hg : m_state (8 : Int32).toNatClampNeg = n_guarded := pok.2.1
  unfold C_rule M_rule
  refine ⟨fun c => ?_, fun c => ?_, fun c => ?_, fun c => ?_, fun c => ?_, fun c => ?_⟩
  · subst c
    exact ⟨fun _ => ⟨rfl, ⟨rfl, rfl, rfl, rfl, rfl, rfl, rfl, hw, hcu, hle, hlk, bok, pok, lok, aok, im0, im1, kok, tok, sok, hsh⟩⟩, fun h => absurd h (by decide), fun h => absurd h (by decide), fun h => absurd h (by decide), fun h => absurd h (by decide), fun h => absurd h (by decide)⟩
  · subst c
    exact ⟨fun h => absurd h (by decide), fun _ => ⟨rfl, ⟨rfl, rfl, rfl, rfl, rfl, rfl, rfl, hw, hcu, hle, hlk, bok, pok, lok, aok, im0, im1, kok, tok, sok, hsh⟩⟩, fun h => absurd h (by decide), fun h => absurd h (by decide), fun h => absurd h (by decide), fun h => absurd h (by decide)⟩
  · subst c
    exact ⟨fun h => absurd h (by decide), fun h => absurd h (by decide), fun _ => ⟨rfl, ⟨rfl, rfl, rfl, rfl, rfl, rfl, rfl, hw, hcu, hle, hlk, bok, pok, lok, aok, im0, im1, kok, tok, sok, hsh⟩⟩, fun h => absurd h (by decide), fun h => absurd h (by decide), fun h => absurd h (by decide)⟩
  · subst c
    rw [hg]
    exact ⟨fun h => absurd h (by decide), fun h => absurd h (by decide), fun h => absurd h (by decide), fun _ => ⟨rfl, ⟨rfl, rfl, rfl, rfl, rfl, rfl, rfl, hw, hcu, hle, hlk, bok, pok, lok, aok, im0, im1, kok, tok, sok, hsh⟩⟩, fun h => absurd h (by decide), fun h => absurd h (by decide)⟩
  · subst c
    exact hy _ ⟨fun h => absurd h (by decide), fun h => absurd h (by decide), fun h => absurd h (by decide), fun h => absurd h (by decide), fun _ => hz _ ⟨rfl, ⟨rfl, rfl, rfl, rfl, rfl, rfl, rfl, hw, hcu, hle, hlk, bok, pok, lok, aok, im0, im1, kok, tok, sok, hsh⟩⟩, fun h => absurd h (by decide)⟩
  · exact ⟨fun h => absurd h (fun h2 => by rw [h2] at c; revert c; decide), fun h => absurd h (fun h2 => by rw [h2] at c; revert c; decide), fun h => absurd h (fun h2 => by rw [h2] at c; revert c; decide), fun h => absurd h (fun h2 => by rw [h2] at c; revert c; decide), fun h => absurd h (fun h2 => by rw [h2] at c; revert c; decide), fun _ => ⟨rfl, ⟨rfl, rfl, rfl, rfl, rfl, rfl, rfl, hw, hcu, hle, hlk, bok, pok, lok, aok, im0, im1, kok, tok, sok, hsh⟩⟩⟩
