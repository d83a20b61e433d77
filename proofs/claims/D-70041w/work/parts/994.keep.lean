set_option maxRecDepth 100000
theorem kp_a {k0 k1 kept : Int32} (h0 : zb k0) (h1 : zb k1) (h : kept = k0 + 2 * k1) : (kept >>> ((0 : Int32) &&& 31)) &&& (1 : Int32) = (if k0 = 0 then (0 : Int32) else (1 : Int32)) ∧ (kept >>> ((1 : Int32) &&& 31)) &&& (1 : Int32) = (if k1 = 0 then (0 : Int32) else (1 : Int32)) ∧ kept ||| ((1 : Int32) <<< ((0 : Int32) &&& 31)) = 1 + 2 * k1 ∧ kept ||| ((1 : Int32) <<< ((1 : Int32) &&& 31)) = k0 + 2 * 1 := by
  subst h
  rcases h0 with rfl | rfl <;> rcases h1 with rfl | rfl <;> decide
theorem im_new {st om tr om2 tr2 lk : Nat → Int32} {p L : Nat} {B T G k : Int32} (hL : L ≤ 4) (hk : ∀ l : Nat, l < 8 → 0 ≤ (lk l).toInt ∧ (lk l).toInt < 8) (ho : ∀ b : Nat, b < 8 → om2 b = om b) (ht : ∀ i : Nat, i < 16 → tr2 i = tr i) (hb : bOK B T om tr) (hp : pgOK st p G om tr) (ha : alOK (nI L) lk om) : imOK k st p B T (nI L) lk B G T om2 tr2 := fun _ => ⟨rfl, rfl, bo_cg ho ht hb, pg_cg ho ht hp, al_cg hk (by rw [nI_toInt (by omega)]; omega) ho ha⟩
theorem sok_keep : SOK_keep Inv := by
  intro kept locks seenMany bumpMinute bumpBlock bumpTrains waited keptOut used taped fault costSum safeSum allWays torn n_blocks n_guarded n_trains n_omen n_train t_blocks t_guarded t_trains t_omen t_train i0_blocks i0_guarded i0_trains i0_omen i0_train i1_blocks i1_guarded i1_trains i1_omen i1_train lockA seenA whr homes isSeen leftA were tape would m_blocks m_trainMany m_lockMany m_readBlocks m_readTrains m_readLockMany m_blocksTold m_omensTold m_highBlock m_taped m_fault m_broken m_brokenAt m_spot m_here m_token m_value m_bumpAt m_bumpIn m_bumpOf m_waited m_keptOut m_visited m_seenMany m_drawn m_torn m_state m_locks m_waits m_readPage m_readLocks m_tape m_cuts m_letters m_place m_left m_hasSeen m_homeAt m_places m_seen m_wouldBe m_isKept m_lanes m_lengths m_cells sh x1 hI
  obtain ⟨hB, hT, hL, htp, hft, hsm, htr, hw, hcu, hle, hlk, bok, pok, lok, aok, im0, im1, kok, tok, sok, hsh⟩ := hI
  subst hB hT hL htp hft hsm htr
  obtain ⟨B, hB2, hB8, rfl⟩ := ex_n (l := 2) (h := 8) bok.1 bok.2.1
  obtain ⟨T, hT0, hT4, rfl⟩ := ex_n (l := 0) (h := 4) bok.2.2.1 bok.2.2.2.1
  subst hw
  obtain ⟨L, hL0, hL4, rfl⟩ := ex_n (l := 0) (h := 4) lok.1 lok.2.1
  have hlk2 : ∀ l : Nat, l < 2 * L → m_locks l = lockA l := fun l hl => hlk l (by rw [nI_toInt (by omega)]; omega)
  obtain ⟨z0, z1, hk⟩ := kok
  obtain ⟨k1, k2, k3, k4⟩ := kp_a z0 z1 hk
  have c0 : (0 : Int32).toNatClampNeg = 0 := by decide
  have c1 : (1 : Int32).toNatClampNeg = 1 := by decide
  unfold C_keep M_keep
  rw [Min_C]
  refine ⟨fun c => ⟨fun _ => ⟨rfl, ⟨rfl, rfl, rfl, rfl, rfl, rfl, rfl, rfl, hcu, hle, hlk, bok, pok, lok, aok, im0, im1, ⟨z0, z1, hk⟩, tok, sok, hsh⟩⟩, fun c2 => absurd c c2⟩, fun c => ?_⟩
  rcases x_01 c with rfl | rfl
  · obtain ⟨s1, hcp, hcp1, hcp2⟩ := copies_y (a := 0) (b := 25) (by omega) (by omega) (by omega) m_state
    obtain ⟨uO, uR, hA, hO, hR⟩ := as_y bok n_guarded i0_blocks i0_guarded i0_trains i0_omen i0_train
    have hp1 : pgOK s1 0 n_guarded n_omen n_train := pg_st (p := 0) (fun i _ hi => hcp2 i (by omega)) pok
    have hp2 : pgOK s1 25 n_guarded n_omen n_train := pg_mv (a := 0) (b := 25) hcp1 pok
    refine ⟨vi_0_2, fun _ => hA _ ⟨fun c2 => absurd c2 c, fun _ => ?_⟩, fun h => absurd rfl h⟩
    rw [show (25 : Int32) * ((0 : Int32) + (1 : Int32)) = nI 25 from by decide]
    refine hcp _ ⟨vi_0_2, vi_0_2, ?_, ?_⟩
    · rw [k1, c0]
    · rw [k3, c0, nar_b1]
      have e1 : upd m_isKept 0 (1 : Int32) 1 = m_isKept 1 := upd_ne _ _ (by omega)
      have e0 : upd m_isKept 0 (1 : Int32) 0 = 1 := upd_eq _ _ _
      have im02 : imOK (upd m_isKept 0 (1 : Int32) 0) s1 25 (nI B) (nI T) (nI L) lockA (nI B) n_guarded (nI T) uO uR := im_new hL4 lok.2.2.1 hO hR bok hp2 aok
      have im12 : imOK (upd m_isKept 0 (1 : Int32) 1) s1 50 (nI B) (nI T) (nI L) lockA i1_blocks i1_guarded i1_trains i1_omen i1_train := by
        rw [e1]
        exact im_st (fun i h1 h2 => hcp2 i (by omega)) im1
      have kok2 : zb (upd m_isKept 0 (1 : Int32) 0) ∧ zb (upd m_isKept 0 (1 : Int32) 1) ∧ 1 + 2 * m_isKept 1 = upd m_isKept 0 (1 : Int32) 0 + 2 * upd m_isKept 0 (1 : Int32) 1 := by
        rw [e0, e1]
        exact ⟨zb_1, z1, rfl⟩
      exact ⟨rfl, rfl, rfl, rfl, rfl, rfl, rfl, rfl, hcu, hle, hlk, bok, hp1, lok, aok, im02, im12, kok2, tok, sok, hsh⟩
  · obtain ⟨s1, hcp, hcp1, hcp2⟩ := copies_y (a := 0) (b := 50) (by omega) (by omega) (by omega) m_state
    obtain ⟨uO, uR, hA, hO, hR⟩ := as_y bok n_guarded i1_blocks i1_guarded i1_trains i1_omen i1_train
    have hp1 : pgOK s1 0 n_guarded n_omen n_train := pg_st (p := 0) (fun i _ hi => hcp2 i (by omega)) pok
    have hp2 : pgOK s1 50 n_guarded n_omen n_train := pg_mv (a := 0) (b := 50) hcp1 pok
    refine ⟨vi_1_2, fun h => absurd h (by decide), fun _ => hA _ ⟨fun c2 => absurd c2 c, fun _ => ?_⟩⟩
    rw [show (25 : Int32) * ((1 : Int32) + (1 : Int32)) = nI 50 from by decide]
    refine hcp _ ⟨vi_1_2, vi_1_2, ?_, ?_⟩
    · rw [k2, c1]
    · rw [k4, c1, nar_b1]
      have e1 : upd m_isKept 1 (1 : Int32) 1 = 1 := upd_eq _ _ _
      have e0 : upd m_isKept 1 (1 : Int32) 0 = m_isKept 0 := upd_ne _ _ (by omega)
      have im12 : imOK (upd m_isKept 1 (1 : Int32) 1) s1 50 (nI B) (nI T) (nI L) lockA (nI B) n_guarded (nI T) uO uR := im_new hL4 lok.2.2.1 hO hR bok hp2 aok
      have im02 : imOK (upd m_isKept 1 (1 : Int32) 0) s1 25 (nI B) (nI T) (nI L) lockA i0_blocks i0_guarded i0_trains i0_omen i0_train := by
        rw [e0]
        exact im_st (fun i h1 h2 => hcp2 i (by omega)) im0
      have kok2 : zb (upd m_isKept 1 (1 : Int32) 0) ∧ zb (upd m_isKept 1 (1 : Int32) 1) ∧ m_isKept 0 + 2 * 1 = upd m_isKept 1 (1 : Int32) 0 + 2 * upd m_isKept 1 (1 : Int32) 1 := by
        rw [e0, e1]
        exact ⟨z0, zb_1, rfl⟩
      exact ⟨rfl, rfl, rfl, rfl, rfl, rfl, rfl, rfl, hcu, hle, hlk, bok, hp1, lok, aok, im02, im12, kok2, tok, sok, hsh⟩
theorem sok_back : SOK_back Inv := by
  intro kept locks seenMany bumpMinute bumpBlock bumpTrains waited keptOut used taped fault costSum safeSum allWays torn n_blocks n_guarded n_trains n_omen n_train t_blocks t_guarded t_trains t_omen t_train i0_blocks i0_guarded i0_trains i0_omen i0_train i1_blocks i1_guarded i1_trains i1_omen i1_train lockA seenA whr homes isSeen leftA were tape would m_blocks m_trainMany m_lockMany m_readBlocks m_readTrains m_readLockMany m_blocksTold m_omensTold m_highBlock m_taped m_fault m_broken m_brokenAt m_spot m_here m_token m_value m_bumpAt m_bumpIn m_bumpOf m_waited m_keptOut m_visited m_seenMany m_drawn m_torn m_state m_locks m_waits m_readPage m_readLocks m_tape m_cuts m_letters m_place m_left m_hasSeen m_homeAt m_places m_seen m_wouldBe m_isKept m_lanes m_lengths m_cells sh x1 hI
  obtain ⟨hB, hT, hL, htp, hft, hsm, htr, hw, hcu, hle, hlk, bok, pok, lok, aok, im0, im1, kok, tok, sok, hsh⟩ := hI
  subst hB hT hL htp hft hsm htr
  obtain ⟨B, hB2, hB8, rfl⟩ := ex_n (l := 2) (h := 8) bok.1 bok.2.1
  obtain ⟨T, hT0, hT4, rfl⟩ := ex_n (l := 0) (h := 4) bok.2.2.1 bok.2.2.2.1
  subst hw
  obtain ⟨L, hL0, hL4, rfl⟩ := ex_n (l := 0) (h := 4) lok.1 lok.2.1
  have hlk2 : ∀ l : Nat, l < 2 * L → m_locks l = lockA l := fun l hl => hlk l (by rw [nI_toInt (by omega)]; omega)
  have kok' := kok
  obtain ⟨z0, z1, hk⟩ := kok
  obtain ⟨k1, k2, k3, k4⟩ := kp_a z0 z1 hk
  have kok := kok'
  have c0 : (0 : Int32).toNatClampNeg = 0 := by decide
  have c1 : (1 : Int32).toNatClampNeg = 1 := by decide
  have tL := nI_toInt (n := L) (by omega)
  unfold C_back M_back
  rw [Min_C, has_bz]
  refine ⟨fun c => ⟨fun _ => ⟨rfl, ⟨rfl, rfl, rfl, rfl, rfl, rfl, rfl, rfl, hcu, hle, hlk, bok, pok, lok, aok, im0, im1, kok, tok, sok, hsh⟩⟩, fun c2 => absurd c c2⟩, fun c => ?_⟩
  rcases x_01 c with rfl | rfl
  · have hb0 : bz kept 0 = (if m_isKept 0 = 0 then (0 : Int32) else (1 : Int32)) := k1
    rw [c0, hb0]
    by_cases h0 : m_isKept 0 = 0
    · rw [if_pos h0]
      exact ⟨fun _ => ⟨fun c2 => absurd c2 c, fun _ => ⟨vi_0_2, fun _ => ⟨rfl, ⟨rfl, rfl, rfl, rfl, rfl, rfl, rfl, rfl, hcu, hle, hlk, bok, pok, lok, aok, im0, im1, kok, tok, sok, hsh⟩⟩, fun c2 => absurd h0 c2⟩⟩, fun c2 => absurd rfl c2⟩
    · rw [if_neg h0]
      obtain ⟨e1, e2, ib, ip, ia⟩ := im0 (z0.resolve_left h0)
      subst e1 e2
      obtain ⟨s1, hcp, hcp1, hcp2⟩ := copies_y (a := 25) (b := 0) (by omega) (by omega) (by omega) m_state
      obtain ⟨uO, uR, hA, hO, hR⟩ := as_y ib i0_guarded (nI B) n_guarded (nI T) n_omen n_train
      have bok2 := bo_cg hO hR ib
      have pok2 : pgOK s1 0 i0_guarded uO uR := pg_cg hO hR (pg_mv (a := 25) (b := 0) hcp1 ip)
      have aok2 : alOK (nI L) lockA uO := al_cg lok.2.2.1 (by omega) hO ia
      have im02 := im_st (fun i h1 h2 => hcp2 i (by omega)) im0
      have im12 := im_st (fun i h1 h2 => hcp2 i (by omega)) im1
      obtain ⟨h, hh, eh⟩ := hs_n uO B hB8
      have h256 := pow_8 B hB8
      refine ⟨fun c2 => absurd c2 (by decide), fun _ => ⟨vi_0_2, fun _ => hA _ (hung_y hB8 uO ?_), fun c2 => absurd rfl c2⟩⟩
      rw [eh]
      refine bc_y (by omega) ⟨fun c2 => absurd c2 c, fun _ => ⟨vi_0_2, fun c2 => absurd c2 h0, fun _ => ?_⟩⟩
      rw [show (25 : Int32) * ((0 : Int32) + (1 : Int32)) = nI 25 from by decide]
      refine hcp _ (omens_y hB8 (fun b hb => ⟨pg_b pok2 hb, (bok2.2.2.2.2.1 b hb).1⟩) ?_)
      rw [eh]
      exact bits_y ⟨rfl, ⟨rfl, rfl, rfl, rfl, rfl, rfl, rfl, rfl, hcu, hle, hlk, bok2, pok2, lok, aok2, im02, im12, kok, tok, sok, hsh⟩⟩
  · have hb0 : bz kept 1 = (if m_isKept 1 = 0 then (0 : Int32) else (1 : Int32)) := k2
    rw [c1, hb0]
    by_cases h0 : m_isKept 1 = 0
    · rw [if_pos h0]
      exact ⟨fun _ => ⟨fun c2 => absurd c2 c, fun _ => ⟨vi_1_2, fun _ => ⟨rfl, ⟨rfl, rfl, rfl, rfl, rfl, rfl, rfl, rfl, hcu, hle, hlk, bok, pok, lok, aok, im0, im1, kok, tok, sok, hsh⟩⟩, fun c2 => absurd h0 c2⟩⟩, fun c2 => absurd rfl c2⟩
    · rw [if_neg h0]
      obtain ⟨e1, e2, ib, ip, ia⟩ := im1 (z1.resolve_left h0)
      subst e1 e2
      obtain ⟨s1, hcp, hcp1, hcp2⟩ := copies_y (a := 50) (b := 0) (by omega) (by omega) (by omega) m_state
      obtain ⟨uO, uR, hA, hO, hR⟩ := as_y ib i1_guarded (nI B) n_guarded (nI T) n_omen n_train
      have bok2 := bo_cg hO hR ib
      have pok2 : pgOK s1 0 i1_guarded uO uR := pg_cg hO hR (pg_mv (a := 50) (b := 0) hcp1 ip)
      have aok2 : alOK (nI L) lockA uO := al_cg lok.2.2.1 (by omega) hO ia
      have im02 := im_st (fun i h1 h2 => hcp2 i (by omega)) im0
      have im12 := im_st (fun i h1 h2 => hcp2 i (by omega)) im1
      obtain ⟨h, hh, eh⟩ := hs_n uO B hB8
      have h256 := pow_8 B hB8
      refine ⟨fun c2 => absurd c2 (by decide), fun _ => ⟨vi_1_2, fun c2 => absurd c2 (by decide), fun _ => hA _ (hung_y hB8 uO ?_)⟩⟩
      rw [eh]
      refine bc_y (by omega) ⟨fun c2 => absurd c2 c, fun _ => ⟨vi_1_2, fun c2 => absurd c2 h0, fun _ => ?_⟩⟩
      rw [show (25 : Int32) * ((1 : Int32) + (1 : Int32)) = nI 50 from by decide]
      refine hcp _ (omens_y hB8 (fun b hb => ⟨pg_b pok2 hb, (bok2.2.2.2.2.1 b hb).1⟩) ?_)
      rw [eh]
      exact bits_y ⟨rfl, ⟨rfl, rfl, rfl, rfl, rfl, rfl, rfl, rfl, hcu, hle, hlk, bok2, pok2, lok, aok2, im02, im12, kok, tok, sok, hsh⟩⟩
