set_option maxRecDepth 100000
theorem pg_out {st om tr : Nat → Int32} {G v : Int32} {p i : Nat} (hi : i < p ∨ p + 25 ≤ i) (h : pgOK st p G om tr) : pgOK (upd st i v) p G om tr := ⟨fun b hb => by rw [upd_ne _ _ (by omega)]; exact h.1 b hb, by rw [upd_ne _ _ (by omega)]; exact h.2.1, fun t ht w hw => by rw [upd_ne _ _ (by omega)]; exact h.2.2 t ht w hw⟩
theorem im_out {k : Int32} {st : Nat → Int32} {p : Nat} {B T L : Int32} {lk : Nat → Int32} {iB iG iT : Int32} {iom itr : Nat → Int32} {i : Nat} {v : Int32} (hi : i < p ∨ p + 25 ≤ i) (h : imOK k st p B T L lk iB iG iT iom itr) : imOK k (upd st i v) p B T L lk iB iG iT iom itr := fun hk => ⟨(h hk).1, (h hk).2.1, (h hk).2.2.1, pg_out hi (h hk).2.2.2.1, (h hk).2.2.2.2⟩
theorem pg_set {st om tr : Nat → Int32} {G v : Int32} {t w : Nat} (ht : t < 4) (hw : w < 4) (h : pgOK st 0 G om tr) : pgOK (upd st (9 + 4 * w + t) v) 0 G om (upd tr (4 * t + w) v) := by
  refine ⟨fun b hb => by rw [upd_ne _ _ (by omega)]; exact h.1 b hb, by rw [upd_ne _ _ (by omega)]; exact h.2.1, fun t2 ht2 w2 hw2 => ?_⟩
  by_cases e : t2 = t ∧ w2 = w
  · obtain ⟨rfl, rfl⟩ := e
    rw [show 0 + 9 + 4 * w2 + t2 = 9 + 4 * w2 + t2 from by omega, upd_eq, upd_eq]
  · rw [upd_ne _ _ (by omega), upd_ne _ _ (by omega)]
    exact h.2.2 t2 ht2 w2 hw2
theorem b_set {B T v : Int32} {om tr : Nat → Int32} {t w : Nat} (hw : w < 4) (h : bOK B T om tr) (h0 : 0 ≤ v.toInt) (h1 : v.toInt ≤ (if w = 0 then 3 else if w = 1 then 1 else 9)) : bOK B T om (upd tr (4 * t + w) v) := by
  refine ⟨h.1, h.2.1, h.2.2.1, h.2.2.2.1, h.2.2.2.2.1, fun t2 ht2 => ?_⟩
  obtain ⟨a0, a1, a2, a3⟩ := h.2.2.2.2.2 t2 ht2
  refine ⟨?_, ?_, ?_, ?_⟩
  · by_cases e : 4 * t2 = 4 * t + w
    · rw [e, upd_eq]
      rw [if_pos (show w = 0 by omega)] at h1
      exact ⟨h0, h1⟩
    · rw [upd_ne _ _ e]; exact a0
  · by_cases e : 4 * t2 + 1 = 4 * t + w
    · rw [e, upd_eq]
      rw [if_neg (show ¬ w = 0 by omega), if_pos (show w = 1 by omega)] at h1
      exact ⟨h0, h1⟩
    · rw [upd_ne _ _ e]; exact a1
  · by_cases e : 4 * t2 + 2 = 4 * t + w
    · rw [e, upd_eq]
      rw [if_neg (show ¬ w = 0 by omega), if_neg (show ¬ w = 1 by omega)] at h1
      exact ⟨h0, h1⟩
    · rw [upd_ne _ _ e]; exact a2
  · by_cases e : 4 * t2 + 3 = 4 * t + w
    · rw [e, upd_eq]
      rw [if_neg (show ¬ w = 0 by omega), if_neg (show ¬ w = 1 by omega)] at h1
      exact ⟨h0, h1⟩
    · rw [upd_ne _ _ e]; exact a3
theorem vi_five {i : Int32} (h : vp_in i 5) : i = 0 ∨ i = 1 ∨ i = 2 ∨ i = 3 ∨ i = 4 := by
  obtain ⟨j, hj, rfl⟩ := vp_in_of h (by decide)
  have : j = 0 ∨ j = 1 ∨ j = 2 ∨ j = 3 ∨ j = 4 := by omega
  rcases this with rfl | rfl | rfl | rfl | rfl <;> decide
theorem wt_eq {x y : Int32} (hx : vp_in x 4) (hy : vp_in y 5) : F_waits_e x y = M0_waits ((5 : Int32) * x + y).toNatClampNeg ∧ vp_in ((5 : Int32) * x + y) 20 := by
  rcases vi_four hx with rfl | rfl | rfl | rfl <;> rcases vi_five hy with rfl | rfl | rfl | rfl | rfl <;> exact ⟨by decide +kernel, by unfold vp_in; decide +kernel⟩
theorem sok_waits : SOK_waits Inv := by
  intro kept locks seenMany bumpMinute bumpBlock bumpTrains waited keptOut used taped fault costSum safeSum allWays torn n_blocks n_guarded n_trains n_omen n_train t_blocks t_guarded t_trains t_omen t_train i0_blocks i0_guarded i0_trains i0_omen i0_train i1_blocks i1_guarded i1_trains i1_omen i1_train lockA seenA whr homes isSeen leftA were tape would m_blocks m_trainMany m_lockMany m_readBlocks m_readTrains m_readLockMany m_blocksTold m_omensTold m_highBlock m_taped m_fault m_broken m_brokenAt m_spot m_here m_token m_value m_bumpAt m_bumpIn m_bumpOf m_waited m_keptOut m_visited m_seenMany m_drawn m_torn m_state m_locks m_waits m_readPage m_readLocks m_tape m_cuts m_letters m_place m_left m_hasSeen m_homeAt m_places m_seen m_wouldBe m_isKept m_lanes m_lengths m_cells sh x1 x2 hI
  obtain ⟨hB, hT, hL, htp, hft, hsm, htr, hw, hcu, hle, hlk, bok, pok, lok, aok, im0, im1, kok, tok, sok, hsh⟩ := hI
  subst hB hT hL htp hft hsm htr
  subst hw
  unfold C_waits M_waits_s M_waits_e
  rw [Min_C, Min_C]
  refine ⟨fun c => ⟨fun c2 => absurd c c2, by rw [if_pos c], ⟨rfl, rfl, rfl, rfl, rfl, rfl, rfl, rfl, hcu, hle, hlk, bok, pok, lok, aok, im0, im1, kok, tok, sok, hsh⟩⟩, fun c => ⟨fun c2 => ⟨fun _ c3 => absurd c2 c3, by rw [if_neg c, if_pos c2], ⟨rfl, rfl, rfl, rfl, rfl, rfl, rfl, rfl, hcu, hle, hlk, bok, pok, lok, aok, im0, im1, kok, tok, sok, hsh⟩⟩, fun c2 => ?_⟩⟩
  have h1 := in32c c
  have h2 := in32c c2
  rw [z64, show (3 : Int64).toInt = 3 from by decide] at h1
  rw [z64, show (4 : Int64).toInt = 4 from by decide] at h2
  have h3 : vp_in x1 4 := vp_of h1.1 (by omega)
  have h4 := wt_eq h3 (vp_of (n := 5) h2.1 (by omega))
  exact ⟨h3, fun _ _ => h4.2, by rw [if_neg c, if_neg c2]; exact h4.1, ⟨rfl, rfl, rfl, rfl, rfl, rfl, rfl, rfl, hcu, hle, hlk, bok, pok, lok, aok, im0, im1, kok, tok, sok, hsh⟩⟩
theorem sok_set : SOK_set Inv := by
  intro kept locks seenMany bumpMinute bumpBlock bumpTrains waited keptOut used taped fault costSum safeSum allWays torn n_blocks n_guarded n_trains n_omen n_train t_blocks t_guarded t_trains t_omen t_train i0_blocks i0_guarded i0_trains i0_omen i0_train i1_blocks i1_guarded i1_trains i1_omen i1_train lockA seenA whr homes isSeen leftA were tape would m_blocks m_trainMany m_lockMany m_readBlocks m_readTrains m_readLockMany m_blocksTold m_omensTold m_highBlock m_taped m_fault m_broken m_brokenAt m_spot m_here m_token m_value m_bumpAt m_bumpIn m_bumpOf m_waited m_keptOut m_visited m_seenMany m_drawn m_torn m_state m_locks m_waits m_readPage m_readLocks m_tape m_cuts m_letters m_place m_left m_hasSeen m_homeAt m_places m_seen m_wouldBe m_isKept m_lanes m_lengths m_cells sh x1 x2 x3 hI
  obtain ⟨hB, hT, hL, htp, hft, hsm, htr, hw, hcu, hle, hlk, bok, pok, lok, aok, im0, im1, kok, tok, sok, hsh⟩ := hI
  subst hB hT hL htp hft hsm htr
  have hb : ∀ b : Int64, (if x2 = 0 then (3 : Int64) else (if x2 = (1 : Int32) then (1 : Int64) else (if x2 = (2 : Int32) then (9 : Int64) else (9 : Int64)))) = (if x2 = 0 then (3 : Int64) else (if x2 = (1 : Int32) then (1 : Int64) else (9 : Int64))) := fun _ => by
    by_cases c : x2 = (2 : Int32)
    · rw [if_pos c]
    · rw [if_neg c]
  unfold C_set M_set
  rw [hb 0, show M_isTrain_e m_trainMany x1 = C_isTrain_e m_trainMany x1 from rfl, Min_C, Min_C]
  generalize hbd : (if x2 = 0 then (3 : Int64) else (if x2 = (1 : Int32) then (1 : Int64) else (9 : Int64))) = bd
  refine ⟨fun c => ⟨fun _ => ⟨rfl, ⟨rfl, rfl, rfl, rfl, rfl, rfl, rfl, hw, hcu, hle, hlk, bok, pok, lok, aok, im0, im1, kok, tok, sok, hsh⟩⟩, fun c2 => absurd c c2⟩, fun c => ⟨fun c2 => ⟨fun c3 => absurd c3 c, fun _ => ⟨fun _ => ⟨rfl, ⟨rfl, rfl, rfl, rfl, rfl, rfl, rfl, hw, hcu, hle, hlk, bok, pok, lok, aok, im0, im1, kok, tok, sok, hsh⟩⟩, fun c3 => absurd c2 c3⟩⟩, fun c2 => ⟨fun c3 => ⟨fun c4 => absurd c4 c, fun _ => ⟨fun c4 => absurd c4 c2, fun _ => ⟨fun _ => ⟨rfl, ⟨rfl, rfl, rfl, rfl, rfl, rfl, rfl, hw, hcu, hle, hlk, bok, pok, lok, aok, im0, im1, kok, tok, sok, hsh⟩⟩, fun c4 => absurd c3 c4⟩⟩⟩, fun c3 => ?_⟩⟩⟩
  have h1 := tr_in bok.2.2.2.1 bok.2.2.1 c
  have h2 := in32c c2
  have h3 := in32c c3
  have h4 := bok.2.2.2.1
  rw [z64, show (3 : Int64).toInt = 3 from by decide] at h2
  rw [z64] at h3
  have h5 : bd.toInt = (if x2.toInt.toNat = 0 then 3 else if x2.toInt.toNat = 1 then 1 else 9) := by
    rw [← hbd]
    by_cases e0 : x2 = 0
    · rw [if_pos e0, e0]
      decide
    · have e2 : x2.toInt ≠ 0 := fun h => e0 (Int32.toInt_inj.mp (by rw [h]; decide))
      rw [if_neg e0, if_neg (show ¬ x2.toInt.toNat = 0 by omega)]
      by_cases e1 : x2 = (1 : Int32)
      · rw [if_pos e1, e1]
        decide
      · have e3 : x2.toInt ≠ 1 := fun h => e1 (Int32.toInt_inj.mp (by rw [h]; decide))
        rw [if_neg e1, if_neg (show ¬ x2.toInt.toNat = 1 by omega)]
        decide
  have h6 : x3.toInt ≤ 9 := by
    rw [h5] at h3
    have h7 := h3.2
    split at h7
    · omega
    · split at h7 <;> omega
  have o1 := of_ix h1.1 (show x1.toInt < 4 by omega) h2.1 h2.2
  have p1 := pg_ix h1.1 (show x1.toInt < 4 by omega) h2.1 h2.2
  have v1 : vp_in ((4 : Int32) * x1 + x2) 16 := vp_of (by omega) (by omega)
  have v2 : vp_in (((9 : Int32) + (4 : Int32) * x2) + x1) 125 := vp_of (by omega) (by omega)
  refine ⟨v1, v1, fun c4 => absurd c4 c, fun _ => ⟨fun c4 => absurd c4 c2, fun _ => ⟨fun c4 => absurd c4 c3, fun _ => ⟨v2, v2, ?_⟩⟩⟩⟩
  rw [nb_id (by omega) (by omega)]
  have n1 : ((4 : Int32) * x1 + x2).toNatClampNeg = 4 * x1.toInt.toNat + x2.toInt.toNat := by rw [cl_of, o1]; omega
  have n2 : (((9 : Int32) + (4 : Int32) * x2) + x1).toNatClampNeg = 9 + 4 * x2.toInt.toNat + x1.toInt.toNat := by rw [cl_of, p1]; omega
  refine ⟨(pg_tr pok h1.1 (by omega) h2.1 h2.2).symm, ?_⟩
  rw [n1, n2]
  exact ⟨rfl, rfl, rfl, rfl, rfl, rfl, rfl, hw, hcu, hle, hlk, b_set (by omega) bok h3.1 (by rw [← h5]; exact h3.2), pg_set (by omega) (by omega) pok, lok, aok, im_out (by omega) im0, im_out (by omega) im1, kok, tok, sok, hsh⟩
