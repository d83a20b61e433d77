set_option maxRecDepth 100000
theorem all_L {B L : Nat} (hB8 : B ≤ 8) (hL : L ≤ 4) {lk lk2 : Nat → Int32} (he : ∀ l : Nat, l < 2 * L → lk2 l = lk l) : ∀ d j : Nat, j + d = 2 ^ B → ∀ x2 x3 : Int32,
    ∃ z2 z3 : Int32, (∀ k : Int32 → Int32 → Prop, k z2 z3 → ∃ n : Nat, C_allowed_L16 (nI L) (nI B) lk k n x2 x3 (nI j)) ∧ (∀ k : Int32 → Int32 → Prop, k z2 z3 → ∃ n : Nat, M_allowed_L19 (nI B) (nI L) lk2 k n x2 x3 (nI j)) := by
  have hpw := pw_le B hB8
  intro d
  induction d with
  | zero =>
    intro j hj x2 x3
    have e : (1 : Int32) <<< (nI B &&& 31) ≤ nI j := by
      rw [pw_B B hB8]
      exact nI_le (by omega) (by omega)
    exact ⟨x2, x3, fun k hk => ⟨1, fun _ => hk, fun c => absurd e c⟩, fun k hk => ⟨1, fun _ => hk, fun c => absurd e c⟩⟩
  | succ d ih =>
    intro j hj x2 x3
    have hg : ¬ (1 : Int32) <<< (nI B &&& 31) ≤ nI j := by
      rw [pw_B B hB8]
      exact nI_ge (by omega) (by omega)
    have hj2 : j < 256 := by omega
    by_cases c1 : alF lk (nI j) L = 0
    · obtain ⟨z2, z3, hC, hM⟩ := ih (j + 1) (by omega) x2 x3
      rw [nI_succ] at hC hM
      refine ⟨z2, z3, fun k hk => ?_, fun k hk => ?_⟩
      · obtain ⟨n, hn⟩ := hC k hk
        exact ⟨n + 1, fun c => absurd c hg, fun _ => alC_y hL ⟨fun _ => hn, fun c => absurd c1 c⟩⟩
      · obtain ⟨n, hn⟩ := hM k hk
        refine ⟨n + 1, fun c => absurd c hg, fun _ => alM_y hL he ⟨fun _ => ?_, fun c => absurd c1 c⟩⟩
        rw [if_pos c1, Int32.add_zero]
        exact hn
    · by_cases c2 : x3 < bsF (nI j) 8
      · have c3 : ¬ bsF (nI j) 8 ≤ x3 := Int32.not_le.mpr c2
        obtain ⟨z2, z3, hC, hM⟩ := ih (j + 1) (by omega) (x2 + 1) (bsF (nI j) 8)
        rw [nI_succ] at hC hM
        refine ⟨z2, z3, fun k hk => ?_, fun k hk => ?_⟩
        · obtain ⟨n, hn⟩ := hC k hk
          refine ⟨n + 1, fun c => absurd c hg, fun _ => alC_y hL ⟨fun c => absurd c c1, fun _ => bc_y hj2 ?_⟩⟩
          rw [if_pos c2]
          exact hn
        · obtain ⟨n, hn⟩ := hM k hk
          refine ⟨n + 1, fun c => absurd c hg, fun _ => alM_y hL he ⟨fun c => absurd c c1, fun _ => bits_y ⟨fun c => absurd c c3, fun _ => bits_y ?_⟩⟩⟩
          rw [if_neg c1]
          exact hn
      · have c3 : bsF (nI j) 8 ≤ x3 := Int32.not_lt.mp c2
        obtain ⟨z2, z3, hC, hM⟩ := ih (j + 1) (by omega) (x2 + 1) x3
        rw [nI_succ] at hC hM
        refine ⟨z2, z3, fun k hk => ?_, fun k hk => ?_⟩
        · obtain ⟨n, hn⟩ := hC k hk
          refine ⟨n + 1, fun c => absurd c hg, fun _ => alC_y hL ⟨fun c => absurd c c1, fun _ => bc_y hj2 ?_⟩⟩
          rw [if_neg c2]
          exact hn
        · obtain ⟨n, hn⟩ := hM k hk
          refine ⟨n + 1, fun c => absurd c hg, fun _ => alM_y hL he ⟨fun c => absurd c c1, fun _ => bits_y ⟨fun _ => ?_, fun c => absurd c3 c⟩⟩⟩
          rw [if_neg c1]
          exact hn
theorem sok_allowed : SOK_allowed Inv := by
  intro kept locks seenMany bumpMinute bumpBlock bumpTrains waited keptOut used taped fault costSum safeSum allWays torn n_blocks n_guarded n_trains n_omen n_train t_blocks t_guarded t_trains t_omen t_train i0_blocks i0_guarded i0_trains i0_omen i0_train i1_blocks i1_guarded i1_trains i1_omen i1_train lockA seenA whr homes isSeen leftA were tape would m_blocks m_trainMany m_lockMany m_readBlocks m_readTrains m_readLockMany m_blocksTold m_omensTold m_highBlock m_taped m_fault m_broken m_brokenAt m_spot m_here m_token m_value m_bumpAt m_bumpIn m_bumpOf m_waited m_keptOut m_visited m_seenMany m_drawn m_torn m_state m_locks m_waits m_readPage m_readLocks m_tape m_cuts m_letters m_place m_left m_hasSeen m_homeAt m_places m_seen m_wouldBe m_isKept m_lanes m_lengths m_cells sh x1 hI
  obtain ⟨hB, hT, hL, htp, hft, hsm, htr, hw, hcu, hle, hlk, bok, pok, lok, aok, im0, im1, kok, tok, sok, hsh⟩ := hI
  subst hB hT hL htp hft hsm htr
  obtain ⟨B, hB2, hB8, rfl⟩ := ex_n (l := 2) (h := 8) bok.1 bok.2.1
  obtain ⟨T, hT0, hT4, rfl⟩ := ex_n (l := 0) (h := 4) bok.2.2.1 bok.2.2.2.1
  subst hw
  obtain ⟨L, hL0, hL4, rfl⟩ := ex_n (l := 0) (h := 4) lok.1 lok.2.1
  have hlk2 : ∀ l : Nat, l < 2 * L → m_locks l = lockA l := fun l hl => hlk l (by rw [nI_toInt (by omega)]; omega)
  unfold C_allowed M_allowed
  rw [Min_C, show C_isPart_e x1 = C_in_e x1.toInt64 (0 : Int64) (1 : Int64) from rfl]
  refine ⟨fun c => ⟨fun _ => ⟨rfl, ⟨rfl, rfl, rfl, rfl, rfl, rfl, rfl, rfl, hcu, hle, hlk, bok, pok, lok, aok, im0, im1, kok, tok, sok, hsh⟩⟩, fun c2 => absurd c c2⟩, fun c => ?_⟩
  obtain ⟨z2, z3, hC, hM⟩ := all_L hB8 hL4 hlk2 (2 ^ B) 0 (Nat.zero_add _) 0 0
  exact hC _ ⟨fun c2 => absurd c2 c, fun _ => hM _ ⟨rfl, ⟨rfl, rfl, rfl, rfl, rfl, rfl, rfl, rfl, hcu, hle, hlk, bok, pok, lok, aok, im0, im1, kok, tok, sok, hsh⟩⟩⟩
theorem lwM_y {L : Nat} (hL : L ≤ 4) {lk lk2 : Nat → Int32} (he : ∀ l : Nat, l < 2 * L → lk2 l = lk l) {x : Int32} {Q : Int32 → Prop} (hQ : Q (lws lk x L)) : M_lockedWith (nI L) lk2 x Q := ⟨_, lkM_L (k := fun r => Q r) hL (by rw [lws_eq x L he]; exact hQ) L 0 (Nat.zero_add _)⟩
/-- a block may be hung: no block locked with it is, or: the hung set and it are allowed together -/
theorem hang_iff {B L b : Nat} (hB8 : B ≤ 8) (hL : L ≤ 4) (hb : b < B) {lk om : Nat → Int32} (hlk : lkOK (nI L) (nI B) lk) (ha : alOK (nI L) lk om) : (lws lk (nI b) L &&& hs om B = 0) ↔ ¬ alF lk (hs om B ||| ((1 : Int32) <<< (nI b &&& 31))) L = 0 := by
  obtain ⟨h, hh, eh⟩ := hs_n om B hB8
  have h256 := pow_8 B hB8
  have hal := (alF_iff lk (hs om B) L).mp (al_hs hB8 hL hlk ha)
  rw [alF_iff, eh] at *
  rw [lw_and hlk.2.2.1 (by omega) (nI b) L hL]
  have key : ∀ l : Nat, l < L → (((lk (2 * l) = nI b → bz (nI h) (lk (2 * l + 1)) = 0) ∧ (lk (2 * l + 1) = nI b → bz (nI h) (lk (2 * l)) = 0)) ↔ (bz (nI h ||| ((1 : Int32) <<< (nI b &&& 31))) (lk (2 * l)) = 0 ∨ bz (nI h ||| ((1 : Int32) <<< (nI b &&& 31))) (lk (2 * l + 1)) = 0)) := by
    intro l hl
    have t := nI_toInt (n := L) (by omega)
    have h0 := hlk.2.2.1 (2 * l) (by omega)
    have h1 := hlk.2.2.1 (2 * l + 1) (by omega)
    have hne := (hlk.2.2.2 l (by omega)).2.2
    have ha := hal l hl
    have e0 : lk (2 * l) = nI (lk (2 * l)).toInt.toNat := of_nn h0.1
    have e1 : lk (2 * l + 1) = nI (lk (2 * l + 1)).toInt.toNat := of_nn h1.1
    have hp : (lk (2 * l)).toInt.toNat < 8 := by omega
    have hq : (lk (2 * l + 1)).toInt.toNat < 8 := by omega
    generalize (lk (2 * l)).toInt.toNat = p at *
    generalize (lk (2 * l + 1)).toInt.toNat = q at *
    rw [e0, e1] at hne ha ⊢
    rw [bz_or, bz_or, Int32.or_eq_zero_iff, Int32.or_eq_zero_iff, bz_bit b (by omega) p hp, bz_bit b (by omega) q hq, nI_eq (by omega) (by omega), nI_eq (by omega) (by omega)]
    have hpq : p ≠ q := fun e => hne (by rw [e])
    by_cases c1 : p = b
    · have c2 : ¬ q = b := fun e => hpq (c1.trans e.symm)
      rw [if_pos c1, if_neg c2]
      constructor
      · intro h2
        exact Or.inr ⟨h2.1 c1, rfl⟩
      · intro h2
        refine ⟨fun _ => ?_, fun h3 => absurd h3 c2⟩
        rcases h2 with h2 | h2
        · exact absurd h2.2 (by decide)
        · exact h2.1
    · by_cases c2 : q = b
      · rw [if_neg c1, if_pos c2]
        constructor
        · intro h2
          exact Or.inl ⟨h2.2 c2, rfl⟩
        · intro h2
          refine ⟨fun h3 => absurd h3 c1, fun _ => ?_⟩
          rcases h2 with h2 | h2
          · exact h2.1
          · exact absurd h2.2 (by decide)
      · rw [if_neg c1, if_neg c2]
        constructor
        · intro _
          rcases ha with h2 | h2
          · exact Or.inl ⟨h2, rfl⟩
          · exact Or.inr ⟨h2, rfl⟩
        · intro _
          exact ⟨fun h3 => absurd h3 c1, fun h3 => absurd h3 c2⟩
  exact ⟨fun h2 l hl => (key l hl).mp (h2 l hl), fun h2 l hl => (key l hl).mpr (h2 l hl)⟩
theorem sok_hang : SOK_hang Inv := by
  intro kept locks seenMany bumpMinute bumpBlock bumpTrains waited keptOut used taped fault costSum safeSum allWays torn n_blocks n_guarded n_trains n_omen n_train t_blocks t_guarded t_trains t_omen t_train i0_blocks i0_guarded i0_trains i0_omen i0_train i1_blocks i1_guarded i1_trains i1_omen i1_train lockA seenA whr homes isSeen leftA were tape would m_blocks m_trainMany m_lockMany m_readBlocks m_readTrains m_readLockMany m_blocksTold m_omensTold m_highBlock m_taped m_fault m_broken m_brokenAt m_spot m_here m_token m_value m_bumpAt m_bumpIn m_bumpOf m_waited m_keptOut m_visited m_seenMany m_drawn m_torn m_state m_locks m_waits m_readPage m_readLocks m_tape m_cuts m_letters m_place m_left m_hasSeen m_homeAt m_places m_seen m_wouldBe m_isKept m_lanes m_lengths m_cells sh x1 x2 hI
  obtain ⟨hB, hT, hL, htp, hft, hsm, htr, hw, hcu, hle, hlk, bok, pok, lok, aok, im0, im1, kok, tok, sok, hsh⟩ := hI
  subst hB hT hL htp hft hsm htr
  obtain ⟨B, hB2, hB8, rfl⟩ := ex_n (l := 2) (h := 8) bok.1 bok.2.1
  obtain ⟨T, hT0, hT4, rfl⟩ := ex_n (l := 0) (h := 4) bok.2.2.1 bok.2.2.2.1
  subst hw
  obtain ⟨L, hL0, hL4, rfl⟩ := ex_n (l := 0) (h := 4) lok.1 lok.2.1
  have hlk2 : ∀ l : Nat, l < 2 * L → m_locks l = lockA l := fun l hl => hlk l (by rw [nI_toInt (by omega)]; omega)
  have hho : ∀ Q : Int32 → Prop, Q (hs n_omen B) → B_hung (nI B) n_omen Q := fun Q hQ => hung_y hB8 n_omen hQ
  have hmo : ∀ Q : Int32 → Prop, Q (hs n_omen B) → M_omens (nI B) m_state Q := fun Q hQ => omens_y hB8 (fun b hb => ⟨pg_b pok hb, (bok.2.2.2.2.1 b hb).1⟩) hQ
  unfold C_hang M_hang M_hangs
  rw [show M_isBlock_e (nI B) x1 = C_isBlock_e (nI B) x1 from rfl, Min_C]
  refine ⟨fun c => ⟨fun _ => ⟨rfl, ⟨rfl, rfl, rfl, rfl, rfl, rfl, rfl, rfl, hcu, hle, hlk, bok, pok, lok, aok, im0, im1, kok, tok, sok, hsh⟩⟩, fun c2 => absurd c c2⟩, fun c => ⟨fun c2 => ⟨fun c3 => absurd c3 c, fun _ => ⟨fun _ => ⟨rfl, ⟨rfl, rfl, rfl, rfl, rfl, rfl, rfl, rfl, hcu, hle, hlk, bok, pok, lok, aok, im0, im1, kok, tok, sok, hsh⟩⟩, fun c3 => absurd c2 c3⟩⟩, fun c2 => ?_⟩⟩
  have tB := nI_toInt (n := B) (by omega)
  have h1 := bl_in bok.2.1 bok.1 c
  obtain ⟨b, hb0, rfl⟩ : ∃ b : Nat, b < B ∧ x1 = nI b := ⟨x1.toInt.toNat, by omega, of_nn h1.1⟩
  obtain ⟨v, -, hv4, rfl⟩ := in_ix (a := 0) (b := 4) (by decide) (by decide) c2
  have tv := nI_toInt (n := v) (by omega)
  have cb : (nI b).toNatClampNeg = b := nI_clamp (by omega)
  have v8 : vp_in (nI b) 8 := vp_in_nI (by omega) (by omega)
  have v125 : vp_in (nI b) 125 := vp_in_nI (by omega) (by omega)
  have en : vp_nar .byte ((nI v).toInt8.toInt32) = nI v := nb_id (by omega) (by omega)
  have hx2 : nI v ≤ 0 ↔ nI v = 0 := by
    constructor
    · intro h
      have := (nI_leI (a := v) (b := 0) (by omega) (by omega)).mp h
      rw [show v = 0 by omega]
      rfl
    · intro h
      rw [h]
      decide
  -- what holds behind a hanging
  have hfin : (v = 0 ∨ ¬ alF lockA (hs n_omen B ||| ((1 : Int32) <<< (nI b &&& 31))) L = 0) → n_omen (nI b).toNatClampNeg = m_state (nI b).toNatClampNeg ∧ bOK (nI B) (nI T) (upd n_omen (nI b).toNatClampNeg (vp_nar .byte ((nI v).toInt8.toInt32))) n_train ∧ pgOK (upd m_state (nI b).toNatClampNeg (nI v)) 0 n_guarded (upd n_omen (nI b).toNatClampNeg (vp_nar .byte ((nI v).toInt8.toInt32))) n_train ∧ alOK (nI L) lockA (upd n_omen (nI b).toNatClampNeg (vp_nar .byte ((nI v).toInt8.toInt32))) := by
    intro hor
    rw [en, cb]
    obtain ⟨g1, g2, g3, g4, g5, g6⟩ := bok
    refine ⟨(pg_b pok (by omega)).symm, ⟨g1, g2, g3, g4, fun x hx => ?_, g6⟩, ⟨fun x hx => ?_, ?_, fun t ht w hw => ?_⟩, fun l hl => ?_⟩
    · by_cases e : x = b
      · rw [e, upd_eq]
        exact ⟨by omega, by omega, fun h => by omega⟩
      · rw [upd_ne _ _ e]
        exact g5 x hx
    · rw [Nat.zero_add]
      by_cases e : x = b
      · rw [e, upd_eq, upd_eq]
      · rw [upd_ne _ _ e, upd_ne _ _ e]
        exact pg_b pok hx
    · rw [upd_ne _ _ (by omega)]
      exact pok.2.1
    · rw [upd_ne _ _ (by omega)]
      exact pok.2.2 t ht w hw
    · have tL := nI_toInt (n := L) (by omega)
      have h3 := aok l hl
      have l0 := lok.2.2.1 (2 * l) (by omega)
      have l1 := lok.2.2.1 (2 * l + 1) (by omega)
      have lb := lok.2.2.2 l hl
      have e0 : lockA (2 * l) = nI (lockA (2 * l)).toInt.toNat := of_nn l0.1
      have e1 : lockA (2 * l + 1) = nI (lockA (2 * l + 1)).toInt.toNat := of_nn l1.1
      have hne := lb.2.2
      have hp : (lockA (2 * l)).toInt.toNat < B := by omega
      have hq : (lockA (2 * l + 1)).toInt.toNat < B := by omega
      rcases hor with h0 | h0
      · rw [h0]
        have hz : ∀ i : Nat, n_omen i = 0 → upd n_omen b (nI 0) i = 0 := by
          intro i hi
          by_cases e : i = b
          · rw [e, upd_eq]; rfl
          · rw [upd_ne _ _ e]; exact hi
        exact h3.imp (hz _) (hz _)
      · have h4 := (alF_iff lockA _ L).mp h0 l (by omega)
        generalize (lockA (2 * l)).toInt.toNat = p at *
        generalize (lockA (2 * l + 1)).toInt.toNat = q at *
        rw [e0, e1] at h4 h3 hne ⊢
        rw [nI_clamp (by omega), nI_clamp (by omega)] at h3 ⊢
        rw [bz_or, bz_or, Int32.or_eq_zero_iff, Int32.or_eq_zero_iff, bz_bit b (by omega) p (by omega), bz_bit b (by omega) q (by omega), hs_bz n_omen (by omega) B hB8, hs_bz n_omen (by omega) B hB8] at h4
        rcases h4 with h4 | h4
        · left
          by_cases e : p = b
          · rw [if_pos e] at h4
            exact absurd h4.2 (by decide)
          · rw [upd_ne _ _ e]
            exact h4.1 hp
        · right
          by_cases e : q = b
          · rw [if_pos e] at h4
            exact absurd h4.2 (by decide)
          · rw [upd_ne _ _ e]
            exact h4.1 hq
  have im02 : imOK (m_isKept 0) (upd m_state (nI b).toNatClampNeg (nI v)) 25 (nI B) (nI T) (nI L) lockA i0_blocks i0_guarded i0_trains i0_omen i0_train := im_out (by omega) im0
  have im12 : imOK (m_isKept 1) (upd m_state (nI b).toNatClampNeg (nI v)) 50 (nI B) (nI T) (nI L) lockA i1_blocks i1_guarded i1_trains i1_omen i1_train := im_out (by omega) im1
  unfold C_canHang
  refine ⟨fun c3 => ?_, fun c3 => ?_⟩
  · have hv0 : v = 0 := (nI_eq (a := v) (b := 0) (by omega) (by omega)).mp c3
    obtain ⟨f1, f2, f3, f4⟩ := hfin (Or.inl hv0)
    exact ⟨fun c4 => absurd c4 (by decide), fun _ => ⟨v8, v8, fun c4 => absurd c4 c, fun _ => ⟨fun c4 => absurd c4 c2, fun _ => ⟨fun _ => ⟨v125, v125, f1, ⟨rfl, rfl, rfl, rfl, rfl, rfl, rfl, rfl, hcu, hle, hlk, f2, f3, lok, f4, im02, im12, kok, tok, sok, hsh⟩⟩, fun c4 => absurd (hx2.mpr c3) c4⟩⟩⟩⟩
  · have hi := hang_iff hB8 hL4 hb0 lok aok
    refine hho _ (alC_y hL4 ?_)
    by_cases c5 : alF lockA (hs n_omen B ||| ((1 : Int32) <<< (nI b &&& 31))) L = 0
    · rw [if_pos c5]
      refine ⟨fun _ => ⟨fun c4 => absurd c4 c, fun _ => ⟨fun c4 => absurd c4 c2, fun _ => ⟨fun c4 => absurd (hx2.mp c4) c3, fun _ => lwM_y hL4 hlk2 (hmo _ ⟨fun c4 => absurd c5 (hi.mp c4), fun _ => ⟨rfl, ⟨rfl, rfl, rfl, rfl, rfl, rfl, rfl, rfl, hcu, hle, hlk, bok, pok, lok, aok, im0, im1, kok, tok, sok, hsh⟩⟩⟩)⟩⟩⟩, fun c4 => absurd rfl c4⟩
    · rw [if_neg c5]
      obtain ⟨f1, f2, f3, f4⟩ := hfin (Or.inr c5)
      exact ⟨fun c4 => absurd c4 (by decide), fun _ => ⟨v8, v8, fun c4 => absurd c4 c, fun _ => ⟨fun c4 => absurd c4 c2, fun _ => ⟨fun c4 => absurd (hx2.mp c4) c3, fun _ => lwM_y hL4 hlk2 (hmo _ ⟨fun _ => ⟨v125, v125, f1, ⟨rfl, rfl, rfl, rfl, rfl, rfl, rfl, rfl, hcu, hle, hlk, f2, f3, lok, f4, im02, im12, kok, tok, sok, hsh⟩⟩, fun c4 => absurd (hi.mpr c5) c4⟩)⟩⟩⟩⟩
