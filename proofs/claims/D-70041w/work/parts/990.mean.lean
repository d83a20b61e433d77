set_option maxRecDepth 100000
abbrev KO := Int32 → Int32 → Int32 → Int32 → Int32 → Int32 → Int64 → Int64 → Int32 → Int32 → Int32 → (Nat → Int32) → (Nat → Int32) → (Nat → Int32) → (Nat → Int32) → (Nat → Int32) → (Nat → Int32) → (Nat → Int32) → Prop
abbrev KP := Int32 → Int32 → Int32 → Int32 → Int32 → Int32 → (Nat → Int32) → (Nat → Int32) → (Nat → Int32) → (Nat → Int32) → (Nat → Int32) → (Nat → Int32) → Int64 → Prop
theorem odd_L {B T c : Nat} (hT : T ≤ 4) (hB2 : 2 ≤ B) (hB8 : B ≤ 8) (hc : c ≤ 10) {md : Int32} (hmd : md = 0 ∨ md = 1) {G : Int32} {st om tr : Nat → Int32} (hp : pgOK st 0 G om tr) (hb : bOK (nI B) (nI T) om tr) (hcp : ∀ i : Nat, i < 25 → st (100 + i) = st i) : ∀ d j : Nat, j + d = 2 ^ B → ∀ (bm0 bb0 bt0 wa0 ko0 us0 uB0 uG0 uT0 : Int32) (uO0 uR0 wh0 ho0 iS0 lf0 we0 : Nat → Int32) (ba0 bi0 bo0 wb0 kb0 vi0 : Int32) (st0 pl0 le0 hz0 hm0 ps0 : Nat → Int32) (a s : Nat), a ≤ j * 432000000000 → s ≤ j * 100000000 → (∀ i : Nat, i < 125 → st0 i = st i) →
    ∃ bm bb bt wa ko us uB uG uT uO uR wh ho iS lf we ba2 bi2 bo2 wb2 kb2 vi2 st2 pl2 le2 hz2 hm2 ps2 a2 s2,
      (∀ k : KO, k bm bb bt wa ko us (lN a2) (lN s2) uB uG uT uO uR wh ho iS lf we → ∃ n : Nat, C_findOdds_L66 (nI B) G (nI T) om tr (nI c) k n bm0 bb0 bt0 wa0 ko0 us0 (lN a) (lN s) uB0 uG0 uT0 uO0 uR0 wh0 ho0 iS0 lf0 we0 (nI j)) ∧
      (∀ k : KP, k ba2 bi2 bo2 wb2 kb2 vi2 st2 pl2 le2 hz2 hm2 ps2 (if md = 0 then lN s2 else lN a2) → ∃ n : Nat, M_byMagpies_L62 (nI B) (nI T) M0_waits (nI c) md (hs om B) k n ba0 bi0 bo0 wb0 kb0 vi0 st0 pl0 le0 hz0 hm0 ps0 (if md = 0 then lN s else lN a) (nI j)) ∧
      (∀ i : Nat, i < 125 → st2 i = st i) ∧ a2 ≤ 256 * 432000000000 ∧ s2 ≤ 256 * 100000000 := by
  have hpw := pw_le B hB8
  have h10 : 10 ^ B ≤ 10 ^ 8 := Nat.pow_le_pow_right (by omega) hB8
  have hho : ∀ Q : Int32 → Prop, Q (hs om B) → B_hung (nI B) om Q := fun Q hQ => hung_y hB8 om hQ
  intro d
  induction d with
  | zero =>
    intro j hj bm0 bb0 bt0 wa0 ko0 us0 uB0 uG0 uT0 uO0 uR0 wh0 ho0 iS0 lf0 we0 ba0 bi0 bo0 wb0 kb0 vi0 st0 pl0 le0 hz0 hm0 ps0 a s ha hs0 hst
    have e : (1 : Int32) <<< (nI B &&& 31) ≤ nI j := by
      rw [pw_B B hB8]
      exact nI_le (by omega) (by omega)
    exact ⟨bm0, bb0, bt0, wa0, ko0, us0, uB0, uG0, uT0, uO0, uR0, wh0, ho0, iS0, lf0, we0, ba0, bi0, bo0, wb0, kb0, vi0, st0, pl0, le0, hz0, hm0, ps0, a, s, fun k hk => ⟨1, fun _ => hk, fun c => absurd e c⟩, fun k hk => ⟨1, fun _ => hk, fun c => absurd e c⟩, hst, Nat.le_trans ha (Nat.mul_le_mul_right _ (by omega)), Nat.le_trans hs0 (Nat.mul_le_mul_right _ (by omega))⟩
  | succ d ih =>
    intro j hj bm0 bb0 bt0 wa0 ko0 us0 uB0 uG0 uT0 uO0 uR0 wh0 ho0 iS0 lf0 we0 ba0 bi0 bo0 wb0 kb0 vi0 st0 pl0 le0 hz0 hm0 ps0 a s ha hs0 hst
    have hg : ¬ (1 : Int32) <<< (nI B &&& 31) ≤ nI j := by
      rw [pw_B B hB8]
      exact nI_ge (by omega) (by omega)
    by_cases hS1 : nI j &&& hs om B = 0
    · have hp0 : pgOK st0 0 G om tr := pg_st (p := 0) (fun i _ hi => hst i (by omega)) hp
      obtain ⟨bm, bb, bt, wa, ko, us, uO, uR, wh, ho, iS, lf, we, bi, bo, st1, pl, le, hz, hm1, ps, hC1, hM0, hM1, hN, hp1, hst1, hb1⟩ := fl_y hT hB2 hB8 (nI j) bm0 bb0 bt0 wa0 ko0 us0 uB0 uG0 uT0 uO0 uR0 wh0 ho0 iS0 lf0 we0 ba0 bi0 bo0 wb0 kb0 vi0 st0 pl0 le0 hz0 hm0 ps0 hp0 hb
      have he : ∀ t : Nat, t < 4 → ho t = hm1 t := fun t ht => (hN.2.1 t ht).1
      obtain ⟨st4, hM4, hc1, hc2⟩ := copies_y (a := 100) (b := 0) (by omega) (by omega) (by omega) st1
      have hst4 : ∀ i : Nat, i < 125 → st4 i = st i := by
        intro i hi
        by_cases h25 : i < 25
        · have e1 := hc1 i h25
          rw [Nat.zero_add] at e1
          exact e1.trans ((hst1 _ (by omega)).trans ((hst _ (by omega)).trans (hcp i h25)))
        · exact (hc2 i (by omega)).trans ((hst1 i (by omega)).trans (hst i hi))
      obtain ⟨q, hq, eq⟩ := cs_b hb1 (fun t ht => (hN.2.1 t ht).2) T hT
      have hq2 : q ≤ 4320 := by
        have := Nat.mul_le_mul hT (Nat.le_refl 1080)
        omega
      have hod := od_b (hs om B) (nI j) hc B
      generalize hpd : odF (hs om B) (nI j) c B = p at *
      have hpq : p * q ≤ 10 ^ 8 * 4320 := Nat.mul_le_mul (by omega) hq2
      have ea : lN a + (lN p * (nI q).toInt64) = lN (a + p * q) := by rw [nI_l (by omega), lN_mul, lN_add]
      have es : lN s + (if bm = (-4 : Int32) then lN p else (0 : Int64)) = lN (s + (if bm = (-4 : Int32) then p else 0)) := by
        rw [← lN_add]
        by_cases c : bm = -4
        · rw [if_pos c, if_pos c]
        · rw [if_neg c, if_neg c]
          rfl
      have es2 : lN s + (lN p * ((if bm = (-4 : Int32) then (1 : Int32) else (0 : Int32))).toInt64) = lN (s + (if bm = (-4 : Int32) then p else 0)) := by
        rw [← es]
        by_cases c : bm = -4
        · rw [if_pos c, if_pos c]
          have e : lN p * ((1 : Int32)).toInt64 = lN (p * 1) := lN_mul p 1
          rw [e, Nat.mul_one]
        · rw [if_neg c, if_neg c]
          have e : lN p * ((0 : Int32)).toInt64 = lN (p * 0) := lN_mul p 0
          rw [e, Nat.mul_zero]
          rfl
      have hs1 : (if bm = (-4 : Int32) then p else 0) ≤ 10 ^ 8 := by
        by_cases c : bm = -4
        · rw [if_pos c]; omega
        · rw [if_neg c]; omega
      have h8 : 10 ^ 8 = 100000000 := by decide
      obtain ⟨bm5, bb5, bt5, wa5, ko5, us5, uB5, uG5, uT5, uO5, uR5, wh5, ho5, iS5, lf5, we5, ba2, bi2, bo2, wb2, kb2, vi2, st2, pl2, le2, hz2, hm2, ps2, a2, s2, hC, hM, hr⟩ := ih (j + 1) (by omega) bm bb bt wa ko us (nI B) G (nI T) uO uR wh ho iS lf we bm bi bo wa ko us st4 pl le hz hm1 ps (a + p * q) (s + (if bm = (-4 : Int32) then p else 0)) (by omega) (by omega) hst4
      rw [nI_succ] at hC hM
      refine ⟨bm5, bb5, bt5, wa5, ko5, us5, uB5, uG5, uT5, uO5, uR5, wh5, ho5, iS5, lf5, we5, ba2, bi2, bo2, wb2, kb2, vi2, st2, pl2, le2, hz2, hm2, ps2, a2, s2, fun k hk => ?_, fun k hk => ?_, hr⟩
      · obtain ⟨n, hn⟩ := hC k hk
        refine ⟨n + 1, fun c => absurd c hg, fun _ => hho _ ⟨fun _ => ⟨_, odC_L hB8 hc ?_ B 0 (Nat.zero_add _)⟩, fun c => absurd hS1 c⟩⟩
        rw [hpd]
        refine hC1 _ (csC_y hT ?_)
        rw [eq]
        show C_findOdds_L66 _ _ _ _ _ _ _ _ _ _ _ _ _ _ (lN a + (lN p * (nI q).toInt64)) (lN s + (if bm = (-4 : Int32) then lN p else (0 : Int64))) _ _ _ _ _ _ _ _ _ _ _
        rw [ea, es]
        exact hn
      · obtain ⟨n, hn⟩ := hM k hk
        refine ⟨n + 1, fun c => absurd c hg, fun _ => ⟨fun _ => ⟨_, odM_L hB8 hc ?_ B 0 (Nat.zero_add _)⟩, fun c => absurd hS1 c⟩⟩
        rw [hpd]
        refine hM0 _ (hM1 _ ⟨fun h0 => hM4 _ ?_, fun h0 => csM_y hT hp1 he (hM4 _ ?_)⟩)
        · rw [if_pos h0] at hn ⊢
          show M_byMagpies_L62 _ _ _ _ _ _ _ _ _ _ _ _ _ _ _ _ _ _ _ _ (lN s + (lN p * ((if bm = (-4 : Int32) then (1 : Int32) else (0 : Int32))).toInt64)) _
          rw [es2]
          exact hn
        · rw [if_neg h0] at hn ⊢
          rw [eq]
          show M_byMagpies_L62 _ _ _ _ _ _ _ _ _ _ _ _ _ _ _ _ _ _ _ _ (lN a + (lN p * (nI q).toInt64)) _
          rw [ea]
          exact hn
    · obtain ⟨bm, bb, bt, wa, ko, us, uB, uG, uT, uO, uR, wh, ho, iS, lf, we, ba2, bi2, bo2, wb2, kb2, vi2, st2, pl2, le2, hz2, hm2, ps2, a2, s2, hC, hM, hr⟩ := ih (j + 1) (by omega) bm0 bb0 bt0 wa0 ko0 us0 uB0 uG0 uT0 uO0 uR0 wh0 ho0 iS0 lf0 we0 ba0 bi0 bo0 wb0 kb0 vi0 st0 pl0 le0 hz0 hm0 ps0 a s (Nat.le_trans ha (Nat.mul_le_mul_right _ (Nat.le_succ j))) (Nat.le_trans hs0 (Nat.mul_le_mul_right _ (Nat.le_succ j))) hst
      rw [nI_succ] at hC hM
      refine ⟨bm, bb, bt, wa, ko, us, uB, uG, uT, uO, uR, wh, ho, iS, lf, we, ba2, bi2, bo2, wb2, kb2, vi2, st2, pl2, le2, hz2, hm2, ps2, a2, s2, fun k hk => ?_, fun k hk => ?_, hr⟩
      · obtain ⟨n, hn⟩ := hC k hk
        exact ⟨n + 1, fun c => absurd c hg, fun _ => hho _ ⟨fun c => absurd c hS1, fun _ => hn⟩⟩
      · obtain ⟨n, hn⟩ := hM k hk
        exact ⟨n + 1, fun c => absurd c hg, fun _ => ⟨fun c => absurd c hS1, fun _ => hn⟩⟩
theorem sok_mean : SOK_mean Inv := by
  intro kept locks seenMany bumpMinute bumpBlock bumpTrains waited keptOut used taped fault costSum safeSum allWays torn n_blocks n_guarded n_trains n_omen n_train t_blocks t_guarded t_trains t_omen t_train i0_blocks i0_guarded i0_trains i0_omen i0_train i1_blocks i1_guarded i1_trains i1_omen i1_train lockA seenA whr homes isSeen leftA were tape would m_blocks m_trainMany m_lockMany m_readBlocks m_readTrains m_readLockMany m_blocksTold m_omensTold m_highBlock m_taped m_fault m_broken m_brokenAt m_spot m_here m_token m_value m_bumpAt m_bumpIn m_bumpOf m_waited m_keptOut m_visited m_seenMany m_drawn m_torn m_state m_locks m_waits m_readPage m_readLocks m_tape m_cuts m_letters m_place m_left m_hasSeen m_homeAt m_places m_seen m_wouldBe m_isKept m_lanes m_lengths m_cells sh x1 x2 hI
  obtain ⟨hB, hT, hL, htp, hft, hsm, htr, hw, hcu, hle, hlk, bok, pok, lok, aok, im0, im1, kok, tok, sok, hsh⟩ := hI
  subst hB hT hL htp hft hsm htr
  obtain ⟨B, hB2, hB8, rfl⟩ := ex_n (l := 2) (h := 8) bok.1 bok.2.1
  obtain ⟨T, hT0, hT4, rfl⟩ := ex_n (l := 0) (h := 4) bok.2.2.1 bok.2.2.2.1
  subst hw
  have hmo : ∀ Q : Int32 → Prop, Q (hs n_omen B) → M_omens (nI B) m_state Q := fun Q hQ => omens_y hB8 (fun b hb => ⟨pg_b pok hb, (bok.2.2.2.2.1 b hb).1⟩) hQ
  unfold C_mean M_mean C_findOdds M_byMagpies
  rw [Min_C, Min_C, show C_isPart_e x2 = C_in_e x2.toInt64 (0 : Int64) (1 : Int64) from rfl]
  refine ⟨fun c => ⟨fun _ => ⟨rfl, ⟨rfl, rfl, rfl, rfl, rfl, rfl, rfl, rfl, hcu, hle, hlk, bok, pok, lok, aok, im0, im1, kok, tok, sok, hsh⟩⟩, fun c2 => absurd c c2⟩, fun c => ⟨fun c2 => ⟨fun c3 => absurd c3 c, fun _ => ⟨fun _ => ⟨rfl, ⟨rfl, rfl, rfl, rfl, rfl, rfl, rfl, rfl, hcu, hle, hlk, bok, pok, lok, aok, im0, im1, kok, tok, sok, hsh⟩⟩, fun c3 => absurd c2 c3⟩⟩, fun c2 => ?_⟩⟩
  obtain ⟨c', -, hc, rfl⟩ := in_ix (a := 0) (b := 10) (by decide) (by decide) c
  obtain ⟨s1, hcp, hcp1, hcp2⟩ := copies_y (a := 0) (b := 100) (by omega) (by omega) (by omega) m_state
  have hp1 : pgOK s1 0 n_guarded n_omen n_train := pg_st (p := 0) (fun i _ hi => hcp2 i (by omega)) pok
  have hc1 : ∀ i : Nat, i < 25 → s1 (100 + i) = s1 i := by
    intro i hi
    have e1 := hcp1 i hi
    rw [Nat.zero_add] at e1
    exact e1.trans (hcp2 i (by omega)).symm
  obtain ⟨bm, bb, bt, wa, ko, us, uB, uG, uT, uO, uR, wh, ho, iS, lf, we, ba2, bi2, bo2, wb2, kb2, vi2, st2, pl2, le2, hz2, hm2, ps2, a2, s2, hC, hM, hst2, ha2, hs2⟩ := odd_L hT4 hB2 hB8 hc (md := 1) (by decide) hp1 bok hc1 (2 ^ B) 0 (Nat.zero_add _) bumpMinute bumpBlock bumpTrains waited keptOut used t_blocks t_guarded t_trains t_omen t_train whr homes isSeen leftA were m_bumpAt m_bumpIn m_bumpOf m_waited m_keptOut m_visited s1 m_place m_left m_hasSeen m_homeAt m_places 0 0 (Nat.zero_le _) (Nat.zero_le _) (fun _ _ => rfl)
  have hse : ∀ i : Nat, i < 100 → st2 i = m_state i := fun i hi => (hst2 i (by omega)).trans (hcp2 i (by omega))
  have pok2 := pg_st (p := 0) (fun i _ hi => hse i (by omega)) pok
  have im02 := im_st (fun i _ hi => hse i (by omega)) im0
  have im12 := im_st (fun i _ hi => hse i (by omega)) im1
  have hwy := wy_b (hs n_omen B) B
  have h10 : 10 ^ B ≤ 10 ^ 8 := Nat.pow_le_pow_right (by omega) hB8
  have h8 : 10 ^ 8 = 100000000 := by decide
  obtain ⟨v, hvC, hvM⟩ := low_y (a := a2) (b := wyF (hs n_omen B) B) (by omega) (by omega) (by omega) x2
  exact ⟨_, wyC_L hB8 (hC _ (hvC _ ⟨fun c3 => absurd c3 c, fun _ => ⟨fun c3 => absurd c3 c2, fun _ => hmo _ ⟨_, wyM_L hB8 (hcp _ (hM _ (hvM _ ⟨rfl, ⟨rfl, rfl, rfl, rfl, rfl, rfl, rfl, rfl, hcu, hle, hlk, bok, pok2, lok, aok, im02, im12, kok, tok, sok, hsh⟩⟩))) B 0 (Nat.zero_add _)⟩⟩⟩)) B 0 (Nat.zero_add _)⟩
theorem sok_luck : SOK_luck Inv := by
  intro kept locks seenMany bumpMinute bumpBlock bumpTrains waited keptOut used taped fault costSum safeSum allWays torn n_blocks n_guarded n_trains n_omen n_train t_blocks t_guarded t_trains t_omen t_train i0_blocks i0_guarded i0_trains i0_omen i0_train i1_blocks i1_guarded i1_trains i1_omen i1_train lockA seenA whr homes isSeen leftA were tape would m_blocks m_trainMany m_lockMany m_readBlocks m_readTrains m_readLockMany m_blocksTold m_omensTold m_highBlock m_taped m_fault m_broken m_brokenAt m_spot m_here m_token m_value m_bumpAt m_bumpIn m_bumpOf m_waited m_keptOut m_visited m_seenMany m_drawn m_torn m_state m_locks m_waits m_readPage m_readLocks m_tape m_cuts m_letters m_place m_left m_hasSeen m_homeAt m_places m_seen m_wouldBe m_isKept m_lanes m_lengths m_cells sh x1 x2 hI
  obtain ⟨hB, hT, hL, htp, hft, hsm, htr, hw, hcu, hle, hlk, bok, pok, lok, aok, im0, im1, kok, tok, sok, hsh⟩ := hI
  subst hB hT hL htp hft hsm htr
  obtain ⟨B, hB2, hB8, rfl⟩ := ex_n (l := 2) (h := 8) bok.1 bok.2.1
  obtain ⟨T, hT0, hT4, rfl⟩ := ex_n (l := 0) (h := 4) bok.2.2.1 bok.2.2.2.1
  subst hw
  have hmo : ∀ Q : Int32 → Prop, Q (hs n_omen B) → M_omens (nI B) m_state Q := fun Q hQ => omens_y hB8 (fun b hb => ⟨pg_b pok hb, (bok.2.2.2.2.1 b hb).1⟩) hQ
  unfold C_luck M_luck C_findOdds M_byMagpies
  rw [Min_C, Min_C, show C_isPart_e x2 = C_in_e x2.toInt64 (0 : Int64) (1 : Int64) from rfl]
  refine ⟨fun c => ⟨fun _ => ⟨rfl, ⟨rfl, rfl, rfl, rfl, rfl, rfl, rfl, rfl, hcu, hle, hlk, bok, pok, lok, aok, im0, im1, kok, tok, sok, hsh⟩⟩, fun c2 => absurd c c2⟩, fun c => ⟨fun c2 => ⟨fun c3 => absurd c3 c, fun _ => ⟨fun _ => ⟨rfl, ⟨rfl, rfl, rfl, rfl, rfl, rfl, rfl, rfl, hcu, hle, hlk, bok, pok, lok, aok, im0, im1, kok, tok, sok, hsh⟩⟩, fun c3 => absurd c2 c3⟩⟩, fun c2 => ?_⟩⟩
  obtain ⟨c', -, hc, rfl⟩ := in_ix (a := 0) (b := 10) (by decide) (by decide) c
  obtain ⟨s1, hcp, hcp1, hcp2⟩ := copies_y (a := 0) (b := 100) (by omega) (by omega) (by omega) m_state
  have hp1 : pgOK s1 0 n_guarded n_omen n_train := pg_st (p := 0) (fun i _ hi => hcp2 i (by omega)) pok
  have hc1 : ∀ i : Nat, i < 25 → s1 (100 + i) = s1 i := by
    intro i hi
    have e1 := hcp1 i hi
    rw [Nat.zero_add] at e1
    exact e1.trans (hcp2 i (by omega)).symm
  obtain ⟨bm, bb, bt, wa, ko, us, uB, uG, uT, uO, uR, wh, ho, iS, lf, we, ba2, bi2, bo2, wb2, kb2, vi2, st2, pl2, le2, hz2, hm2, ps2, a2, s2, hC, hM, hst2, ha2, hs2⟩ := odd_L hT4 hB2 hB8 hc (md := 0) (by decide) hp1 bok hc1 (2 ^ B) 0 (Nat.zero_add _) bumpMinute bumpBlock bumpTrains waited keptOut used t_blocks t_guarded t_trains t_omen t_train whr homes isSeen leftA were m_bumpAt m_bumpIn m_bumpOf m_waited m_keptOut m_visited s1 m_place m_left m_hasSeen m_homeAt m_places 0 0 (Nat.zero_le _) (Nat.zero_le _) (fun _ _ => rfl)
  have hse : ∀ i : Nat, i < 100 → st2 i = m_state i := fun i hi => (hst2 i (by omega)).trans (hcp2 i (by omega))
  have pok2 := pg_st (p := 0) (fun i _ hi => hse i (by omega)) pok
  have im02 := im_st (fun i _ hi => hse i (by omega)) im0
  have im12 := im_st (fun i _ hi => hse i (by omega)) im1
  have hwy := wy_b (hs n_omen B) B
  have h10 : 10 ^ B ≤ 10 ^ 8 := Nat.pow_le_pow_right (by omega) hB8
  have h8 : 10 ^ 8 = 100000000 := by decide
  obtain ⟨v, hvC, hvM⟩ := low_y (a := s2) (b := wyF (hs n_omen B) B) (by omega) (by omega) (by omega) x2
  exact ⟨_, wyC_L hB8 (hC _ (hvC _ ⟨fun c3 => absurd c3 c, fun _ => ⟨fun c3 => absurd c3 c2, fun _ => hmo _ ⟨_, wyM_L hB8 (hcp _ (hM _ (hvM _ ⟨rfl, ⟨rfl, rfl, rfl, rfl, rfl, rfl, rfl, rfl, hcu, hle, hlk, bok, pok2, lok, aok, im02, im12, kok, tok, sok, hsh⟩⟩))) B 0 (Nat.zero_add _)⟩⟩⟩)) B 0 (Nat.zero_add _)⟩
