set_option maxRecDepth 100000
def FS (x2 x3 y : Int32) : Prop := (x2 = 1000000 ∧ x3 = -4 ∧ y = -4) ∨ ∃ q : Nat, q < 256 ∧ y = nI q ∧ x3 = nI q ∧ x2 = bsF (nI q) 8
theorem FS_FR {x2 x3 y : Int32} (h : FS x2 x3 y) : FR x2 x3 y := by
  rcases h with ⟨h1, _, h2⟩ | h
  · exact Or.inl ⟨h1, h2⟩
  · exact Or.inr h
theorem mag_L {B T L : Nat} (hT : T ≤ 4) (hB2 : 2 ≤ B) (hB8 : B ≤ 8) (hL : L ≤ 4) {G : Int32} {st om tr lk lk2 : Nat → Int32} (hp : pgOK st 0 G om tr) (hb : bOK (nI B) (nI T) om tr) (he : ∀ l : Nat, l < 2 * L → lk2 l = lk l) (hlk : lkOK (nI L) (nI B) lk) (ha : alOK (nI L) lk om) (hcp : ∀ i : Nat, i < 25 → st (100 + i) = st i) : ∀ d j : Nat, j + d = 2 ^ B → ∀ (bm0 bb0 bt0 wa0 ko0 us0 uB0 uG0 uT0 : Int32) (uO0 uR0 wh0 ho0 iS0 lf0 we0 : Nat → Int32) (x2 x3 : Int32) (ba0 bi0 bo0 wb0 kb0 vi0 : Int32) (st0 pl0 le0 hz0 hm0 ps0 : Nat → Int32) (y : Int32), (∀ i : Nat, i < 125 → st0 i = st i) → FS x2 x3 y →
    ∃ bm bb bt wa ko us uB uG uT uO uR wh ho iS lf we z2 z3 ba2 bi2 bo2 wb2 kb2 vi2 st2 pl2 le2 hz2 hm2 ps2 y2,
      (∀ k : K18, k bm bb bt wa ko us uB uG uT uO uR wh ho iS lf we z2 z3 → ∃ n : Nat, C_magpies_L18 (nI L) (nI B) G (nI T) om tr lk k n bm0 bb0 bt0 wa0 ko0 us0 uB0 uG0 uT0 uO0 uR0 wh0 ho0 iS0 lf0 we0 x2 x3 (nI j)) ∧
      (∀ k : K13, k ba2 bi2 bo2 wb2 kb2 vi2 st2 pl2 le2 hz2 hm2 ps2 y2 → ∃ n : Nat, M_magpies_L30 (nI B) (nI T) (nI L) lk2 M0_waits (hs om B) k n ba0 bi0 bo0 wb0 kb0 vi0 st0 pl0 le0 hz0 hm0 ps0 y (nI j)) ∧
      (∀ i : Nat, i < 125 → st2 i = st i) ∧ FS z2 z3 y2 := by
  have hpw := pw_le B hB8
  have hho : ∀ Q : Int32 → Prop, Q (hs om B) → B_hung (nI B) om Q := fun Q hQ => hung_y hB8 om hQ
  intro d
  induction d with
  | zero =>
    intro j hj bm0 bb0 bt0 wa0 ko0 us0 uB0 uG0 uT0 uO0 uR0 wh0 ho0 iS0 lf0 we0 x2 x3 ba0 bi0 bo0 wb0 kb0 vi0 st0 pl0 le0 hz0 hm0 ps0 y hst hF
    have e : (1 : Int32) <<< (nI B &&& 31) ≤ nI j := by
      rw [pw_B B hB8]
      exact nI_le (by omega) (by omega)
    exact ⟨bm0, bb0, bt0, wa0, ko0, us0, uB0, uG0, uT0, uO0, uR0, wh0, ho0, iS0, lf0, we0, x2, x3, ba0, bi0, bo0, wb0, kb0, vi0, st0, pl0, le0, hz0, hm0, ps0, y, fun k hk => ⟨1, fun _ => hk, fun c => absurd e c⟩, fun k hk => ⟨1, fun _ => hk, fun c => absurd e c⟩, hst, hF⟩
  | succ d ih =>
    intro j hj bm0 bb0 bt0 wa0 ko0 us0 uB0 uG0 uT0 uO0 uR0 wh0 ho0 iS0 lf0 we0 x2 x3 ba0 bi0 bo0 wb0 kb0 vi0 st0 pl0 le0 hz0 hm0 ps0 y hst hF
    have hg : ¬ (1 : Int32) <<< (nI B &&& 31) ≤ nI j := by
      rw [pw_B B hB8]
      exact nI_ge (by omega) (by omega)
    have hj2 : j < 256 := by omega
    have hz : nI j = 0 → ¬ alF lk (hs om B ||| nI j) L = 0 := fun h => by
      rw [h, Int32.or_zero]
      exact al_hs hB8 hL hlk ha
    obtain ⟨v, hv, hv0, hv1⟩ := FR_cmp (FS_FR hF) hj2
    have hm : nI j ||| hs om B = hs om B ||| nI j := Int32.or_comm _ _
    by_cases hS : (¬ nI j &&& hs om B = 0 ∨ alF lk (hs om B ||| nI j) L = 0) ∨ x2 ≤ bsF (nI j) 8
    · obtain ⟨bm, bb, bt, wa, ko, us, uB, uG, uT, uO, uR, wh, ho, iS, lf, we, z2, z3, ba2, bi2, bo2, wb2, kb2, vi2, st2, pl2, le2, hz2, hm2, ps2, y2, hC, hM, hst2, hF2⟩ := ih (j + 1) (by omega) bm0 bb0 bt0 wa0 ko0 us0 uB0 uG0 uT0 uO0 uR0 wh0 ho0 iS0 lf0 we0 x2 x3 ba0 bi0 bo0 wb0 kb0 vi0 st0 pl0 le0 hz0 hm0 ps0 y hst hF
      rw [nI_succ] at hC hM
      refine ⟨bm, bb, bt, wa, ko, us, uB, uG, uT, uO, uR, wh, ho, iS, lf, we, z2, z3, ba2, bi2, bo2, wb2, kb2, vi2, st2, pl2, le2, hz2, hm2, ps2, y2, fun k hk => ?_, fun k hk => ?_, hst2, hF2⟩
      · obtain ⟨n, hn⟩ := hC k hk
        refine ⟨n + 1, fun c => absurd c hg, fun _ => hho _ ⟨fun c1 => ⟨fun c2 => ⟨fun c => absurd c (by decide), fun _ => bc_y hj2 ⟨fun _ => hn, fun c4 => ?_⟩⟩, fun c2 => hho _ (alC_y hL ⟨fun _ => hn, fun c3 => bc_y hj2 ⟨fun _ => hn, fun c4 => ?_⟩⟩)⟩, fun c1 => ⟨fun _ => hn, fun c => absurd rfl c⟩⟩⟩
        · rcases hS with (h | h) | h
          · exact absurd c1 h
          · exact absurd h (hz c2)
          · exact absurd h c4
        · rcases hS with (h | h) | h
          · exact absurd c1 h
          · rw [if_pos h] at c3
            exact absurd rfl c3
          · exact absurd h c4
      · obtain ⟨n, hn⟩ := hM k hk
        refine ⟨n + 1, fun c => absurd c hg, fun _ => ⟨fun c1 => hv _ ⟨fun _ => hn, fun c2 => alM_y hL he ⟨fun _ => hn, fun c3 => ?_⟩⟩, fun _ => hn⟩⟩
        rw [hm] at c3
        rcases hS with (h | h) | h
        · exact absurd c1 h
        · exact absurd h c3
        · exact absurd (hv0 h) c2
    · have hS1 : nI j &&& hs om B = 0 := Classical.byContradiction (fun h => hS (Or.inl (Or.inl h)))
      have hS2 : ¬ alF lk (hs om B ||| nI j) L = 0 := fun h => hS (Or.inl (Or.inr h))
      have hS3 : ¬ x2 ≤ bsF (nI j) 8 := fun h => hS (Or.inr h)
      have hv2 : ¬ v = 0 := by rw [hv1 hS3]; decide
      have hif : ¬ (if alF lk (hs om B ||| nI j) L = 0 then (0 : Int32) else (1 : Int32)) = 0 := by rw [if_neg hS2]; decide
      have hp0 : pgOK st0 0 G om tr := pg_st (p := 0) (fun i _ hi => hst i (by omega)) hp
      obtain ⟨bm, bb, bt, wa, ko, us, uO, uR, wh, ho, iS, lf, we, bi, bo, st1, pl, le, hz, hm1, ps, hC1, hM0, hM1, hN, hp1, hst1, _⟩ := fl_y hT hB2 hB8 (nI j) bm0 bb0 bt0 wa0 ko0 us0 uB0 uG0 uT0 uO0 uR0 wh0 ho0 iS0 lf0 we0 ba0 bi0 bo0 wb0 kb0 vi0 st0 pl0 le0 hz0 hm0 ps0 hp0 hb
      obtain ⟨st4, hM4, hc1, hc2⟩ := copies_y (a := 100) (b := 0) (by omega) (by omega) (by omega) st1
      have hst4 : ∀ i : Nat, i < 125 → st4 i = st i := by
        intro i hi
        by_cases h25 : i < 25
        · have e1 := hc1 i h25
          rw [Nat.zero_add] at e1
          exact e1.trans ((hst1 _ (by omega)).trans ((hst _ (by omega)).trans (hcp i h25)))
        · exact (hc2 i (by omega)).trans ((hst1 i (by omega)).trans (hst i hi))
      have hCr : ∀ (k : K18) (n : Nat) (w2 w3 : Int32), ((bm = -4 ∧ w2 = bsF (nI j) 8 ∧ w3 = nI j) ∨ (¬ bm = -4 ∧ w2 = x2 ∧ w3 = x3)) → C_magpies_L18 (nI L) (nI B) G (nI T) om tr lk k n bm bb bt wa ko us (nI B) G (nI T) uO uR wh ho iS lf we w2 w3 (nI j + 1) → C_magpies_L18 (nI L) (nI B) G (nI T) om tr lk k (n + 1) bm0 bb0 bt0 wa0 ko0 us0 uB0 uG0 uT0 uO0 uR0 wh0 ho0 iS0 lf0 we0 x2 x3 (nI j) := by
        intro k n w2 w3 hw hn
        refine ⟨fun c => absurd c hg, fun _ => hho _ ⟨fun c1 => ⟨fun c2 => ⟨fun c => absurd c (by decide), fun _ => bc_y hj2 ⟨fun c => absurd c hS3, fun _ => hC1 _ ?_⟩⟩, fun c2 => hho _ (alC_y hL ⟨fun c => absurd c hif, fun _ => bc_y hj2 ⟨fun c => absurd c hS3, fun _ => hC1 _ ?_⟩⟩)⟩, fun c => absurd hS1 c⟩⟩
        all_goals
          rcases hw with ⟨h1, h2, h3⟩ | ⟨h1, h2, h3⟩
          · refine ⟨fun _ => bc_y hj2 ?_, fun c => absurd h1 c⟩
            rw [if_pos h1]
            rw [h2, h3] at hn
            exact hn
          · refine ⟨fun c => absurd c h1, fun _ => ?_⟩
            rw [if_neg h1]
            rw [h2, h3] at hn
            exact hn
      have hMr : ∀ (k : K13) (n : Nat), M_magpies_L30 (nI B) (nI T) (nI L) lk2 M0_waits (hs om B) k n bm bi bo wa ko us st4 pl le hz hm1 ps (if bm = -4 then nI j else y) (nI j + 1) → M_magpies_L30 (nI B) (nI T) (nI L) lk2 M0_waits (hs om B) k (n + 1) ba0 bi0 bo0 wb0 kb0 vi0 st0 pl0 le0 hz0 hm0 ps0 y (nI j) := by
        intro k n hn
        refine ⟨fun c => absurd c hg, fun _ => ⟨fun _ => hv _ ⟨fun c => absurd c hv2, fun _ => alM_y hL he ⟨fun c => ?_, fun _ => hM0 _ (hM1 _ (hM4 _ hn))⟩⟩, fun c => absurd hS1 c⟩⟩
        rw [hm] at c
        exact absurd c hS2
      by_cases c2 : bm = -4
      · obtain ⟨bm5, bb5, bt5, wa5, ko5, us5, uB5, uG5, uT5, uO5, uR5, wh5, ho5, iS5, lf5, we5, z2, z3, ba2, bi2, bo2, wb2, kb2, vi2, st2, pl2, le2, hz2, hm2, ps2, y2, hC, hM, hst2, hF2⟩ := ih (j + 1) (by omega) bm bb bt wa ko us (nI B) G (nI T) uO uR wh ho iS lf we (bsF (nI j) 8) (nI j) bm bi bo wa ko us st4 pl le hz hm1 ps (nI j) hst4 (Or.inr ⟨j, hj2, rfl, rfl, rfl⟩)
        rw [nI_succ] at hC hM
        refine ⟨bm5, bb5, bt5, wa5, ko5, us5, uB5, uG5, uT5, uO5, uR5, wh5, ho5, iS5, lf5, we5, z2, z3, ba2, bi2, bo2, wb2, kb2, vi2, st2, pl2, le2, hz2, hm2, ps2, y2, fun k hk => ?_, fun k hk => ?_, hst2, hF2⟩
        · obtain ⟨n, hn⟩ := hC k hk
          exact ⟨n + 1, hCr k n _ _ (Or.inl ⟨c2, rfl, rfl⟩) hn⟩
        · obtain ⟨n, hn⟩ := hM k hk
          refine ⟨n + 1, hMr k n ?_⟩
          rw [if_pos c2]
          exact hn
      · obtain ⟨bm5, bb5, bt5, wa5, ko5, us5, uB5, uG5, uT5, uO5, uR5, wh5, ho5, iS5, lf5, we5, z2, z3, ba2, bi2, bo2, wb2, kb2, vi2, st2, pl2, le2, hz2, hm2, ps2, y2, hC, hM, hst2, hF2⟩ := ih (j + 1) (by omega) bm bb bt wa ko us (nI B) G (nI T) uO uR wh ho iS lf we x2 x3 bm bi bo wa ko us st4 pl le hz hm1 ps y hst4 hF
        rw [nI_succ] at hC hM
        refine ⟨bm5, bb5, bt5, wa5, ko5, us5, uB5, uG5, uT5, uO5, uR5, wh5, ho5, iS5, lf5, we5, z2, z3, ba2, bi2, bo2, wb2, kb2, vi2, st2, pl2, le2, hz2, hm2, ps2, y2, fun k hk => ?_, fun k hk => ?_, hst2, hF2⟩
        · obtain ⟨n, hn⟩ := hC k hk
          exact ⟨n + 1, hCr k n _ _ (Or.inr ⟨c2, rfl, rfl⟩) hn⟩
        · obtain ⟨n, hn⟩ := hM k hk
          refine ⟨n + 1, hMr k n ?_⟩
          rw [if_neg c2]
          exact hn
theorem sok_magpies : SOK_magpies Inv := by
  intro kept locks seenMany bumpMinute bumpBlock bumpTrains waited keptOut used taped fault costSum safeSum allWays torn n_blocks n_guarded n_trains n_omen n_train t_blocks t_guarded t_trains t_omen t_train i0_blocks i0_guarded i0_trains i0_omen i0_train i1_blocks i1_guarded i1_trains i1_omen i1_train lockA seenA whr homes isSeen leftA were tape would m_blocks m_trainMany m_lockMany m_readBlocks m_readTrains m_readLockMany m_blocksTold m_omensTold m_highBlock m_taped m_fault m_broken m_brokenAt m_spot m_here m_token m_value m_bumpAt m_bumpIn m_bumpOf m_waited m_keptOut m_visited m_seenMany m_drawn m_torn m_state m_locks m_waits m_readPage m_readLocks m_tape m_cuts m_letters m_place m_left m_hasSeen m_homeAt m_places m_seen m_wouldBe m_isKept m_lanes m_lengths m_cells sh x1 hI
  obtain ⟨hB, hT, hL, htp, hft, hsm, htr, hw, hcu, hle, hlk, bok, pok, lok, aok, im0, im1, kok, tok, sok, hsh⟩ := hI
  subst hB hT hL htp hft hsm htr
  obtain ⟨B, hB2, hB8, rfl⟩ := ex_n (l := 2) (h := 8) bok.1 bok.2.1
  obtain ⟨T, hT0, hT4, rfl⟩ := ex_n (l := 0) (h := 4) bok.2.2.1 bok.2.2.2.1
  subst hw
  obtain ⟨L, hL0, hL4, rfl⟩ := ex_n (l := 0) (h := 4) lok.1 lok.2.1
  have hlk2 : ∀ l : Nat, l < 2 * L → m_locks l = lockA l := fun l hl => hlk l (by rw [nI_toInt (by omega)]; omega)
  have hmo : ∀ Q : Int32 → Prop, Q (hs n_omen B) → M_omens (nI B) m_state Q := fun Q hQ => omens_y hB8 (fun b hb => ⟨pg_b pok hb, (bok.2.2.2.2.1 b hb).1⟩) hQ
  unfold C_magpies M_magpies
  rw [Min_C, show C_isPart_e x1 = C_in_e x1.toInt64 (0 : Int64) (1 : Int64) from rfl]
  refine ⟨fun c => ⟨fun _ => ⟨rfl, ⟨rfl, rfl, rfl, rfl, rfl, rfl, rfl, rfl, hcu, hle, hlk, bok, pok, lok, aok, im0, im1, kok, tok, sok, hsh⟩⟩, fun c2 => absurd c c2⟩, fun c => ?_⟩
  obtain ⟨s1, hcp, hcp1, hcp2⟩ := copies_y (a := 0) (b := 100) (by omega) (by omega) (by omega) m_state
  have hp1 : pgOK s1 0 n_guarded n_omen n_train := pg_st (p := 0) (fun i _ hi => hcp2 i (by omega)) pok
  have hc1 : ∀ i : Nat, i < 25 → s1 (100 + i) = s1 i := by
    intro i hi
    have e1 := hcp1 i hi
    rw [Nat.zero_add] at e1
    exact e1.trans (hcp2 i (by omega)).symm
  obtain ⟨bm, bb, bt, wa, ko, us, uB, uG, uT, uO, uR, wh, ho, iS, lf, we, z2, z3, ba2, bi2, bo2, wb2, kb2, vi2, st2, pl2, le2, hz2, hm2, ps2, y2, hC, hM, hst2, hF2⟩ := mag_L hT4 hB2 hB8 hL4 hp1 bok hlk2 lok aok hc1 (2 ^ B) 0 (Nat.zero_add _) bumpMinute bumpBlock bumpTrains waited keptOut used t_blocks t_guarded t_trains t_omen t_train whr homes isSeen leftA were 1000000 (-4) m_bumpAt m_bumpIn m_bumpOf m_waited m_keptOut m_visited s1 m_place m_left m_hasSeen m_homeAt m_places (-4) (fun _ _ => rfl) (Or.inl ⟨rfl, rfl, rfl⟩)
  have hse : ∀ i : Nat, i < 100 → st2 i = m_state i := fun i hi => (hst2 i (by omega)).trans (hcp2 i (by omega))
  have pok2 := pg_st (p := 0) (fun i _ hi => hse i (by omega)) pok
  have im02 := im_st (fun i _ hi => hse i (by omega)) im0
  have im12 := im_st (fun i _ hi => hse i (by omega)) im1
  refine hC _ ⟨fun c2 => absurd c2 c, fun _ => hmo _ (hcp _ (hM _ ?_))⟩
  rcases hF2 with ⟨e1, e2, e3⟩ | ⟨q, hq, e1, e2, e3⟩
  · refine ⟨fun _ => ⟨?_, ⟨rfl, rfl, rfl, rfl, rfl, rfl, rfl, rfl, hcu, hle, hlk, bok, pok2, lok, aok, im02, im12, kok, tok, sok, hsh⟩⟩, fun c2 => absurd e3 c2⟩
    rw [if_pos e2, e3]
  · have hn : z3 ≠ -4 := by rw [e2]; exact n4_ne (by omega)
    have hn2 : y2 ≠ -4 := by rw [e1]; exact n4_ne (by omega)
    rw [if_neg hn]
    refine ⟨fun c2 => absurd c2 hn2, fun _ => ⟨fun h1 => ⟨?_, ⟨rfl, rfl, rfl, rfl, rfl, rfl, rfl, rfl, hcu, hle, hlk, bok, pok2, lok, aok, im02, im12, kok, tok, sok, hsh⟩⟩, fun h1 => bits_y ⟨?_, ⟨rfl, rfl, rfl, rfl, rfl, rfl, rfl, rfl, hcu, hle, hlk, bok, pok2, lok, aok, im02, im12, kok, tok, sok, hsh⟩⟩⟩⟩
    · rw [h1, if_neg (by decide), e1, e2]
    · rw [if_pos ((x_01 c).resolve_right h1), e1, e3]
