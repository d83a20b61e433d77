set_option maxRecDepth 100000
theorem pow_L {T : Nat} (hT : T ≤ 4) {k : Int32 → Prop} (hk : k (nI (4 ^ T))) : ∀ n j : Nat, j + n = T → C_power_L4 (4 : Int32) (nI T) k (n + 1) (nI (4 ^ j)) (nI j) := by
  intro n
  induction n with
  | zero =>
    intro j hj
    obtain rfl : j = T := by omega
    exact ⟨fun _ => hk, fun c => absurd (nI_le (Nat.le_refl _) (by omega)) c⟩
  | succ n ih =>
    intro j hj
    have h := ih (j + 1) (by omega)
    rw [nI_succ, Nat.pow_succ] at h
    refine ⟨fun c => absurd c (nI_ge (by omega) (by omega)), fun _ => ?_⟩
    have e : nI (4 ^ j) * (4 : Int32) = nI (4 ^ j * 4) := pk_mul _ 4
    rw [e]
    exact h
theorem pow_y {T : Nat} (hT : T ≤ 4) {Q : Int32 → Prop} (hQ : Q (nI (4 ^ T))) : C_power (4 : Int32) (nI T) Q := ⟨_, pow_L hT (k := fun r => Q r) hQ T 0 (Nat.zero_add _)⟩
theorem pw_T : ∀ T : Nat, T ≤ 4 → (1 : Int32) <<< (((2 : Int32) * nI T) &&& 31) = nI (4 ^ T) := by
  decide +kernel
theorem pw_l4 : ∀ T : Nat, T ≤ 4 → 4 ^ T ≤ 256 ∧ 0 < 4 ^ T := by
  decide +kernel
def QN (x : Int32) : Prop := x = -4 ∨ ∃ q : Nat, q < 256 ∧ x = nI q
theorem sta_L {B T : Nat} (hT : T ≤ 4) (hB2 : 2 ≤ B) (hB8 : B ≤ 8) {G : Int32} {st om tr : Nat → Int32} (hb : bOK (nI B) (nI T) om tr) : ∀ d j : Nat, j + d = 4 ^ T → ∀ (bm0 bb0 bt0 wa0 ko0 us0 uB0 uG0 uT0 : Int32) (uO0 uR0 wh0 ho0 iS0 lf0 we0 : Nat → Int32) (x2 x3 : Int32) (ba0 bi0 bo0 wb0 kb0 vi0 : Int32) (st0 pl0 le0 hz0 hm0 ps0 : Nat → Int32) (tA : Nat → Int32), pgOK st0 0 G om tA → DX T tA tr → (∀ i : Nat, 25 ≤ i → st0 i = st i) → QN x3 →
    ∃ bm bb bt wa ko us uB uG uT uO uR wh ho iS lf we z2 z3 ba2 bi2 bo2 wb2 kb2 vi2 st2 pl2 le2 hz2 hm2 ps2 tA2,
      (∀ k : K18, k bm bb bt wa ko us uB uG uT uO uR wh ho iS lf we z2 z3 → ∃ n : Nat, C_starts_L26 (nI B) G (nI T) om tr k n bm0 bb0 bt0 wa0 ko0 us0 uB0 uG0 uT0 uO0 uR0 wh0 ho0 iS0 lf0 we0 x2 x3 (nI j)) ∧
      (∀ k : K14, k ba2 bi2 bo2 wb2 kb2 vi2 st2 pl2 le2 hz2 hm2 ps2 z3 z2 → ∃ n : Nat, M_starts_L41 (nI B) (nI T) M0_waits k n ba0 bi0 bo0 wb0 kb0 vi0 st0 pl0 le0 hz0 hm0 ps0 x3 x2 (nI j)) ∧
      pgOK st2 0 G om tA2 ∧ DX T tA2 tr ∧ (∀ i : Nat, 25 ≤ i → st2 i = st i) ∧ QN z3 := by
  have hpw := pw_l4 T hT
  intro d
  induction d with
  | zero =>
    intro j hj bm0 bb0 bt0 wa0 ko0 us0 uB0 uG0 uT0 uO0 uR0 wh0 ho0 iS0 lf0 we0 x2 x3 ba0 bi0 bo0 wb0 kb0 vi0 st0 pl0 le0 hz0 hm0 ps0 tA hp hD hst hq
    have e : nI (4 ^ T) ≤ nI j := nI_le (by omega) (by omega)
    refine ⟨bm0, bb0, bt0, wa0, ko0, us0, uB0, uG0, uT0, uO0, uR0, wh0, ho0, iS0, lf0, we0, x2, x3, ba0, bi0, bo0, wb0, kb0, vi0, st0, pl0, le0, hz0, hm0, ps0, tA, fun k hk => ⟨1, pow_y hT ⟨fun _ => hk, fun c => absurd e c⟩⟩, fun k hk => ⟨1, ?_⟩, hp, hD, hst, hq⟩
    refine ⟨fun _ => hk, fun c => absurd ?_ c⟩
    rw [pw_T T hT]
    exact e
  | succ d ih =>
    intro j hj bm0 bb0 bt0 wa0 ko0 us0 uB0 uG0 uT0 uO0 uR0 wh0 ho0 iS0 lf0 we0 x2 x3 ba0 bi0 bo0 wb0 kb0 vi0 st0 pl0 le0 hz0 hm0 ps0 tA hp hD hst hq
    have hg : ¬ nI (4 ^ T) ≤ nI j := nI_ge (by omega) (by omega)
    have hg2 : ¬ (1 : Int32) <<< (((2 : Int32) * nI T) &&& 31) ≤ nI j := by
      rw [pw_T T hT]
      exact hg
    obtain ⟨uO, uR, st1, hC0, hM0, hp1, hb1, hO, hDR, hst1⟩ := by_y hT (show j < 2 ^ 31 by omega) hp hD hb uB0 uG0 uT0 uO0 uR0 (G1 := G)
    obtain ⟨bm, bb, bt, wa, ko, us, wh, ho, iS, lf, we, bi, bo, pl, le, hz, hm, ps, hC1, hM1, hN⟩ := run_y hT hB2 hB8 hp1 hb1 bm0 bb0 bt0 wa0 ko0 us0 ba0 bi0 bo0 wb0 kb0 vi0 wh0 ho0 iS0 lf0 we0 pl0 le0 hz0 hm0 ps0
    have hp2 : pgOK st1 0 G om uR := pg_cg (fun b hb => (hO b hb).symm) (fun _ _ => rfl) hp1
    have hst3 : ∀ i : Nat, 25 ≤ i → st1 i = st i := fun i hi => (hst1 i hi).trans (hst i hi)
    have he : ∀ t : Nat, t < 4 → ho t = hm t := fun t ht => (hN.2.1 t ht).1
    by_cases c1 : hmF ho T = nI T
    · by_cases c2 : x2 ≤ csF ho uR T
      · have c3 : (if x2 ≤ csF ho uR T then (0 : Int32) else (1 : Int32)) = 0 := if_pos c2
        obtain ⟨bm5, bb5, bt5, wa5, ko5, us5, uB5, uG5, uT5, uO5, uR5, wh5, ho5, iS5, lf5, we5, z2, z3, ba2, bi2, bo2, wb2, kb2, vi2, st2, pl2, le2, hz2, hm2, ps2, tA2, hC, hM, hr⟩ := ih (j + 1) (by omega) bm bb bt wa ko us (nI B) G (nI T) uO uR wh ho iS lf we x2 x3 bm bi bo wa ko us st1 pl le hz hm ps uR hp2 hDR hst3 hq
        rw [nI_succ] at hC hM
        refine ⟨bm5, bb5, bt5, wa5, ko5, us5, uB5, uG5, uT5, uO5, uR5, wh5, ho5, iS5, lf5, we5, z2, z3, ba2, bi2, bo2, wb2, kb2, vi2, st2, pl2, le2, hz2, hm2, ps2, tA2, fun k hk => ?_, fun k hk => ?_, hr⟩
        · obtain ⟨n, hn⟩ := hC k hk
          refine ⟨n + 1, pow_y hT ⟨fun c => absurd c hg, fun _ => hC0 _ (hC1 _ (hmC_y hT ⟨fun _ => csC_y hT ⟨fun _ => ?_, fun c => absurd c3 c⟩, fun c => absurd c1 c⟩))⟩⟩
          rw [if_pos c3]
          exact hn
        · obtain ⟨n, hn⟩ := hM k hk
          refine ⟨n + 1, fun c => absurd c hg2, fun _ => hM0 _ (hM1 _ (hmM_y hT he ⟨fun _ => csM_y hT hp1 he ⟨fun _ => ?_, fun c => absurd c3 c⟩, fun c => absurd c1 c⟩))⟩
          rw [if_pos c3]
          exact hn
      · have c3 : ¬ (if x2 ≤ csF ho uR T then (0 : Int32) else (1 : Int32)) = 0 := by rw [if_neg c2]; decide
        obtain ⟨bm5, bb5, bt5, wa5, ko5, us5, uB5, uG5, uT5, uO5, uR5, wh5, ho5, iS5, lf5, we5, z2, z3, ba2, bi2, bo2, wb2, kb2, vi2, st2, pl2, le2, hz2, hm2, ps2, tA2, hC, hM, hr⟩ := ih (j + 1) (by omega) bm bb bt wa ko us (nI B) G (nI T) uO uR wh ho iS lf we (csF ho uR T) (nI j) bm bi bo wa ko us st1 pl le hz hm ps uR hp2 hDR hst3 (Or.inr ⟨j, by omega, rfl⟩)
        rw [nI_succ] at hC hM
        refine ⟨bm5, bb5, bt5, wa5, ko5, us5, uB5, uG5, uT5, uO5, uR5, wh5, ho5, iS5, lf5, we5, z2, z3, ba2, bi2, bo2, wb2, kb2, vi2, st2, pl2, le2, hz2, hm2, ps2, tA2, fun k hk => ?_, fun k hk => ?_, hr⟩
        · obtain ⟨n, hn⟩ := hC k hk
          refine ⟨n + 1, pow_y hT ⟨fun c => absurd c hg, fun _ => hC0 _ (hC1 _ (hmC_y hT ⟨fun _ => csC_y hT ⟨fun c => absurd c c3, fun _ => csC_y hT ?_⟩, fun c => absurd c1 c⟩))⟩⟩
          rw [if_neg c3]
          exact hn
        · obtain ⟨n, hn⟩ := hM k hk
          refine ⟨n + 1, fun c => absurd c hg2, fun _ => hM0 _ (hM1 _ (hmM_y hT he ⟨fun _ => csM_y hT hp1 he ⟨fun c => absurd c c3, fun _ => csM_y hT hp1 he ?_⟩, fun c => absurd c1 c⟩))⟩
          rw [if_neg c3]
          exact hn
    · obtain ⟨bm5, bb5, bt5, wa5, ko5, us5, uB5, uG5, uT5, uO5, uR5, wh5, ho5, iS5, lf5, we5, z2, z3, ba2, bi2, bo2, wb2, kb2, vi2, st2, pl2, le2, hz2, hm2, ps2, tA2, hC, hM, hr⟩ := ih (j + 1) (by omega) bm bb bt wa ko us (nI B) G (nI T) uO uR wh ho iS lf we x2 x3 bm bi bo wa ko us st1 pl le hz hm ps uR hp2 hDR hst3 hq
      rw [nI_succ] at hC hM
      refine ⟨bm5, bb5, bt5, wa5, ko5, us5, uB5, uG5, uT5, uO5, uR5, wh5, ho5, iS5, lf5, we5, z2, z3, ba2, bi2, bo2, wb2, kb2, vi2, st2, pl2, le2, hz2, hm2, ps2, tA2, fun k hk => ?_, fun k hk => ?_, hr⟩
      · obtain ⟨n, hn⟩ := hC k hk
        refine ⟨n + 1, pow_y hT ⟨fun c => absurd c hg, fun _ => hC0 _ (hC1 _ (hmC_y hT ⟨fun c => absurd c c1, fun _ => ⟨fun _ => ?_, fun c => absurd rfl c⟩⟩))⟩⟩
        rw [if_pos rfl]
        exact hn
      · obtain ⟨n, hn⟩ := hM k hk
        refine ⟨n + 1, fun c => absurd c hg2, fun _ => hM0 _ (hM1 _ (hmM_y hT he ⟨fun c => absurd c c1, fun _ => ⟨fun _ => ?_, fun c => absurd rfl c⟩⟩))⟩
        rw [if_pos rfl]
        exact hn
theorem in_iff {a l h : Int64} : C_in_e a l h = 0 ↔ ¬ (l.toInt ≤ a.toInt ∧ a.toInt ≤ h.toInt) := by
  constructor
  · intro c h2
    have := in_no c
    omega
  · intro h2
    refine Classical.byContradiction (fun c => h2 (in_ok c))
theorem st_in {x : Int32} {T : Nat} (hT : T ≤ 4) : C_isTrain_e (nI T) (x - (10 : Int32)) = C_in_e x.toInt64 (10 : Int64) (((9 : Int32) + nI T)).toInt64 := by
  have e1 : C_isTrain_e (nI T) (x - (10 : Int32)) = C_in_e (x - (10 : Int32)).toInt64 (0 : Int64) ((nI T) - (1 : Int32)).toInt64 := rfl
  have t := nI_toInt (n := T) (by omega)
  have h1 := Int32.le_toInt x
  have h2 := Int32.toInt_lt x
  have hz : C_in_e (x - (10 : Int32)).toInt64 (0 : Int64) ((nI T) - (1 : Int32)).toInt64 = 0 ↔ C_in_e x.toInt64 (10 : Int64) (((9 : Int32) + nI T)).toInt64 = 0 := by
    rw [in_iff, in_iff, Int32.toInt_toInt64, Int32.toInt_toInt64, Int32.toInt_toInt64, Int32.toInt_toInt64, sub_i (a := nI T) (by rw [i1]; omega) (by rw [i1]; omega), add_i (by rw [i9]; omega) (by rw [i9]; omega), Int32.toInt_sub, i1, i9, show (10 : Int32).toInt = 10 from by decide, show (10 : Int64).toInt = 10 from by decide, z64, Int.bmod_def]
    omega
  rw [e1]
  rcases C_in_z (x - (10 : Int32)).toInt64 (0 : Int64) ((nI T) - (1 : Int32)).toInt64 with h3 | h3
  · rw [h3, hz.mp h3]
  · rcases C_in_z x.toInt64 (10 : Int64) (((9 : Int32) + nI T)).toInt64 with h4 | h4
    · rw [hz.mpr h4] at h3
      exact absurd h3 (by decide)
    · rw [h3, h4]
theorem sok_starts : SOK_starts Inv := by
  intro kept locks seenMany bumpMinute bumpBlock bumpTrains waited keptOut used taped fault costSum safeSum allWays torn n_blocks n_guarded n_trains n_omen n_train t_blocks t_guarded t_trains t_omen t_train i0_blocks i0_guarded i0_trains i0_omen i0_train i1_blocks i1_guarded i1_trains i1_omen i1_train lockA seenA whr homes isSeen leftA were tape would m_blocks m_trainMany m_lockMany m_readBlocks m_readTrains m_readLockMany m_blocksTold m_omensTold m_highBlock m_taped m_fault m_broken m_brokenAt m_spot m_here m_token m_value m_bumpAt m_bumpIn m_bumpOf m_waited m_keptOut m_visited m_seenMany m_drawn m_torn m_state m_locks m_waits m_readPage m_readLocks m_tape m_cuts m_letters m_place m_left m_hasSeen m_homeAt m_places m_seen m_wouldBe m_isKept m_lanes m_lengths m_cells sh x1 hI
  obtain ⟨hB, hT, hL, htp, hft, hsm, htr, hw, hcu, hle, hlk, bok, pok, lok, aok, im0, im1, kok, tok, sok, hsh⟩ := hI
  subst hB hT hL htp hft hsm htr
  obtain ⟨B, hB2, hB8, rfl⟩ := ex_n (l := 2) (h := 8) bok.1 bok.2.1
  obtain ⟨T, hT0, hT4, rfl⟩ := ex_n (l := 0) (h := 4) bok.2.2.1 bok.2.2.2.1
  subst hw
  unfold C_starts
  have hfin : ∀ st0 : Nat → Int32, (pgOK st0 0 n_guarded n_omen n_train ∧ ∀ i : Nat, i < 100 → 25 ≤ i → st0 i = m_state i) → imOK (m_isKept 0) st0 25 (nI B) (nI T) m_lockMany lockA i0_blocks i0_guarded i0_trains i0_omen i0_train ∧ imOK (m_isKept 1) st0 50 (nI B) (nI T) m_lockMany lockA i1_blocks i1_guarded i1_trains i1_omen i1_train := fun st0 h => ⟨im_st (fun i h1 h2 => h.2 i (by omega) (by omega)) im0, im_st (fun i h1 h2 => h.2 i (by omega) (by omega)) im1⟩
  suffices hJ : (x1 = 0 ∨ ∃ t : Nat, t < T ∧ x1 = nI (10 + t)) → C_starts_J17 _ _ _ _ _ _ _ _ _ _ _ _ _ _ _ _ _ _ _ _ _ _ _ by
    refine ⟨fun c => hJ (Or.inl c), fun c => ⟨fun c2 => ?_, fun c2 => hJ (Or.inr ?_)⟩⟩
    · unfold M_starts
      rw [st_in hT4] at c2
      exact ⟨fun c3 => absurd c3 c, fun _ => ⟨fun _ => ⟨rfl, ⟨rfl, rfl, rfl, rfl, rfl, rfl, rfl, rfl, hcu, hle, hlk, bok, pok, lok, aok, im0, im1, kok, tok, sok, hsh⟩⟩, fun c3 => absurd c2 c3⟩⟩
    · obtain ⟨t, ht, e⟩ := tr_ix hT4 c2
      refine ⟨t, ht, ?_⟩
      rw [← nI_add, ← e]
      exact (show x1 = (10 : Int32) + (x1 - (10 : Int32)) by rw [Int32.add_comm, Int32.sub_add_cancel])
  intro hx
  have hMS : ∀ Q, M_starts_J25 (nI B) (nI T) m_bumpAt m_bumpIn m_bumpOf m_waited m_keptOut m_visited m_state M0_waits m_place m_left m_hasSeen m_homeAt m_places x1 Q → M_starts (nI B) (nI T) m_bumpAt m_bumpIn m_bumpOf m_waited m_keptOut m_visited m_state M0_waits m_place m_left m_hasSeen m_homeAt m_places x1 Q := by
    intro Q hQ
    refine ⟨fun _ => hQ, fun c => ⟨fun c2 => ?_, fun _ => hQ⟩⟩
    rw [Min_C, ← st_in hT4] at c2
    obtain ⟨t, ht, rfl⟩ := hx.resolve_left c
    have e10 : nI (10 + t) - (10 : Int32) = nI t := by
      have := pk_sub (a := 10 + t) (b := 10) (by omega)
      rwa [Nat.add_sub_cancel_left] at this
    rw [e10, show C_isTrain_e (nI T) (nI t) = C_in_e (nI t).toInt64 (0 : Int64) ((nI T) - (1 : Int32)).toInt64 from rfl, in_iff, nI_p T (by omega), Int32.toInt_toInt64, Int32.toInt_toInt64, nI_toInt (by omega), nI_toInt (by omega), z64] at c2
    omega
  obtain ⟨s1, hcp, hcp1, hcp2⟩ := copies_y (a := 0) (b := 100) (by omega) (by omega) (by omega) m_state
  have hp1 : pgOK s1 0 n_guarded n_omen n_train := pg_st (p := 0) (fun i _ hi => hcp2 i (by omega)) pok
  have hp100 : pgOK s1 100 n_guarded n_omen n_train := pg_mv (a := 0) (b := 100) hcp1 pok
  obtain ⟨bm, bb, bt, wa, ko, us, uB, uG, uT, uO, uR, wh, ho, iS, lf, we, z2, z3, ba2, bi2, bo2, wb2, kb2, vi2, st2, pl2, le2, hz2, hm2, ps2, tA2, hC, hM, hp2, hD2, hst2, hq⟩ := sta_L hT4 hB2 hB8 bok (4 ^ T) 0 (Nat.zero_add _) bumpMinute bumpBlock bumpTrains waited keptOut used t_blocks t_guarded t_trains t_omen t_train whr homes isSeen leftA were 1000000 (-4) m_bumpAt m_bumpIn m_bumpOf m_waited m_keptOut m_visited s1 m_place m_left m_hasSeen m_homeAt m_places n_train hp1 (fun _ _ => Or.inr rfl) (fun _ _ => rfl) (Or.inl rfl)
  have hfi3 : ∀ s3 : Nat → Int32, (∀ i : Nat, 25 ≤ i → s3 i = st2 i) → ∃ s4 : Nat → Int32, (∀ Q : (Nat → Int32) → Prop, Q s4 → M_copies s3 (100 : Int32) (0 : Int32) Q) ∧ pgOK s4 0 n_guarded n_omen n_train ∧ ∀ i : Nat, i < 100 → 25 ≤ i → s4 i = m_state i := by
    intro s3 h3
    obtain ⟨s4, k1, k2, k3⟩ := copies_y (a := 100) (b := 0) (by omega) (by omega) (by omega) s3
    have hp3 : pgOK s3 100 n_guarded n_omen n_train := pg_st (p := 100) (fun i hi _ => (h3 i (by omega)).trans (hst2 i (by omega))) hp100
    exact ⟨s4, k1, pg_mv (a := 100) (b := 0) k2 hp3, fun i h1 h2 => (k3 i (by omega)).trans ((h3 i h2).trans ((hst2 i h2).trans (hcp2 i (by omega))))⟩
  rcases hq with hq | ⟨q, hq, hz3⟩
  · obtain ⟨uO3, uR3, s3, hC3, hM3, hp3, hb3, hO3, hDR3, hs3⟩ := by_y hT4 (show 0 < 2 ^ 31 by omega) hp2 hD2 bok t_blocks t_guarded t_trains t_omen t_train (G1 := n_guarded)
    obtain ⟨s4, hM4, hp4, hr4⟩ := hfi3 s3 hs3
    refine hC _ ⟨fun _ => hMS _ (hcp _ (hM _ ?_)), fun c => absurd hq c⟩
    rw [if_pos hq]
    refine hM3 _ ⟨fun c => absurd hq c, hM4 _ ⟨?_, ⟨rfl, rfl, rfl, rfl, rfl, rfl, rfl, rfl, hcu, hle, hlk, bok, hp4, lok, aok, (hfin s4 ⟨hp4, hr4⟩).1, (hfin s4 ⟨hp4, hr4⟩).2, kok, tok, sok, hsh⟩⟩⟩
    rw [if_pos hq, if_pos hq]
  · have hn : z3 ≠ -4 := by rw [hz3]; exact n4_ne (by omega)
    obtain ⟨uO3, uR3, s3, hC3, hM3, hp3, hb3, hO3, hDR3, hs3⟩ := by_y hT4 (show q < 2 ^ 31 by omega) hp2 hD2 bok uB uG uT uO uR (G1 := n_guarded)
    obtain ⟨s4, hM4, hp4, hr4⟩ := hfi3 s3 hs3
    rw [← hz3] at hC3 hM3
    refine hC _ ⟨fun c => absurd c hn, fun _ => ⟨fun h0 => hMS _ (hcp _ (hM _ ?_)), fun h0 => hC3 _ ?_⟩⟩
    · rw [if_neg hn]
      refine hM3 _ ⟨fun _ c => absurd h0 c, hM4 _ ⟨?_, ⟨rfl, rfl, rfl, rfl, rfl, rfl, rfl, rfl, hcu, hle, hlk, bok, hp4, lok, aok, (hfin s4 ⟨hp4, hr4⟩).1, (hfin s4 ⟨hp4, hr4⟩).2, kok, tok, sok, hsh⟩⟩⟩
      rw [if_neg hn, if_neg hn, if_pos h0]
    · obtain ⟨t, ht, rfl⟩ := hx.resolve_left h0
      have e10 : nI (10 + t) - (10 : Int32) = nI t := by
        have := pk_sub (a := 10 + t) (b := 10) (by omega)
        rwa [Nat.add_sub_cancel_left] at this
      have e17 : ((17 : Int32) + nI (10 + t)) - (10 : Int32) = nI (17 + t) := by
        have e : (17 : Int32) + nI (10 + t) = nI (17 + (10 + t)) := nI_add 17 (10 + t)
        have := pk_sub (a := 17 + (10 + t)) (b := 10) (by omega)
        rw [e]
        exact this.trans (congrArg nI (by omega))
      rw [e10]
      have eB : B_of_e uR3 (nI t) (2 : Int32) = uR3 (4 * t + 2) := of_e (w := 2) (by omega) (by omega) uR3
      refine ⟨of_v (w := 2) (by omega) (by omega), hMS _ (hcp _ (hM _ ?_))⟩
      rw [if_neg hn]
      refine hM3 _ ⟨fun _ _ => by rw [e17]; exact vp_in_nI (by omega) (by omega), hM4 _ ⟨?_, ⟨rfl, rfl, rfl, rfl, rfl, rfl, rfl, rfl, hcu, hle, hlk, bok, hp4, lok, aok, (hfin s4 ⟨hp4, hr4⟩).1, (hfin s4 ⟨hp4, hr4⟩).2, kok, tok, sok, hsh⟩⟩⟩
      rw [if_neg hn, if_neg h0, e17, nI_clamp (by omega), eB]
      exact (pg_f hp3 (by omega)).2.2.1.symm
