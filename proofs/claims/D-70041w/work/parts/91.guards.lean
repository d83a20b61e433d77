set_option maxRecDepth 100000
theorem gua_L {B T : Nat} (hT : T ≤ 4) (hB2 : 2 ≤ B) (hB8 : B ≤ 8) {G : Int32} {st om tr : Nat → Int32} (hp : pgOK st 0 G om tr) (hb : bOK (nI B) (nI T) om tr) : ∀ d j : Nat, j + d = 2 ^ B → ∀ (bm0 bb0 bt0 wa0 ko0 us0 uB0 uG0 uT0 : Int32) (uO0 uR0 wh0 ho0 iS0 lf0 we0 : Nat → Int32) (x2 x3 : Int32) (ba0 bi0 bo0 wb0 kb0 vi0 : Int32) (st0 pl0 le0 hz0 hm0 ps0 : Nat → Int32), (∀ i : Nat, i ≠ 8 → st0 i = st i) →
    ∃ bm bb bt wa ko us uB uG uT uO uR wh ho iS lf we z2 z3 ba2 bi2 bo2 wb2 kb2 vi2 st2 pl2 le2 hz2 hm2 ps2,
      (∀ k : K18, k bm bb bt wa ko us uB uG uT uO uR wh ho iS lf we z2 z3 → ∃ n : Nat, C_guards_L18 (nI B) G (nI T) om tr k n bm0 bb0 bt0 wa0 ko0 us0 uB0 uG0 uT0 uO0 uR0 wh0 ho0 iS0 lf0 we0 x2 x3 (nI j)) ∧
      (∀ k : K14, k ba2 bi2 bo2 wb2 kb2 vi2 st2 pl2 le2 hz2 hm2 ps2 z3 z2 → ∃ n : Nat, M_guards_L30 (nI B) (nI T) M0_waits k n ba0 bi0 bo0 wb0 kb0 vi0 st0 pl0 le0 hz0 hm0 ps0 x3 x2 (nI j)) ∧
      (∀ i : Nat, i ≠ 8 → st2 i = st i) := by
  have hpw := pw_le B hB8
  intro d
  induction d with
  | zero =>
    intro j hj bm0 bb0 bt0 wa0 ko0 us0 uB0 uG0 uT0 uO0 uR0 wh0 ho0 iS0 lf0 we0 x2 x3 ba0 bi0 bo0 wb0 kb0 vi0 st0 pl0 le0 hz0 hm0 ps0 hst
    have e : (1 : Int32) <<< (nI B &&& 31) ≤ nI j := by
      rw [pw_B B hB8]
      exact nI_le (by omega) (by omega)
    exact ⟨bm0, bb0, bt0, wa0, ko0, us0, uB0, uG0, uT0, uO0, uR0, wh0, ho0, iS0, lf0, we0, x2, x3, ba0, bi0, bo0, wb0, kb0, vi0, st0, pl0, le0, hz0, hm0, ps0, fun k hk => ⟨1, fun _ => hk, fun c => absurd e c⟩, fun k hk => ⟨1, fun _ => hk, fun c => absurd e c⟩, hst⟩
  | succ d ih =>
    intro j hj bm0 bb0 bt0 wa0 ko0 us0 uB0 uG0 uT0 uO0 uR0 wh0 ho0 iS0 lf0 we0 x2 x3 ba0 bi0 bo0 wb0 kb0 vi0 st0 pl0 le0 hz0 hm0 ps0 hst
    have hg : ¬ (1 : Int32) <<< (nI B &&& 31) ≤ nI j := by
      rw [pw_B B hB8]
      exact nI_ge (by omega) (by omega)
    have hp0 : pgOK st0 0 (st0 8) om tr := ⟨fun b h => (hst _ (by omega)).trans (hp.1 b h), rfl, fun t h1 w h2 => (hst _ (by omega)).trans (hp.2.2 t h1 w h2)⟩
    obtain ⟨bm, bb, bt, wa, ko, us, uO, uR, wh, ho, iS, lf, we, bi, bo, pl, le, hz, hm, ps, hC1, hM1, hN, hO, hR⟩ := rg_y hT hB2 hB8 hp0 hb G (nI j) bm0 bb0 bt0 wa0 ko0 us0 uB0 uG0 uT0 uO0 uR0 wh0 ho0 iS0 lf0 we0 ba0 bi0 bo0 wb0 kb0 vi0 st0 pl0 le0 hz0 hm0 ps0
    have hst1 : ∀ i : Nat, i ≠ 8 → upd st0 (8 : Int32).toNatClampNeg (nI j) i = st i := fun i hi => (upd_ne _ _ hi).trans (hst i hi)
    have hp1 : pgOK (upd st0 (8 : Int32).toNatClampNeg (nI j)) 0 (nI j) uO uR := pg_cg hO hR (pg_G hp0)
    have he : ∀ t : Nat, t < 4 → ho t = hm t := fun t ht => (hN.2.1 t ht).1
    by_cases c1 : hmF ho T = nI T
    · by_cases c2 : x2 ≤ csF ho uR T
      · have c3 : (if x2 ≤ csF ho uR T then (0 : Int32) else (1 : Int32)) = 0 := if_pos c2
        obtain ⟨bm5, bb5, bt5, wa5, ko5, us5, uB5, uG5, uT5, uO5, uR5, wh5, ho5, iS5, lf5, we5, z2, z3, ba2, bi2, bo2, wb2, kb2, vi2, st2, pl2, le2, hz2, hm2, ps2, hC, hM, hst2⟩ := ih (j + 1) (by omega) bm bb bt wa ko us (nI B) (nI j) (nI T) uO uR wh ho iS lf we x2 x3 bm bi bo wa ko us (upd st0 (8 : Int32).toNatClampNeg (nI j)) pl le hz hm ps hst1
        rw [nI_succ] at hC hM
        refine ⟨bm5, bb5, bt5, wa5, ko5, us5, uB5, uG5, uT5, uO5, uR5, wh5, ho5, iS5, lf5, we5, z2, z3, ba2, bi2, bo2, wb2, kb2, vi2, st2, pl2, le2, hz2, hm2, ps2, fun k hk => ?_, fun k hk => ?_, hst2⟩
        · obtain ⟨n, hn⟩ := hC k hk
          refine ⟨n + 1, fun c => absurd c hg, fun _ => hC1 _ (hmC_y hT ⟨fun _ => csC_y hT ⟨fun _ => ?_, fun c => absurd c3 c⟩, fun c => absurd c1 c⟩)⟩
          rw [if_pos c3]
          exact hn
        · obtain ⟨n, hn⟩ := hM k hk
          refine ⟨n + 1, fun c => absurd c hg, fun _ => hM1 _ (hmM_y hT he ⟨fun _ => csM_y hT hp1 he ⟨fun _ => ?_, fun c => absurd c3 c⟩, fun c => absurd c1 c⟩)⟩
          rw [if_pos c3]
          exact hn
      · have c3 : ¬ (if x2 ≤ csF ho uR T then (0 : Int32) else (1 : Int32)) = 0 := by rw [if_neg c2]; decide
        obtain ⟨bm5, bb5, bt5, wa5, ko5, us5, uB5, uG5, uT5, uO5, uR5, wh5, ho5, iS5, lf5, we5, z2, z3, ba2, bi2, bo2, wb2, kb2, vi2, st2, pl2, le2, hz2, hm2, ps2, hC, hM, hst2⟩ := ih (j + 1) (by omega) bm bb bt wa ko us (nI B) (nI j) (nI T) uO uR wh ho iS lf we (csF ho uR T) (nI j) bm bi bo wa ko us (upd st0 (8 : Int32).toNatClampNeg (nI j)) pl le hz hm ps hst1
        rw [nI_succ] at hC hM
        refine ⟨bm5, bb5, bt5, wa5, ko5, us5, uB5, uG5, uT5, uO5, uR5, wh5, ho5, iS5, lf5, we5, z2, z3, ba2, bi2, bo2, wb2, kb2, vi2, st2, pl2, le2, hz2, hm2, ps2, fun k hk => ?_, fun k hk => ?_, hst2⟩
        · obtain ⟨n, hn⟩ := hC k hk
          refine ⟨n + 1, fun c => absurd c hg, fun _ => hC1 _ (hmC_y hT ⟨fun _ => csC_y hT ⟨fun c => absurd c c3, fun _ => csC_y hT ?_⟩, fun c => absurd c1 c⟩)⟩
          rw [if_neg c3]
          exact hn
        · obtain ⟨n, hn⟩ := hM k hk
          refine ⟨n + 1, fun c => absurd c hg, fun _ => hM1 _ (hmM_y hT he ⟨fun _ => csM_y hT hp1 he ⟨fun c => absurd c c3, fun _ => csM_y hT hp1 he ?_⟩, fun c => absurd c1 c⟩)⟩
          rw [if_neg c3]
          exact hn
    · obtain ⟨bm5, bb5, bt5, wa5, ko5, us5, uB5, uG5, uT5, uO5, uR5, wh5, ho5, iS5, lf5, we5, z2, z3, ba2, bi2, bo2, wb2, kb2, vi2, st2, pl2, le2, hz2, hm2, ps2, hC, hM, hst2⟩ := ih (j + 1) (by omega) bm bb bt wa ko us (nI B) (nI j) (nI T) uO uR wh ho iS lf we x2 x3 bm bi bo wa ko us (upd st0 (8 : Int32).toNatClampNeg (nI j)) pl le hz hm ps hst1
      rw [nI_succ] at hC hM
      refine ⟨bm5, bb5, bt5, wa5, ko5, us5, uB5, uG5, uT5, uO5, uR5, wh5, ho5, iS5, lf5, we5, z2, z3, ba2, bi2, bo2, wb2, kb2, vi2, st2, pl2, le2, hz2, hm2, ps2, fun k hk => ?_, fun k hk => ?_, hst2⟩
      · obtain ⟨n, hn⟩ := hC k hk
        refine ⟨n + 1, fun c => absurd c hg, fun _ => hC1 _ (hmC_y hT ⟨fun c => absurd c c1, fun _ => ⟨fun _ => ?_, fun c => absurd rfl c⟩⟩)⟩
        rw [if_pos rfl]
        exact hn
      · obtain ⟨n, hn⟩ := hM k hk
        refine ⟨n + 1, fun c => absurd c hg, fun _ => hM1 _ (hmM_y hT he ⟨fun c => absurd c c1, fun _ => ⟨fun _ => ?_, fun c => absurd rfl c⟩⟩)⟩
        rw [if_pos rfl]
        exact hn
theorem x_01 {x : Int32} (c : ¬ C_in_e x.toInt64 (0 : Int64) (1 : Int64) = 0) : x = 0 ∨ x = 1 := by
  obtain ⟨t, -, ht, rfl⟩ := in_ix (a := 0) (b := 1) (by decide) (by decide) c
  have : t = 0 ∨ t = 1 := by omega
  rcases this with rfl | rfl
  · exact Or.inl rfl
  · exact Or.inr rfl
theorem sok_guards : SOK_guards Inv := by
  intro kept locks seenMany bumpMinute bumpBlock bumpTrains waited keptOut used taped fault costSum safeSum allWays torn n_blocks n_guarded n_trains n_omen n_train t_blocks t_guarded t_trains t_omen t_train i0_blocks i0_guarded i0_trains i0_omen i0_train i1_blocks i1_guarded i1_trains i1_omen i1_train lockA seenA whr homes isSeen leftA were tape would m_blocks m_trainMany m_lockMany m_readBlocks m_readTrains m_readLockMany m_blocksTold m_omensTold m_highBlock m_taped m_fault m_broken m_brokenAt m_spot m_here m_token m_value m_bumpAt m_bumpIn m_bumpOf m_waited m_keptOut m_visited m_seenMany m_drawn m_torn m_state m_locks m_waits m_readPage m_readLocks m_tape m_cuts m_letters m_place m_left m_hasSeen m_homeAt m_places m_seen m_wouldBe m_isKept m_lanes m_lengths m_cells sh x1 hI
  obtain ⟨hB, hT, hL, htp, hft, hsm, htr, hw, hcu, hle, hlk, bok, pok, lok, aok, im0, im1, kok, tok, sok, hsh⟩ := hI
  subst hB hT hL htp hft hsm htr
  obtain ⟨B, hB2, hB8, rfl⟩ := ex_n (l := 2) (h := 8) bok.1 bok.2.1
  obtain ⟨T, hT0, hT4, rfl⟩ := ex_n (l := 0) (h := 4) bok.2.2.1 bok.2.2.2.1
  subst hw
  unfold C_guards M_guards
  rw [Min_C, show C_isPart_e x1 = C_in_e x1.toInt64 (0 : Int64) (1 : Int64) from rfl]
  refine ⟨fun c => ⟨fun _ => ⟨rfl, ⟨rfl, rfl, rfl, rfl, rfl, rfl, rfl, rfl, hcu, hle, hlk, bok, pok, lok, aok, im0, im1, kok, tok, sok, hsh⟩⟩, fun c2 => absurd c c2⟩, fun c => ?_⟩
  obtain ⟨bm, bb, bt, wa, ko, us, uB, uG, uT, uO, uR, wh, ho, iS, lf, we, z2, z3, ba2, bi2, bo2, wb2, kb2, vi2, st2, pl2, le2, hz2, hm2, ps2, hC, hM, hst2⟩ := gua_L hT4 hB2 hB8 pok bok (2 ^ B) 0 (Nat.zero_add _) bumpMinute bumpBlock bumpTrains waited keptOut used t_blocks t_guarded t_trains t_omen t_train whr homes isSeen leftA were 1000000 (-4) m_bumpAt m_bumpIn m_bumpOf m_waited m_keptOut m_visited m_state m_place m_left m_hasSeen m_homeAt m_places (fun _ _ => rfl)
  have hse : ∀ i : Nat, upd st2 (8 : Int32).toNatClampNeg (m_state (8 : Int32).toNatClampNeg) i = m_state i := by
    intro i
    by_cases e : i = 8
    · rw [e]
      exact upd_eq _ _ _
    · exact (upd_ne _ _ e).trans (hst2 i e)
  have pok2 := pg_st (p := 0) (fun i _ _ => hse i) pok
  have im02 := im_st (fun i _ _ => hse i) im0
  have im12 := im_st (fun i _ _ => hse i) im1
  refine hC _ ⟨fun c2 => absurd c2 c, fun _ => hM _ ⟨?_, ⟨rfl, rfl, rfl, rfl, rfl, rfl, rfl, rfl, hcu, hle, hlk, bok, pok2, lok, aok, im02, im12, kok, tok, sok, hsh⟩⟩⟩
  by_cases h : z3 = -4
  · rw [if_pos h, if_pos h, h]
  · rw [if_neg h, if_neg h]
    rcases x_01 c with rfl | rfl
    · rw [if_pos rfl, if_neg (by decide)]
    · rw [if_neg (by decide), if_pos rfl]
