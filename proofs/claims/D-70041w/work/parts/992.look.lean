set_option maxRecDepth 100000
theorem sok_fits : SOK_fits Inv := by
  intro kept locks seenMany bumpMinute bumpBlock bumpTrains waited keptOut used taped fault costSum safeSum allWays torn n_blocks n_guarded n_trains n_omen n_train t_blocks t_guarded t_trains t_omen t_train i0_blocks i0_guarded i0_trains i0_omen i0_train i1_blocks i1_guarded i1_trains i1_omen i1_train lockA seenA whr homes isSeen leftA were tape would m_blocks m_trainMany m_lockMany m_readBlocks m_readTrains m_readLockMany m_blocksTold m_omensTold m_highBlock m_taped m_fault m_broken m_brokenAt m_spot m_here m_token m_value m_bumpAt m_bumpIn m_bumpOf m_waited m_keptOut m_visited m_seenMany m_drawn m_torn m_state m_locks m_waits m_readPage m_readLocks m_tape m_cuts m_letters m_place m_left m_hasSeen m_homeAt m_places m_seen m_wouldBe m_isKept m_lanes m_lengths m_cells sh x1 hI
  obtain ⟨hB, hT, hL, htp, hft, hsm, htr, hw, hcu, hle, hlk, bok, pok, lok, aok, im0, im1, kok, tok, sok, hsh⟩ := hI
  subst hB hT hL htp hft hsm htr
  obtain ⟨B, hB2, hB8, rfl⟩ := ex_n (l := 2) (h := 8) bok.1 bok.2.1
  obtain ⟨T, hT0, hT4, rfl⟩ := ex_n (l := 0) (h := 4) bok.2.2.1 bok.2.2.2.1
  subst hw
  obtain ⟨S, hS0, hS6, rfl⟩ := ex_n (l := 0) (h := 6) sok.1 sok.2.1
  unfold C_fits M_fits
  rw [show M_isTrain_e (nI T) x1 = C_isTrain_e (nI T) x1 from rfl]
  refine ⟨fun c => ⟨fun _ => ⟨rfl, ⟨rfl, rfl, rfl, rfl, rfl, rfl, rfl, rfl, hcu, hle, hlk, bok, pok, lok, aok, im0, im1, kok, tok, sok, hsh⟩⟩, fun c2 => absurd c c2⟩, fun c => ?_⟩
  obtain ⟨t, ht, rfl⟩ := tr_ix hT4 c
  obtain ⟨q, bm, bb, bt, wa, ko, us, uB, uG, uT, uO, uR, wh, ho, iS, lf, we, wd2, ba2, bi2, bo2, wb2, kb2, vi2, st2, pl2, le2, hz2, hm2, ps2, wo2, hq, hC, hM, hst2, hW2⟩ := fit_y hT4 hB2 hB8 ht hS6 bumpMinute bumpBlock bumpTrains waited keptOut used t_blocks t_guarded t_trains t_omen t_train whr homes isSeen leftA were would m_bumpAt m_bumpIn m_bumpOf m_waited m_keptOut m_visited m_state m_place m_left m_hasSeen m_homeAt m_places m_wouldBe pok bok sok
  have pok2 := pg_st (p := 0) (fun i _ _ => hst2 i) pok
  have im02 := im_st (fun i _ _ => hst2 i) im0
  have im12 := im_st (fun i _ _ => hst2 i) im1
  exact hC _ ⟨fun c2 => absurd c2 c, fun _ => hM _ ⟨rfl, ⟨rfl, rfl, rfl, rfl, rfl, rfl, rfl, rfl, hcu, hle, hlk, bok, pok2, lok, aok, im02, im12, kok, tok, sok, hsh⟩⟩⟩
/-! a minute's worst -/
def cnF (X : Int32) (wd : Nat → Int32) (m a : Nat) : Nat → Int32
  | 0 => 0
  | b + 1 => cnF X wd m a b + (if bz X (nI a) = 0 then (0 : Int32) else (if bz X (nI b) = 0 then (0 : Int32) else (if wd (4 * m + a) = wd (4 * m + b) then (1 : Int32) else (0 : Int32))))
theorem cn_0 {X : Int32} {wd : Nat → Int32} {m a : Nat} (h : bz X (nI a) = 0) : ∀ b : Nat, cnF X wd m a b = 0 := by
  intro b
  induction b with
  | zero => rfl
  | succ b ih =>
    unfold cnF
    rw [if_pos h, ih]
    rfl
def wsF (X : Int32) (wd : Nat → Int32) (m : Nat) : Nat → Int32
  | 0 => 0
  | a + 1 => if wsF X wd m a < cnF X wd m a 4 then cnF X wd m a 4 else wsF X wd m a
theorem cnC_L {m a : Nat} (hm : m < 120) (ha : a < 4) {X : Int32} {wd : Nat → Int32} {k : Int32 → Prop} (hk : k (cnF X wd m a 4)) : ∀ n j : Nat, j + n = 4 → C_worstBehind_L17 wd X (nI m) (nI a) k (n + 1) (cnF X wd m a j) (nI j) := by
  intro n
  induction n with
  | zero =>
    intro j hj
    obtain rfl : j = 4 := by omega
    exact ⟨fun _ => hk, fun c => absurd (show (4 : Int32) ≤ nI 4 by decide) c⟩
  | succ n ih =>
    intro j hj
    have h := ih (j + 1) (by omega)
    rw [nI_succ] at h
    have e4 : (4 : Int32) * nI m = nI (4 * m) := pk_mul 4 m
    refine ⟨fun c => absurd c (nI_ge (b := 4) (by omega) (by omega)), fun _ => ?_⟩
    rw [e4, ad_c (by omega), ad_c (by omega), has_bz, has_bz]
    exact ⟨fun _ _ => ad_v (by omega) (by omega), fun _ _ => ad_v (by omega) (by omega), h⟩
theorem wsC_L {m : Nat} (hm : m < 120) {X : Int32} {wd : Nat → Int32} {k : Int32 → Prop} (hk : k (wsF X wd m 4)) : ∀ n j : Nat, j + n = 4 → C_worstBehind_L5 wd X (nI m) k (n + 1) (wsF X wd m j) (nI j) := by
  intro n
  induction n with
  | zero =>
    intro j hj
    obtain rfl : j = 4 := by omega
    exact ⟨fun _ => hk, fun c => absurd (show (4 : Int32) ≤ nI 4 by decide) c⟩
  | succ n ih =>
    intro j hj
    have h := ih (j + 1) (by omega)
    rw [nI_succ] at h
    exact ⟨fun c => absurd c (nI_ge (b := 4) (by omega) (by omega)), fun _ => ⟨_, cnC_L hm (by omega) h 4 0 rfl⟩⟩
theorem bz_if {X : Int32} {i : Nat} {α : Type} (x y : α) : (if (X >>> (nI i &&& 31)) &&& (1 : Int32) = (1 : Int32) then x else y) = (if bz X (nI i) = 0 then y else x) := by
  show (if bz X (nI i) = (1 : Int32) then x else y) = _
  rcases bz_01 X (nI i) with c | c
  · rw [c, if_neg (by decide), if_pos rfl]
  · rw [c, if_pos rfl, if_neg (by decide)]
theorem cnM_L {m a : Nat} (hm : m < 120) (ha : a < 4) {X : Int32} {wd wo : Nat → Int32} (hW : WB 4 wd wo) (hz : ¬ bz X (nI a) = 0) {k : Int32 → Prop} (hk : k (cnF X wd m a 4)) : ∀ n j : Nat, j + n = 4 → M_look_L64 wo X (nI m) (nI a) k (n + 1) (cnF X wd m a j) (nI j) := by
  have h1 : (X >>> (nI a &&& 31)) &&& (1 : Int32) = (1 : Int32) := (bz_01 X (nI a)).resolve_left hz
  intro n
  induction n with
  | zero =>
    intro j hj
    obtain rfl : j = 4 := by omega
    exact ⟨fun _ => hk, fun c => absurd (show (4 : Int32) ≤ nI 4 by decide) c⟩
  | succ n ih =>
    intro j hj
    have h := ih (j + 1) (by omega)
    rw [nI_succ] at h
    have e4 : (4 : Int32) * nI m = nI (4 * m) := pk_mul 4 m
    refine ⟨fun c => absurd c (nI_ge (b := 4) (by omega) (by omega)), fun _ => ⟨fun _ => ?_, fun c => absurd h1 c⟩⟩
    rw [e4, ad_c (by omega), ad_c (by omega), bz_if, ← hW m hm a ha, ← hW m hm j (by omega)]
    refine ⟨fun _ => ad_v (by omega) (by omega), fun _ => ad_v (by omega) (by omega), ?_⟩
    unfold cnF at h
    rw [if_neg hz] at h
    exact h
theorem wsM_L {m : Nat} (hm : m < 120) {X : Int32} {wd wo : Nat → Int32} (hW : WB 4 wd wo) {k : Int32 → Prop} (hk : k (wsF X wd m 4)) : ∀ n j : Nat, j + n = 4 → M_look_L52 wo X (nI m) k (n + 1) (wsF X wd m j) (nI j) := by
  intro n
  induction n with
  | zero =>
    intro j hj
    obtain rfl : j = 4 := by omega
    exact ⟨fun _ => hk, fun c => absurd (show (4 : Int32) ≤ nI 4 by decide) c⟩
  | succ n ih =>
    intro j hj
    have h := ih (j + 1) (by omega)
    rw [nI_succ] at h
    refine ⟨fun c => absurd c (nI_ge (b := 4) (by omega) (by omega)), fun _ => ?_⟩
    have h2 : M_look_J133 wo X (nI m) (wsF X wd m j) (nI j) (cnF X wd m j 4) (M_look_L52 wo X (nI m) k (n + 1)) k := by
      unfold M_look_J133
      unfold wsF at h
      by_cases c : wsF X wd m j < cnF X wd m j 4
      · rw [if_pos c] at h
        rw [if_neg (Int32.not_le.mpr c)]
        exact h
      · rw [if_neg c] at h
        rw [if_pos (Int32.not_lt.mp c)]
        exact h
    by_cases hz : bz X (nI j) = 0
    · rw [cn_0 hz] at h2
      exact ⟨1, fun _ => h2, fun _ => ⟨fun c => absurd (hz.symm.trans c) (by decide), fun _ => h2⟩⟩
    · exact ⟨_, cnM_L hm (by omega) hW hz h2 4 0 rfl⟩
theorem lk_L {X : Int32} {wd wo : Nat → Int32} (hW : WB 4 wd wo) : ∀ d m : Nat, m + d = 120 → ∀ x4 x5 : Int32, ∃ z4 z5 : Int32, (∀ k : Int32 → Int32 → Prop, k z4 z5 → ∃ n : Nat, C_look_L36 wd X k n x4 x5 (nI m)) ∧ (∀ k : Int32 → Int32 → Prop, k z4 z5 → ∃ n : Nat, M_look_L39 wo X k n x4 x5 (nI m)) := by
  intro d
  induction d with
  | zero =>
    intro m hm x4 x5
    obtain rfl : m = 120 := by omega
    exact ⟨x4, x5, fun k hk => ⟨1, fun _ => hk, fun c => absurd (show (120 : Int32) ≤ nI 120 by decide) c⟩, fun k hk => ⟨1, fun _ => hk, fun c => absurd (show (119 : Int32) < nI 120 by decide) c⟩⟩
  | succ d ih =>
    intro m hm x4 x5
    have hg : ¬ (120 : Int32) ≤ nI m := nI_ge (b := 120) (by omega) (by omega)
    have hg2 : ¬ (119 : Int32) < nI m := nI_nlt (a := 119) (by omega) (by omega)
    by_cases c : x4 ≤ wsF X wd m 4
    · obtain ⟨z4, z5, hC, hM⟩ := ih (m + 1) (by omega) x4 x5
      rw [nI_succ] at hC hM
      refine ⟨z4, z5, fun k hk => ?_, fun k hk => ?_⟩
      · obtain ⟨n, hn⟩ := hC k hk
        refine ⟨n + 1, fun c => absurd c hg, fun _ => ⟨_, wsC_L (show m < 120 by omega) ?_ 4 0 rfl⟩⟩
        show C_look_L36 wd X k n (if wsF X wd m 4 < x4 then wsF X wd m 4 else x4) (if x4 ≤ wsF X wd m 4 then x5 else nI m) (nI m + 1)
        rw [if_neg (Int32.not_lt.mpr c), if_pos c]
        exact hn
      · obtain ⟨n, hn⟩ := hM k hk
        refine ⟨n + 1, fun c => absurd c hg2, fun _ => ⟨_, wsM_L (show m < 120 by omega) hW ?_ 4 0 rfl⟩⟩
        rw [if_pos c, if_pos c]
        exact hn
    · obtain ⟨z4, z5, hC, hM⟩ := ih (m + 1) (by omega) (wsF X wd m 4) (nI m)
      rw [nI_succ] at hC hM
      refine ⟨z4, z5, fun k hk => ?_, fun k hk => ?_⟩
      · obtain ⟨n, hn⟩ := hC k hk
        refine ⟨n + 1, fun c => absurd c hg, fun _ => ⟨_, wsC_L (show m < 120 by omega) ?_ 4 0 rfl⟩⟩
        show C_look_L36 wd X k n (if wsF X wd m 4 < x4 then wsF X wd m 4 else x4) (if x4 ≤ wsF X wd m 4 then x5 else nI m) (nI m + 1)
        rw [if_pos (Int32.not_le.mp c), if_neg c]
        exact hn
      · obtain ⟨n, hn⟩ := hM k hk
        refine ⟨n + 1, fun c => absurd c hg2, fun _ => ⟨_, wsM_L (show m < 120 by omega) hW ?_ 4 0 rfl⟩⟩
        rw [if_neg c, if_neg c]
        exact hn
theorem sok_look : SOK_look Inv := by
  intro kept locks seenMany bumpMinute bumpBlock bumpTrains waited keptOut used taped fault costSum safeSum allWays torn n_blocks n_guarded n_trains n_omen n_train t_blocks t_guarded t_trains t_omen t_train i0_blocks i0_guarded i0_trains i0_omen i0_train i1_blocks i1_guarded i1_trains i1_omen i1_train lockA seenA whr homes isSeen leftA were tape would m_blocks m_trainMany m_lockMany m_readBlocks m_readTrains m_readLockMany m_blocksTold m_omensTold m_highBlock m_taped m_fault m_broken m_brokenAt m_spot m_here m_token m_value m_bumpAt m_bumpIn m_bumpOf m_waited m_keptOut m_visited m_seenMany m_drawn m_torn m_state m_locks m_waits m_readPage m_readLocks m_tape m_cuts m_letters m_place m_left m_hasSeen m_homeAt m_places m_seen m_wouldBe m_isKept m_lanes m_lengths m_cells sh x1 x2 hI
  obtain ⟨hB, hT, hL, htp, hft, hsm, htr, hw, hcu, hle, hlk, bok, pok, lok, aok, im0, im1, kok, tok, sok, hsh⟩ := hI
  subst hB hT hL htp hft hsm htr
  obtain ⟨B, hB2, hB8, rfl⟩ := ex_n (l := 2) (h := 8) bok.1 bok.2.1
  obtain ⟨T, hT0, hT4, rfl⟩ := ex_n (l := 0) (h := 4) bok.2.2.1 bok.2.2.2.1
  subst hw
  obtain ⟨S, hS0, hS6, rfl⟩ := ex_n (l := 0) (h := 6) sok.1 sok.2.1
  unfold C_look M_look
  rw [show M_isTrain_e (nI T) x1 = C_isTrain_e (nI T) x1 from rfl, Min_C, show C_isPart_e x2 = C_in_e x2.toInt64 (0 : Int64) (1 : Int64) from rfl]
  refine ⟨fun c => ⟨fun _ => ⟨rfl, ⟨rfl, rfl, rfl, rfl, rfl, rfl, rfl, rfl, hcu, hle, hlk, bok, pok, lok, aok, im0, im1, kok, tok, sok, hsh⟩⟩, fun c2 => absurd c c2⟩, fun c => ⟨fun c2 => ⟨fun c3 => absurd c3 c, fun _ => ⟨fun _ => ⟨rfl, ⟨rfl, rfl, rfl, rfl, rfl, rfl, rfl, rfl, hcu, hle, hlk, bok, pok, lok, aok, im0, im1, kok, tok, sok, hsh⟩⟩, fun c3 => absurd c2 c3⟩⟩, fun c2 => ?_⟩⟩
  obtain ⟨t, ht, rfl⟩ := tr_ix hT4 c
  obtain ⟨q, bm, bb, bt, wa, ko, us, uB, uG, uT, uO, uR, wh, ho, iS, lf, we, wd2, ba2, bi2, bo2, wb2, kb2, vi2, st2, pl2, le2, hz2, hm2, ps2, wo2, hq, hC, hM, hst2, hW2⟩ := fit_y hT4 hB2 hB8 ht hS6 bumpMinute bumpBlock bumpTrains waited keptOut used t_blocks t_guarded t_trains t_omen t_train whr homes isSeen leftA were would m_bumpAt m_bumpIn m_bumpOf m_waited m_keptOut m_visited m_state m_place m_left m_hasSeen m_homeAt m_places m_wouldBe pok bok sok
  have pok2 := pg_st (p := 0) (fun i _ _ => hst2 i) pok
  have im02 := im_st (fun i _ _ => hst2 i) im0
  have im12 := im_st (fun i _ _ => hst2 i) im1
  obtain ⟨z4, z5, hC3, hM3⟩ := lk_L (X := nI q) hW2 120 0 rfl (bsF (nI q) 8) (-4)
  refine hC _ (bc_y (by omega) (hC3 _ ⟨fun c3 => absurd c3 c, fun _ => ⟨fun c3 => absurd c3 c2, fun _ => hM _ (bits_y (hM3 _ ⟨?_, ⟨rfl, rfl, rfl, rfl, rfl, rfl, rfl, rfl, hcu, hle, hlk, bok, pok2, lok, aok, im02, im12, kok, tok, sok, hsh⟩⟩))⟩⟩))
  by_cases h : z5 = -4
  · rw [if_pos h, if_pos h, h]
  · rw [if_neg h, if_neg h]
