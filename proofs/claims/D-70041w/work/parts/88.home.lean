set_option maxRecDepth 100000
theorem ex_n {l h : Nat} {x : Int32} (h1 : (l : Int) ≤ x.toInt) (h2 : x.toInt ≤ (h : Int)) : ∃ B : Nat, l ≤ B ∧ B ≤ h ∧ x = nI B := ⟨x.toInt.toNat, by omega, by omega, of_nn (by omega)⟩
theorem tr_ix {x : Int32} {T : Nat} (hT : T ≤ 4) (c : ¬ C_isTrain_e (nI T) x = 0) : ∃ t : Nat, t < T ∧ x = nI t := by
  have e := nI_toInt (n := T) (by omega)
  have h := tr_in (by omega) (by omega) c
  exact ⟨x.toInt.toNat, by omega, of_nn (by omega)⟩
theorem in_ix {x : Int32} {l h : Int64} {a b : Nat} (hl : l.toInt = a) (hh : h.toInt = b) (c : ¬ C_in_e x.toInt64 l h = 0) : ∃ t : Nat, a ≤ t ∧ t ≤ b ∧ x = nI t := by
  have h := in32c c
  exact ⟨x.toInt.toNat, by omega, by omega, of_nn (by omega)⟩
theorem sok_home : SOK_home Inv := by
  intro kept locks seenMany bumpMinute bumpBlock bumpTrains waited keptOut used taped fault costSum safeSum allWays torn n_blocks n_guarded n_trains n_omen n_train t_blocks t_guarded t_trains t_omen t_train i0_blocks i0_guarded i0_trains i0_omen i0_train i1_blocks i1_guarded i1_trains i1_omen i1_train lockA seenA whr homes isSeen leftA were tape would m_blocks m_trainMany m_lockMany m_readBlocks m_readTrains m_readLockMany m_blocksTold m_omensTold m_highBlock m_taped m_fault m_broken m_brokenAt m_spot m_here m_token m_value m_bumpAt m_bumpIn m_bumpOf m_waited m_keptOut m_visited m_seenMany m_drawn m_torn m_state m_locks m_waits m_readPage m_readLocks m_tape m_cuts m_letters m_place m_left m_hasSeen m_homeAt m_places m_seen m_wouldBe m_isKept m_lanes m_lengths m_cells sh x1 hI
  obtain ⟨hB, hT, hL, htp, hft, hsm, htr, hw, hcu, hle, hlk, bok, pok, lok, aok, im0, im1, kok, tok, sok, hsh⟩ := hI
  subst hB hT hL htp hft hsm htr
  obtain ⟨B, hB2, hB8, rfl⟩ := ex_n (l := 2) (h := 8) bok.1 bok.2.1
  obtain ⟨T, hT0, hT4, rfl⟩ := ex_n (l := 0) (h := 4) bok.2.2.1 bok.2.2.2.1
  subst hw
  obtain ⟨bm, bb, bt, wa, ko, us, wh, ho, iS, lf, we, bi, bo, pl, le, hs2, hm, ps, hC, hM, hN⟩ := run_y hT4 hB2 hB8 pok bok bumpMinute bumpBlock bumpTrains waited keptOut used m_bumpAt m_bumpIn m_bumpOf m_waited m_keptOut m_visited whr homes isSeen leftA were m_place m_left m_hasSeen m_homeAt m_places
  unfold C_home M_home
  rw [show M_isTrain_e (nI T) x1 = C_isTrain_e (nI T) x1 from rfl]
  refine ⟨fun c => ⟨fun _ => ⟨rfl, ⟨rfl, rfl, rfl, rfl, rfl, rfl, rfl, rfl, hcu, hle, hlk, bok, pok, lok, aok, im0, im1, kok, tok, sok, hsh⟩⟩, fun c2 => absurd c c2⟩, fun c => ?_⟩
  obtain ⟨t, ht, rfl⟩ := tr_ix hT4 c
  have hv : vp_in (nI t) 4 := vp_in_nI (by omega) (by omega)
  refine hC _ ⟨hv, fun c2 => absurd c2 c, fun _ => hM _ ⟨hv, ?_, ⟨rfl, rfl, rfl, rfl, rfl, rfl, rfl, rfl, hcu, hle, hlk, bok, pok, lok, aok, im0, im1, kok, tok, sok, hsh⟩⟩⟩
  rw [nI_clamp (by omega)]
  exact (hN.2.1 t (by omega)).1
theorem sok_at : SOK_at Inv := by
  intro kept locks seenMany bumpMinute bumpBlock bumpTrains waited keptOut used taped fault costSum safeSum allWays torn n_blocks n_guarded n_trains n_omen n_train t_blocks t_guarded t_trains t_omen t_train i0_blocks i0_guarded i0_trains i0_omen i0_train i1_blocks i1_guarded i1_trains i1_omen i1_train lockA seenA whr homes isSeen leftA were tape would m_blocks m_trainMany m_lockMany m_readBlocks m_readTrains m_readLockMany m_blocksTold m_omensTold m_highBlock m_taped m_fault m_broken m_brokenAt m_spot m_here m_token m_value m_bumpAt m_bumpIn m_bumpOf m_waited m_keptOut m_visited m_seenMany m_drawn m_torn m_state m_locks m_waits m_readPage m_readLocks m_tape m_cuts m_letters m_place m_left m_hasSeen m_homeAt m_places m_seen m_wouldBe m_isKept m_lanes m_lengths m_cells sh x1 x2 hI
  obtain ⟨hB, hT, hL, htp, hft, hsm, htr, hw, hcu, hle, hlk, bok, pok, lok, aok, im0, im1, kok, tok, sok, hsh⟩ := hI
  subst hB hT hL htp hft hsm htr
  obtain ⟨B, hB2, hB8, rfl⟩ := ex_n (l := 2) (h := 8) bok.1 bok.2.1
  obtain ⟨T, hT0, hT4, rfl⟩ := ex_n (l := 0) (h := 4) bok.2.2.1 bok.2.2.2.1
  subst hw
  obtain ⟨bm, bb, bt, wa, ko, us, wh, ho, iS, lf, we, bi, bo, pl, le, hs2, hm, ps, hC, hM, hN⟩ := run_y hT4 hB2 hB8 pok bok bumpMinute bumpBlock bumpTrains waited keptOut used m_bumpAt m_bumpIn m_bumpOf m_waited m_keptOut m_visited whr homes isSeen leftA were m_place m_left m_hasSeen m_homeAt m_places
  unfold C_at M_at
  rw [show M_isTrain_e (nI T) x1 = C_isTrain_e (nI T) x1 from rfl, show M_in_e x2.toInt64 (0 : Int64) (119 : Int64) = C_isMinute_e x2 from rfl]
  refine ⟨fun c => ⟨fun _ => ⟨rfl, ⟨rfl, rfl, rfl, rfl, rfl, rfl, rfl, rfl, hcu, hle, hlk, bok, pok, lok, aok, im0, im1, kok, tok, sok, hsh⟩⟩, fun c2 => absurd c c2⟩, fun c => ⟨fun c2 => ⟨fun c3 => absurd c3 c, fun _ => ⟨fun _ => ⟨rfl, ⟨rfl, rfl, rfl, rfl, rfl, rfl, rfl, rfl, hcu, hle, hlk, bok, pok, lok, aok, im0, im1, kok, tok, sok, hsh⟩⟩, fun c3 => absurd c2 c3⟩⟩, fun c2 => ?_⟩⟩
  obtain ⟨t, ht, rfl⟩ := tr_ix hT4 c
  obtain ⟨i, -, hi, rfl⟩ := in_ix (a := 0) (b := 119) (by decide) (by decide) c2
  have e4 : (4 : Int32) * nI i = nI (4 * i) := pk_mul 4 i
  have hv : vp_in (((4 : Int32) * nI i) + nI t) 480 := by rw [e4]; exact ad_v (by omega) (by omega)
  refine hC _ ⟨hv, fun c3 => absurd c3 c, fun _ => ⟨fun c3 => absurd c3 c2, fun _ => hM _ ⟨hv, ?_, ⟨rfl, rfl, rfl, rfl, rfl, rfl, rfl, rfl, hcu, hle, hlk, bok, pok, lok, aok, im0, im1, kok, tok, sok, hsh⟩⟩⟩⟩
  rw [e4, ad_c (by omega)]
  exact (hN.2.2 i (by omega) t ht).1
theorem sok_bump : SOK_bump Inv := by
  intro kept locks seenMany bumpMinute bumpBlock bumpTrains waited keptOut used taped fault costSum safeSum allWays torn n_blocks n_guarded n_trains n_omen n_train t_blocks t_guarded t_trains t_omen t_train i0_blocks i0_guarded i0_trains i0_omen i0_train i1_blocks i1_guarded i1_trains i1_omen i1_train lockA seenA whr homes isSeen leftA were tape would m_blocks m_trainMany m_lockMany m_readBlocks m_readTrains m_readLockMany m_blocksTold m_omensTold m_highBlock m_taped m_fault m_broken m_brokenAt m_spot m_here m_token m_value m_bumpAt m_bumpIn m_bumpOf m_waited m_keptOut m_visited m_seenMany m_drawn m_torn m_state m_locks m_waits m_readPage m_readLocks m_tape m_cuts m_letters m_place m_left m_hasSeen m_homeAt m_places m_seen m_wouldBe m_isKept m_lanes m_lengths m_cells sh x1 hI
  obtain ⟨hB, hT, hL, htp, hft, hsm, htr, hw, hcu, hle, hlk, bok, pok, lok, aok, im0, im1, kok, tok, sok, hsh⟩ := hI
  subst hB hT hL htp hft hsm htr
  obtain ⟨B, hB2, hB8, rfl⟩ := ex_n (l := 2) (h := 8) bok.1 bok.2.1
  obtain ⟨T, hT0, hT4, rfl⟩ := ex_n (l := 0) (h := 4) bok.2.2.1 bok.2.2.2.1
  subst hw
  obtain ⟨bm, bb, bt, wa, ko, us, wh, ho, iS, lf, we, bi, bo, pl, le, hs2, hm, ps, hC, hM, hN⟩ := run_y hT4 hB2 hB8 pok bok bumpMinute bumpBlock bumpTrains waited keptOut used m_bumpAt m_bumpIn m_bumpOf m_waited m_keptOut m_visited whr homes isSeen leftA were m_place m_left m_hasSeen m_homeAt m_places
  unfold C_bump M_bump
  rw [Min_C]
  refine ⟨fun c => ⟨fun _ => ⟨rfl, ⟨rfl, rfl, rfl, rfl, rfl, rfl, rfl, rfl, hcu, hle, hlk, bok, pok, lok, aok, im0, im1, kok, tok, sok, hsh⟩⟩, fun c2 => absurd c c2⟩, fun c => ?_⟩
  refine hC _ ⟨fun c2 => absurd c2 c, fun _ => hM _ ⟨?_, ⟨rfl, rfl, rfl, rfl, rfl, rfl, rfl, rfl, hcu, hle, hlk, bok, pok, lok, aok, im0, im1, kok, tok, sok, hsh⟩⟩⟩
  by_cases h1 : bm = -4
  · obtain ⟨h2, h3⟩ := hN.1.2.1 h1
    rw [if_pos h1, h1, h2, h3]
    by_cases h4 : x1 = 0
    · rw [if_pos h4]
    · rw [if_neg h4, ite_self]
  · obtain ⟨h2, h3⟩ := hN.1.1 h1
    rw [if_neg h1, h2, h3]
def csF (ho tr : Nat → Int32) : Nat → Int32
  | 0 => 0
  | j + 1 => csF ho tr j + (if ho j = -4 then (120 : Int32) else ho j) * tr (4 * j + 3)
def hmF (ho : Nat → Int32) : Nat → Int32
  | 0 => 0
  | j + 1 => hmF ho j + (if ho j = -4 then (0 : Int32) else (1 : Int32))
theorem csC_L {T : Nat} (hT : T ≤ 4) {ho tr : Nat → Int32} {k : Int32 → Prop} (hk : k (csF ho tr T)) : ∀ n j : Nat, j + n = T → C_cost_L4 ho (nI T) tr k (n + 1) (csF ho tr j) (nI j) := by
  intro n
  induction n with
  | zero =>
    intro j hj
    obtain rfl : j = T := by omega
    exact ⟨fun _ => hk, fun c => absurd (nI_le (Nat.le_refl _) (by omega)) c⟩
  | succ n ih =>
    intro j hj
    have h := ih (j + 1) (by omega)
    rw [nI_succ] at h
    have hv : vp_in (nI j) 4 := vp_in_nI (by omega) (by omega)
    refine ⟨fun c => absurd c (nI_ge (by omega) (by omega)), fun _ => ⟨hv, fun _ => hv, of_v (w := 3) (by omega) (by omega), ?_⟩⟩
    have e : B_of_e tr (nI j) (3 : Int32) = tr (4 * j + 3) := of_e (w := 3) (by omega) (by omega) tr
    rw [e, nI_clamp (by omega)]
    exact h
theorem csC_y {T : Nat} (hT : T ≤ 4) {ho tr : Nat → Int32} {Q : Int32 → Prop} (hQ : Q (csF ho tr T)) : C_cost ho (nI T) tr Q := ⟨_, csC_L hT (k := fun r => Q r) hQ T 0 (Nat.zero_add _)⟩
theorem csM_L {T : Nat} (hT : T ≤ 4) {ho hm tr st om : Nat → Int32} {G : Int32} (hp : pgOK st 0 G om tr) (he : ∀ t : Nat, t < 4 → ho t = hm t) {k : Int32 → Prop} (hk : k (csF ho tr T)) : ∀ n j : Nat, j + n = T → M_cost_L4 (nI T) st hm k (n + 1) (csF ho tr j) (nI j) := by
  intro n
  induction n with
  | zero =>
    intro j hj
    obtain rfl : j = T := by omega
    exact ⟨fun _ => hk, fun c => absurd (nI_le (Nat.le_refl _) (by omega)) c⟩
  | succ n ih =>
    intro j hj
    have h := ih (j + 1) (by omega)
    rw [nI_succ] at h
    have hv : vp_in (nI j) 4 := vp_in_nI (by omega) (by omega)
    refine ⟨fun c => absurd c (nI_ge (by omega) (by omega)), fun _ => ⟨hv, fun _ => hv, ad_v (a := 21) (by omega) (by omega), ?_⟩⟩
    have e : ((21 : Int32) + nI j).toNatClampNeg = 21 + j := ad_c (a := 21) (by omega)
    rw [e, (pg_f hp (by omega)).2.2.2, nI_clamp (by omega), ← he j (by omega)]
    exact h
theorem csM_y {T : Nat} (hT : T ≤ 4) {ho hm tr st om : Nat → Int32} {G : Int32} (hp : pgOK st 0 G om tr) (he : ∀ t : Nat, t < 4 → ho t = hm t) {Q : Int32 → Prop} (hQ : Q (csF ho tr T)) : M_cost (nI T) st hm Q := ⟨_, csM_L hT hp he (k := fun r => Q r) hQ T 0 (Nat.zero_add _)⟩
theorem hmC_L {T : Nat} (hT : T ≤ 4) {ho : Nat → Int32} {k : Int32 → Prop} (hk : k (hmF ho T)) : ∀ n j : Nat, j + n = T → C_homed_L4 ho (nI T) k (n + 1) (hmF ho j) (nI j) := by
  intro n
  induction n with
  | zero =>
    intro j hj
    obtain rfl : j = T := by omega
    exact ⟨fun _ => hk, fun c => absurd (nI_le (Nat.le_refl _) (by omega)) c⟩
  | succ n ih =>
    intro j hj
    have h := ih (j + 1) (by omega)
    rw [nI_succ] at h
    refine ⟨fun c => absurd c (nI_ge (by omega) (by omega)), fun _ => ⟨vp_in_nI (by omega) (by omega), ?_⟩⟩
    rw [nI_clamp (by omega)]
    exact h
theorem hmC_y {T : Nat} (hT : T ≤ 4) {ho : Nat → Int32} {Q : Int32 → Prop} (hQ : Q (hmF ho T)) : C_homed ho (nI T) Q := ⟨_, hmC_L hT (k := fun r => Q r) hQ T 0 (Nat.zero_add _)⟩
theorem hmM_L {T : Nat} (hT : T ≤ 4) {ho hm : Nat → Int32} (he : ∀ t : Nat, t < 4 → ho t = hm t) {k : Int32 → Prop} (hk : k (hmF ho T)) : ∀ n j : Nat, j + n = T → M_homeMany_L4 (nI T) hm k (n + 1) (hmF ho j) (nI j) := by
  intro n
  induction n with
  | zero =>
    intro j hj
    obtain rfl : j = T := by omega
    exact ⟨fun _ => hk, fun c => absurd (nI_le (Nat.le_refl _) (by omega)) c⟩
  | succ n ih =>
    intro j hj
    have h := ih (j + 1) (by omega)
    rw [nI_succ] at h
    refine ⟨fun c => absurd c (nI_ge (by omega) (by omega)), fun _ => ⟨vp_in_nI (by omega) (by omega), ?_⟩⟩
    rw [nI_clamp (by omega), ← he j (by omega)]
    exact h
theorem hmM_y {T : Nat} (hT : T ≤ 4) {ho hm : Nat → Int32} (he : ∀ t : Nat, t < 4 → ho t = hm t) {Q : Int32 → Prop} (hQ : Q (hmF ho T)) : M_homeMany (nI T) hm Q := ⟨_, hmM_L hT he (k := fun r => Q r) hQ T 0 (Nat.zero_add _)⟩
theorem sok_sum : SOK_sum Inv := by
  intro kept locks seenMany bumpMinute bumpBlock bumpTrains waited keptOut used taped fault costSum safeSum allWays torn n_blocks n_guarded n_trains n_omen n_train t_blocks t_guarded t_trains t_omen t_train i0_blocks i0_guarded i0_trains i0_omen i0_train i1_blocks i1_guarded i1_trains i1_omen i1_train lockA seenA whr homes isSeen leftA were tape would m_blocks m_trainMany m_lockMany m_readBlocks m_readTrains m_readLockMany m_blocksTold m_omensTold m_highBlock m_taped m_fault m_broken m_brokenAt m_spot m_here m_token m_value m_bumpAt m_bumpIn m_bumpOf m_waited m_keptOut m_visited m_seenMany m_drawn m_torn m_state m_locks m_waits m_readPage m_readLocks m_tape m_cuts m_letters m_place m_left m_hasSeen m_homeAt m_places m_seen m_wouldBe m_isKept m_lanes m_lengths m_cells sh x1 hI
  obtain ⟨hB, hT, hL, htp, hft, hsm, htr, hw, hcu, hle, hlk, bok, pok, lok, aok, im0, im1, kok, tok, sok, hsh⟩ := hI
  subst hB hT hL htp hft hsm htr
  obtain ⟨B, hB2, hB8, rfl⟩ := ex_n (l := 2) (h := 8) bok.1 bok.2.1
  obtain ⟨T, hT0, hT4, rfl⟩ := ex_n (l := 0) (h := 4) bok.2.2.1 bok.2.2.2.1
  subst hw
  obtain ⟨bm, bb, bt, wa, ko, us, wh, ho, iS, lf, we, bi, bo, pl, le, hs2, hm, ps, hC, hM, hN⟩ := run_y hT4 hB2 hB8 pok bok bumpMinute bumpBlock bumpTrains waited keptOut used m_bumpAt m_bumpIn m_bumpOf m_waited m_keptOut m_visited whr homes isSeen leftA were m_place m_left m_hasSeen m_homeAt m_places
  have he : ∀ t : Nat, t < 4 → ho t = hm t := fun t ht => (hN.2.1 t ht).1
  unfold C_sum M_sum
  rw [Min_C]
  refine ⟨fun c => ⟨fun _ => ⟨rfl, ⟨rfl, rfl, rfl, rfl, rfl, rfl, rfl, rfl, hcu, hle, hlk, bok, pok, lok, aok, im0, im1, kok, tok, sok, hsh⟩⟩, fun c2 => absurd c c2⟩, fun c => ?_⟩
  have hx := in32c c
  refine hC _ ⟨fun h0 => ?_, fun h0 => ⟨fun h1 => ?_, fun h1 => ?_⟩⟩
  · subst h0
    exact csC_y hT4 ⟨fun c2 => absurd c2 c, fun _ => hM _ ⟨fun _ => csM_y hT4 pok he ⟨rfl, ⟨rfl, rfl, rfl, rfl, rfl, rfl, rfl, rfl, hcu, hle, hlk, bok, pok, lok, aok, im0, im1, kok, tok, sok, hsh⟩⟩, fun h => absurd h (by decide), fun h => absurd h (by decide), fun h => absurd h (by decide), fun h => absurd h (by decide)⟩⟩
  · subst h1
    exact hmC_y hT4 ⟨fun c2 => absurd c2 c, fun _ => hM _ ⟨fun h => absurd h (by decide), fun _ => hmM_y hT4 he ⟨rfl, ⟨rfl, rfl, rfl, rfl, rfl, rfl, rfl, rfl, hcu, hle, hlk, bok, pok, lok, aok, im0, im1, kok, tok, sok, hsh⟩⟩, fun h => absurd h (by decide), fun h => absurd h (by decide), fun h => absurd h (by decide)⟩⟩
  · refine ⟨fun c2 => absurd c2 c, fun _ => hM _ ⟨fun h => absurd h h0, fun h => absurd h h1, fun h => ⟨?_, ⟨rfl, rfl, rfl, rfl, rfl, rfl, rfl, rfl, hcu, hle, hlk, bok, pok, lok, aok, im0, im1, kok, tok, sok, hsh⟩⟩, fun h => ⟨?_, ⟨rfl, rfl, rfl, rfl, rfl, rfl, rfl, rfl, hcu, hle, hlk, bok, pok, lok, aok, im0, im1, kok, tok, sok, hsh⟩⟩, fun h => ⟨?_, ⟨rfl, rfl, rfl, rfl, rfl, rfl, rfl, rfl, hcu, hle, hlk, bok, pok, lok, aok, im0, im1, kok, tok, sok, hsh⟩⟩⟩⟩
    · rw [if_pos h]
    · rw [h, if_neg (by decide), if_pos rfl]
    · rw [if_neg (fun e => by rw [e] at h; revert h; decide), if_neg (fun e => by rw [e] at h; revert h; decide)]
