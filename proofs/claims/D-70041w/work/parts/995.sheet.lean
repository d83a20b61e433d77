set_option maxRecDepth 100000
def wtS (tr : Nat → Int32) : Nat → Int32
  | 0 => 0
  | j + 1 => wtS tr j + tr (4 * j + 3)
theorem wtC_L {T : Nat} (hT : T ≤ 4) {tr : Nat → Int32} {k : Int32 → Prop} (hk : k (wtS tr T)) : ∀ n j : Nat, j + n = T → C_count_L64 (nI T) tr k (n + 1) (wtS tr j) (nI j) := by
  intro n
  induction n with
  | zero =>
    intro j hj
    obtain rfl : j = T := by omega
    exact ⟨fun _ => hk, fun c => absurd (nI_le (Nat.le_refl _) (by omega)) c⟩
  | succ n ih =>
    intro j hj
    have h := ih (j + 1) (by omega)
    rw [nI_succ] at h
    refine ⟨fun c => absurd c (nI_ge (by omega) (by omega)), fun _ => ⟨of_v (w := 3) (by omega) (by omega), ?_⟩⟩
    have e : B_of_e tr (nI j) (3 : Int32) = tr (4 * j + 3) := of_e (w := 3) (by omega) (by omega) tr
    rw [e]
    exact h
theorem wtM_L {T : Nat} (hT : T ≤ 4) {tr st om : Nat → Int32} {G : Int32} (hp : pgOK st 0 G om tr) {k : Int32 → Prop} (hk : k (wtS tr T)) : ∀ n j : Nat, j + n = T → M_count_L4 (nI T) st k (n + 1) (wtS tr j) (nI j) := by
  intro n
  induction n with
  | zero =>
    intro j hj
    obtain rfl : j = T := by omega
    exact ⟨fun _ => hk, fun c => absurd (nI_le (Nat.le_refl _) (by omega)) c⟩
  | succ n ih =>
    intro j hj
    have h := ih (j + 1) (by omega)
    rw [nI_succ] at h
    refine ⟨fun c => absurd c (nI_ge (by omega) (by omega)), fun _ => ⟨ad_v (a := 21) (by omega) (by omega), ?_⟩⟩
    have e : ((21 : Int32) + nI j).toNatClampNeg = 21 + j := ad_c (a := 21) (by omega)
    rw [e, (pg_f hp (by omega)).2.2.2]
    exact h
theorem kp_n {k0 k1 kept : Int32} (h0 : zb k0) (h1 : zb k1) (h : kept = k0 + 2 * k1) : ∃ q : Nat, q < 256 ∧ kept = nI q ∧ bsF (nI q) 8 = (if k0 = 0 then (0 : Int32) else (1 : Int32)) + (if k1 = 0 then (0 : Int32) else (1 : Int32)) := by
  subst h
  rcases h0 with rfl | rfl <;> rcases h1 with rfl | rfl
  · exact ⟨0, by decide, by decide, by decide⟩
  · exact ⟨2, by decide, by decide, by decide⟩
  · exact ⟨1, by decide, by decide, by decide⟩
  · exact ⟨3, by decide, by decide, by decide⟩
theorem lnN_n {t : Nat} : lnN t ≠ -4 := by
  unfold lnN
  by_cases h : t = 2
  · rw [if_pos h]; decide
  · rw [if_neg h]
    by_cases h2 : t = 3
    · rw [if_pos h2]; decide
    · rw [if_neg h2]; decide
theorem cnt_eq {sh : Sh} {ln le ce : Nat → Int32} (h : shOK sh ln le ce) : cntSize sh = (if ln 0 = (-4 : Int32) then (-4 : Int32) else le 0) := by
  have h0 := h 0 (by omega)
  unfold cntSize
  cases hs : sh 0 with
  | none =>
    rw [hs] at h0
    rw [if_pos h0]
  | some x =>
    obtain ⟨t, n, f⟩ := x
    rw [hs] at h0
    rw [h0.2.2.1, if_neg lnN_n, h0.2.2.2.1]
    rfl
theorem sok_count : SOK_count Inv := by
  intro kept locks seenMany bumpMinute bumpBlock bumpTrains waited keptOut used taped fault costSum safeSum allWays torn n_blocks n_guarded n_trains n_omen n_train t_blocks t_guarded t_trains t_omen t_train i0_blocks i0_guarded i0_trains i0_omen i0_train i1_blocks i1_guarded i1_trains i1_omen i1_train lockA seenA whr homes isSeen leftA were tape would m_blocks m_trainMany m_lockMany m_readBlocks m_readTrains m_readLockMany m_blocksTold m_omensTold m_highBlock m_taped m_fault m_broken m_brokenAt m_spot m_here m_token m_value m_bumpAt m_bumpIn m_bumpOf m_waited m_keptOut m_visited m_seenMany m_drawn m_torn m_state m_locks m_waits m_readPage m_readLocks m_tape m_cuts m_letters m_place m_left m_hasSeen m_homeAt m_places m_seen m_wouldBe m_isKept m_lanes m_lengths m_cells sh x1 hI
  obtain ⟨hB, hT, hL, htp, hft, hsm, htr, hw, hcu, hle, hlk, bok, pok, lok, aok, im0, im1, kok, tok, sok, hsh⟩ := hI
  subst hB hT hL htp hft hsm htr
  obtain ⟨B, hB2, hB8, rfl⟩ := ex_n (l := 2) (h := 8) bok.1 bok.2.1
  obtain ⟨T, hT0, hT4, rfl⟩ := ex_n (l := 0) (h := 4) bok.2.2.1 bok.2.2.2.1
  subst hw
  obtain ⟨q, hq, eq, ek⟩ := kp_n kok.1 kok.2.1 kok.2.2
  have c0 : (0 : Int32).toNatClampNeg = 0 := by decide
  have c1 : (1 : Int32).toNatClampNeg = 1 := by decide
  have hmo : ∀ Q : Int32 → Prop, Q (hs n_omen B) → M_omens (nI B) m_state Q := fun Q hQ => omens_y hB8 (fun b hb => ⟨pg_b pok hb, (bok.2.2.2.2.1 b hb).1⟩) hQ
  obtain ⟨h, hh, eh⟩ := hs_n n_omen B hB8
  have h256 := pow_8 B hB8
  rw [eh] at hmo
  have hm : ∀ (r : Int32) (Q : Int32 → Prop), ((x1 = 0 → Q m_seenMany) ∧ (x1 = 1 → Q ((if (m_isKept (0 : Int32).toNatClampNeg) = 0 then (0 : Int32) else (1 : Int32)) + (if (m_isKept (1 : Int32).toNatClampNeg) = 0 then (0 : Int32) else (1 : Int32)))) ∧ (x1 = 2 → Q m_taped) ∧ (x1 = 3 → Q (if (m_lanes (0 : Int32).toNatClampNeg) = (-4 : Int32) then (-4 : Int32) else (m_lengths (0 : Int32).toNatClampNeg))) ∧ (x1 = 4 → M_omens (nI B) m_state (fun r_12 => M_bitsOf r_12 (fun r_13 => Q r_13))) ∧ (x1 = 5 → Q (wtS n_train T)) ∧ ((x1.toInt < 0 ∨ 5 < x1.toInt) → Q (-1 : Int32))) → M_count (nI B) (nI T) m_taped m_seenMany m_state m_isKept m_lanes m_lengths x1 Q := fun _ Q hQ => ⟨_, wtM_L hT4 pok hQ T 0 (Nat.zero_add _)⟩
  refine ⟨_, wtC_L hT4 ?_ T 0 (Nat.zero_add _)⟩
  refine ⟨fun e => hm 0 _ ?_, fun e => ?_, fun e => hm 0 _ ?_, fun e => hm 0 _ ?_, fun e => hung_y hB8 n_omen ?_, fun e => hm 0 _ ?_, fun e => hm 0 _ ?_⟩
  · subst e
    exact ⟨fun _ => ⟨rfl, ⟨rfl, rfl, rfl, rfl, rfl, rfl, rfl, rfl, hcu, hle, hlk, bok, pok, lok, aok, im0, im1, kok, tok, sok, hsh⟩⟩, fun h => absurd h (by decide), fun h => absurd h (by decide), fun h => absurd h (by decide), fun h => absurd h (by decide), fun h => absurd h (by decide), fun h => absurd h (by decide)⟩
  · subst e
    rw [eq]
    refine bc_y hq (hm 0 _ ⟨fun h => absurd h (by decide), fun _ => ⟨?_, ?_⟩, fun h => absurd h (by decide), fun h => absurd h (by decide), fun h => absurd h (by decide), fun h => absurd h (by decide), fun h => absurd h (by decide)⟩)
    · rw [ek, c0, c1]
    · rw [eq] at kok
      exact ⟨rfl, rfl, rfl, rfl, rfl, rfl, rfl, rfl, hcu, hle, hlk, bok, pok, lok, aok, im0, im1, kok, tok, sok, hsh⟩
  · subst e
    exact ⟨fun h => absurd h (by decide), fun h => absurd h (by decide), fun _ => ⟨rfl, ⟨rfl, rfl, rfl, rfl, rfl, rfl, rfl, rfl, hcu, hle, hlk, bok, pok, lok, aok, im0, im1, kok, tok, sok, hsh⟩⟩, fun h => absurd h (by decide), fun h => absurd h (by decide), fun h => absurd h (by decide), fun h => absurd h (by decide)⟩
  · subst e
    refine ⟨fun h => absurd h (by decide), fun h => absurd h (by decide), fun h => absurd h (by decide), fun _ => ⟨?_, ⟨rfl, rfl, rfl, rfl, rfl, rfl, rfl, rfl, hcu, hle, hlk, bok, pok, lok, aok, im0, im1, kok, tok, sok, hsh⟩⟩, fun h => absurd h (by decide), fun h => absurd h (by decide), fun h => absurd h (by decide)⟩
    rw [c0]
    exact cnt_eq hsh
  · subst e
    rw [eh]
    exact bc_y (by omega) (hm 0 _ ⟨fun h => absurd h (by decide), fun h => absurd h (by decide), fun h => absurd h (by decide), fun h => absurd h (by decide), fun _ => hmo _ (bits_y ⟨rfl, ⟨rfl, rfl, rfl, rfl, rfl, rfl, rfl, rfl, hcu, hle, hlk, bok, pok, lok, aok, im0, im1, kok, tok, sok, hsh⟩⟩), fun h => absurd h (by decide), fun h => absurd h (by decide)⟩)
  · subst e
    exact ⟨fun h => absurd h (by decide), fun h => absurd h (by decide), fun h => absurd h (by decide), fun h => absurd h (by decide), fun h => absurd h (by decide), fun _ => ⟨rfl, ⟨rfl, rfl, rfl, rfl, rfl, rfl, rfl, rfl, hcu, hle, hlk, bok, pok, lok, aok, im0, im1, kok, tok, sok, hsh⟩⟩, fun h => absurd h (by decide)⟩
  · exact ⟨fun h => absurd h (fun h2 => by rw [h2] at e; revert e; decide), fun h => absurd h (fun h2 => by rw [h2] at e; revert e; decide), fun h => absurd h (fun h2 => by rw [h2] at e; revert e; decide), fun h => absurd h (fun h2 => by rw [h2] at e; revert e; decide), fun h => absurd h (fun h2 => by rw [h2] at e; revert e; decide), fun h => absurd h (fun h2 => by rw [h2] at e; revert e; decide), fun _ => ⟨rfl, ⟨rfl, rfl, rfl, rfl, rfl, rfl, rfl, rfl, hcu, hle, hlk, bok, pok, lok, aok, im0, im1, kok, tok, sok, hsh⟩⟩⟩
theorem shc_L {k : Nat} (hk : k < 4) (ce : Nat → Int32) : ∀ d j : Nat, j + d = 40 → ∀ c1 : Nat → Int32, (∀ i : Nat, i < j → c1 (40 * k + i) = 0) → (∀ i : Nat, i < 40 * k ∨ 40 * k + 40 ≤ i → c1 i = ce i) →
    ∃ c2 : Nat → Int32, (∀ Q : (Nat → Int32) → Prop, Q c2 → ∃ n : Nat, M_sheet_L56 (nI k) Q n c1 (nI j)) ∧ (∀ i : Nat, i < 40 → c2 (40 * k + i) = 0) ∧ (∀ i : Nat, i < 40 * k ∨ 40 * k + 40 ≤ i → c2 i = ce i) := by
  intro d
  induction d with
  | zero =>
    intro j hj c1 h1 h2
    obtain rfl : j = 40 := by omega
    exact ⟨c1, fun Q hQ => ⟨1, fun _ => hQ, fun c => absurd (show (40 : Int32) ≤ nI 40 by decide) c⟩, h1, h2⟩
  | succ d ih =>
    intro j hj c1 h1 h2
    have e4 : (40 : Int32) * nI k = nI (40 * k) := pk_mul 40 k
    obtain ⟨c2, hM, h3, h4⟩ := ih (j + 1) (by omega) (upd c1 (40 * k + j) 0) (fun i hi => by
      by_cases e : i = j
      · rw [e, upd_eq]
      · rw [upd_ne _ _ (by omega)]
        exact h1 i (by omega)) (fun i hi => by
      rw [upd_ne _ _ (by omega)]
      exact h2 i hi)
    rw [nI_succ] at hM
    refine ⟨c2, fun Q hQ => ?_, h3, h4⟩
    obtain ⟨n, hn⟩ := hM Q hQ
    refine ⟨n + 1, fun c => absurd c (nI_ge (b := 40) (by omega) (by omega)), fun _ => ?_⟩
    rw [e4, ad_c (by omega)]
    exact ⟨ad_v (by omega) (by omega), hn⟩
theorem zi_and {a b : Int32} (ha : zb a) : (if a = 0 then (0 : Int32) else (if b = 0 then (0 : Int32) else (1 : Int32))) = 0 ↔ (a = 0 ∨ b = 0) := by
  by_cases h : a = 0
  · rw [if_pos h]
    exact ⟨fun _ => Or.inl h, fun _ => rfl⟩
  · rw [if_neg h]
    by_cases h2 : b = 0
    · rw [if_pos h2]
      exact ⟨fun _ => Or.inr h2, fun _ => rfl⟩
    · rw [if_neg h2]
      exact ⟨fun h3 => absurd h3 (by decide), fun h3 => (h3.elim h h2).elim⟩
theorem sok_sheet : SOK_sheet Inv := by
  intro kept locks seenMany bumpMinute bumpBlock bumpTrains waited keptOut used taped fault costSum safeSum allWays torn n_blocks n_guarded n_trains n_omen n_train t_blocks t_guarded t_trains t_omen t_train i0_blocks i0_guarded i0_trains i0_omen i0_train i1_blocks i1_guarded i1_trains i1_omen i1_train lockA seenA whr homes isSeen leftA were tape would m_blocks m_trainMany m_lockMany m_readBlocks m_readTrains m_readLockMany m_blocksTold m_omensTold m_highBlock m_taped m_fault m_broken m_brokenAt m_spot m_here m_token m_value m_bumpAt m_bumpIn m_bumpOf m_waited m_keptOut m_visited m_seenMany m_drawn m_torn m_state m_locks m_waits m_readPage m_readLocks m_tape m_cuts m_letters m_place m_left m_hasSeen m_homeAt m_places m_seen m_wouldBe m_isKept m_lanes m_lengths m_cells sh x1 x2 x3 hI
  obtain ⟨hB, hT, hL, htp, hft, hsm, htr, hw, hcu, hle, hlk, bok, pok, lok, aok, im0, im1, kok, tok, sok, hsh⟩ := hI
  subst hB hT hL htp hft hsm htr
  unfold C_sheet M_sheet
  rw [Min_C, Min_C]
  have hS : C_isSheet_e x1 x2 = 0 ↔ (C_in_e x1.toInt64 (0 : Int64) (3 : Int64) = 0 ∨ C_in_e x2.toInt64 (0 : Int64) (2 : Int64) = 0) := zi_and (C_in_z _ _ _)
  by_cases c1 : C_in_e x1.toInt64 (0 : Int64) (3 : Int64) = 0
  · exact ⟨fun _ => ⟨fun _ => ⟨rfl, ⟨rfl, rfl, rfl, rfl, rfl, rfl, rfl, hw, hcu, hle, hlk, bok, pok, lok, aok, im0, im1, kok, tok, sok, hsh⟩⟩, fun c => absurd c1 c⟩, fun c => absurd (hS.mpr (Or.inl c1)) c⟩
  by_cases c2 : C_in_e x2.toInt64 (0 : Int64) (2 : Int64) = 0
  · exact ⟨fun _ => ⟨fun c => absurd c c1, fun _ => ⟨fun _ => ⟨rfl, ⟨rfl, rfl, rfl, rfl, rfl, rfl, rfl, hw, hcu, hle, hlk, bok, pok, lok, aok, im0, im1, kok, tok, sok, hsh⟩⟩, fun c => absurd c2 c⟩⟩, fun c => absurd (hS.mpr (Or.inr c2)) c⟩
  refine ⟨fun c => (((hS.mp c).elim c1 c2)).elim, fun _ => ⟨fun c3 => ⟨fun c => absurd c c1, fun _ => ⟨fun c => absurd c c2, fun _ => ⟨fun c => absurd c c3, fun _ => ⟨rfl, ⟨rfl, rfl, rfl, rfl, rfl, rfl, rfl, hw, hcu, hle, hlk, bok, pok, lok, aok, im0, im1, kok, tok, sok, hsh⟩⟩⟩⟩⟩, fun c3 => ?_⟩⟩
  obtain ⟨k, -, hk3, rfl⟩ := in_ix (a := 0) (b := 3) (by decide) (by decide) c1
  obtain ⟨w, -, hw2, rfl⟩ := in_ix (a := 0) (b := 2) (by decide) (by decide) c2
  have v4 : vp_in (nI k) 4 := vp_in_nI (by omega) (by omega)
  have cc : (nI k).toNatClampNeg = k := nI_clamp (by omega)
  refine ⟨v4, fun c4 => ⟨fun c => absurd c c1, fun _ => ⟨fun c => absurd c c2, fun _ => ⟨fun _ => ⟨fun c => absurd c4 (Int32.not_lt.mpr c), fun _ => ⟨rfl, ⟨rfl, rfl, rfl, rfl, rfl, rfl, rfl, hw, hcu, hle, hlk, bok, pok, lok, aok, im0, im1, kok, tok, sok, hsh⟩⟩⟩, fun c => absurd c3 c⟩⟩⟩, fun c4 => ⟨fun c => absurd c c1, fun _ => ⟨fun c => absurd c c2, fun _ => ⟨fun _ => ⟨fun _ => ⟨v4, v4, ?_⟩, fun c => absurd (Int32.not_lt.mp c4) c⟩, fun c => absurd c3 c⟩⟩⟩⟩
  obtain ⟨l, hl, rfl⟩ : ∃ l : Nat, l ≤ 40 ∧ x3 = nI l := nI_of2 (M := 40) (n := 40) (by decide) c4 c3
  have cl : (nI l).toNatClampNeg = l := nI_clamp (by omega)
  obtain ⟨c2', hM, h3, h4⟩ := shc_L (show k < 4 by omega) m_cells 40 0 rfl m_cells (fun i hi => absurd hi (Nat.not_lt_zero _)) (fun _ _ => rfl)
  refine hM _ ⟨rfl, ?_⟩
  have hsh2 : shOK (shSet sh (nI k).toNatClampNeg (some (laneT (nI w), (nI l).toNatClampNeg, fun _ => 0))) (upd m_lanes (nI k).toNatClampNeg (nI w)) (upd m_lengths (nI k).toNatClampNeg (nI l)) c2' := by
    rw [cc, cl]
    intro i hi
    by_cases e : i = k
    · rw [e]
      have e1 : shSet sh k (some (laneT (nI w), l, fun _ => 0)) k = some (laneT (nI w), l, fun _ => (0 : Int32)) := if_pos rfl
      rw [e1, upd_eq, upd_eq]
      have hw3 : w = 0 ∨ w = 1 ∨ w = 2 := by omega
      refine ⟨?_, hl, ?_, rfl, fun i hi => h3 i (by omega)⟩
      · rcases hw3 with rfl | rfl | rfl <;> decide
      · rcases hw3 with rfl | rfl | rfl <;> decide
    · have e1 : shSet sh k (some (laneT (nI w), l, fun _ => 0)) i = sh i := if_neg e
      rw [e1, upd_ne _ _ e, upd_ne _ _ e]
      have h0 := hsh i hi
      cases hs : sh i with
      | none =>
        rw [hs] at h0
        exact h0
      | some x =>
        obtain ⟨t, n, f⟩ := x
        rw [hs] at h0
        refine ⟨h0.1, h0.2.1, h0.2.2.1, h0.2.2.2.1, fun j hj => ?_⟩
        have hn := h0.2.1
        exact (h4 _ (by omega)).trans (h0.2.2.2.2 j hj)
  exact ⟨rfl, rfl, rfl, rfl, rfl, rfl, rfl, hw, hcu, hle, hlk, bok, pok, lok, aok, im0, im1, kok, tok, sok, hsh2⟩
