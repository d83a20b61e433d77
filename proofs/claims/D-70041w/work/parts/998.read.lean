set_option maxRecDepth 100000
abbrev K96 := (Nat → Int32) → Int32 → Int32 → Prop
abbrev K74 := (Nat → Int32) → Int32 → Prop
theorem rdM_bad {B L k c j : Nat} (hk : k < 4) {x2 x3 x6 w' : Int32} {st ln le ce lk2 : Nat → Int32} (hg : ¬ (2 : Int32) * nI c ≤ nI j) (hcd : cdM (ln k) (le k) x2 x3 (nI j) = w') (hw : ¬ w' = 0) {k174 : K74} {k196 : K96} (h : k196 st w' x6) : M_read_L55 (nI B) (nI L) lk2 ln le ce (nI k) x2 x3 (nI c) k174 k196 2 st 0 x6 (nI j) := by
  have v4 : vp_in (nI k) 4 := vp_in_nI (by omega) (by omega)
  have cc : (nI k).toNatClampNeg = k := nI_clamp (by omega)
  have h2 : M_read_L55 (nI B) (nI L) lk2 ln le ce (nI k) x2 x3 (nI c) k174 k196 1 st w' x6 (nI j + (1 : Int32)) := ⟨fun _ => h, fun _ => ⟨fun c => absurd c hw, fun _ => h⟩⟩
  refine ⟨fun c => absurd c hg, fun _ => ⟨fun _ => ?_, fun c => absurd rfl c⟩⟩
  unfold cdM at hcd
  rw [cc, hcd]
  exact ⟨v4, fun _ => v4, fun _ _ => v4, fun c => absurd c hw, fun _ => h2⟩
theorem rdM_even {B L k c j n : Nat} (hk : k < 4) (hj : j < 100) (hev : j % 2 = 0) {x2 x3 x6 : Int32} {st ln le ce lk2 : Nat → Int32} (hg : ¬ (2 : Int32) * nI c ≤ nI j) (hcd : cdM (ln k) (le k) x2 x3 (nI j) = 0) {k174 : K74} {k196 : K96} (h : M_read_L55 (nI B) (nI L) lk2 ln le ce (nI k) x2 x3 (nI c) k174 k196 n st 0 x6 (nI (j + 1))) : M_read_L55 (nI B) (nI L) lk2 ln le ce (nI k) x2 x3 (nI c) k174 k196 (n + 1) st 0 x6 (nI j) := by
  have v4 : vp_in (nI k) 4 := vp_in_nI (by omega) (by omega)
  have cc : (nI k).toNatClampNeg = k := nI_clamp (by omega)
  have er : nI j - nI j / (2 : Int32) * (2 : Int32) = nI (j % 2) := pk_rem (d := 2) (by omega) (by omega) (by omega)
  rw [nI_succ] at h
  refine ⟨fun c => absurd c hg, fun _ => ⟨fun _ => ?_, fun c => absurd rfl c⟩⟩
  unfold cdM at hcd
  rw [cc, hcd, er, hev]
  exact ⟨v4, fun _ => v4, fun _ _ => v4, fun _ => ⟨fun c => absurd c (by decide), fun _ => h⟩, fun c => absurd rfl c⟩
theorem rdM_odd {B L k c j m : Nat} (hk : k < 4) (hj : j < 100) (hod : j % 2 = 1) (hm : m + 1 < 40) {x2 x3 x6 : Int32} {st ln le ce lk2 : Nat → Int32} (hg : ¬ (2 : Int32) * nI c ≤ nI j) (hcd : cdM (ln k) (le k) x2 x3 (nI j) = 0) (hx : x3 + nI j = nI (m + 1)) {k174 : K74} {k196 : K96} {r : Int32} {st2 : Nat → Int32} (hH : ∀ Q : Int32 → (Nat → Int32) → Prop, Q r st2 → M_hangs (nI B) (nI L) st lk2 (ce (40 * k + m)) (ce (40 * k + (m + 1))) Q)
    {n : Nat} (h1 : 0 ≤ r → M_read_L55 (nI B) (nI L) lk2 ln le ce (nI k) x2 x3 (nI c) k174 k196 n st2 0 (x6 + (1 : Int32)) (nI (j + 1))) (h2 : ¬ 0 ≤ r → k174 st2 x6) : M_read_L55 (nI B) (nI L) lk2 ln le ce (nI k) x2 x3 (nI c) k174 k196 (n + 1) st 0 x6 (nI j) := by
  have v4 : vp_in (nI k) 4 := vp_in_nI (by omega) (by omega)
  have cc : (nI k).toNatClampNeg = k := nI_clamp (by omega)
  have er : nI j - nI j / (2 : Int32) * (2 : Int32) = nI (j % 2) := pk_rem (d := 2) (by omega) (by omega) (by omega)
  have e4 : (40 : Int32) * nI k = nI (40 * k) := pk_mul 40 k
  have ei : ((40 : Int32) * nI k + x3) + nI j = nI (40 * k + (m + 1)) := by rw [Int32.add_assoc, hx, e4, nI_add]
  have ej : nI (40 * k + (m + 1)) - (1 : Int32) = nI (40 * k + m) := nI_pred (40 * k + m)
  rw [nI_succ] at h1
  refine ⟨fun c => absurd c hg, fun _ => ⟨fun _ => ?_, fun c => absurd rfl c⟩⟩
  unfold cdM at hcd
  rw [cc, hcd, er, hod, ei, ej, nI_clamp (n := 40 * k + m) (by omega), nI_clamp (n := 40 * k + (m + 1)) (by omega)]
  exact ⟨v4, fun _ => v4, fun _ _ => v4, fun _ => ⟨fun _ => ⟨vp_in_nI (by omega) (by omega), vp_in_nI (by omega) (by omega), hH _ ⟨h1, h2⟩⟩, fun c => absurd rfl c⟩, fun c => absurd rfl c⟩
abbrev KRd := Int32 → Int32 → (Nat → Int32) → Prop
abbrev KRb := Int32 → (Nat → Int32) → Prop
theorem rd_L {B T L k w c : Nat} (hB2 : 2 ≤ B) (hB8 : B ≤ 8) (hL4 : L ≤ 4) (hk : k < 4) (hw : w ≤ 2) (hc : c ≤ 20) {G x3 : Int32} {stB tr lk lk2 ln le ce : Nat → Int32} {sh : Sh} (hsh : shOK sh ln le ce) (lok : lkOK (nI L) (nI B) lk) (he : ∀ l : Nat, l < 2 * L → lk2 l = lk l) : ∀ d i : Nat, i + d = c → ∀ om st : Nat → Int32, bOK (nI B) (nI T) om tr → pgOK st 0 G om tr → alOK (nI L) lk om → (∀ i : Nat, 25 ≤ i → st i = stB i) →
    (∃ (w' i' : Int32) (om2 st2 : Nat → Int32), (∀ (kd : KRd) (kb : KRb), kd w' i' om2 → ∃ N : Nat, C_read_L sh (nI L) (nI B) lk k (nI w) x3 (nI c) kd kb N (nI i) om) ∧ (∀ (k174 : K74) (k196 : K96), k196 st2 w' i' → ∃ n : Nat, M_read_L55 (nI B) (nI L) lk2 ln le ce (nI k) (nI w) x3 (nI c) k174 k196 n st 0 (nI i) (nI (2 * i))) ∧ bOK (nI B) (nI T) om2 tr ∧ pgOK st2 0 G om2 tr ∧ alOK (nI L) lk om2 ∧ (∀ i : Nat, 25 ≤ i → st2 i = stB i)) ∨
    (∃ (i' : Int32) (om2 st2 : Nat → Int32), (∀ (kd : KRd) (kb : KRb), kb i' om2 → ∃ N : Nat, C_read_L sh (nI L) (nI B) lk k (nI w) x3 (nI c) kd kb N (nI i) om) ∧ (∀ (k174 : K74) (k196 : K96), k174 st2 i' → ∃ n : Nat, M_read_L55 (nI B) (nI L) lk2 ln le ce (nI k) (nI w) x3 (nI c) k174 k196 n st 0 (nI i) (nI (2 * i))) ∧ (∀ i : Nat, 25 ≤ i → st2 i = stB i)) := by
  intro d
  induction d with
  | zero =>
    intro i hi om st hb hp ha hst
    obtain rfl : i = c := by omega
    have e : nI i ≤ nI i := nI_le (Nat.le_refl _) (by omega)
    have e2 : (2 : Int32) * nI i ≤ nI (2 * i) := by
      rw [nI_2]
      exact nI_le (Nat.le_refl _) (by omega)
    exact Or.inl ⟨0, nI i, om, st, fun kd kb h => ⟨1, fun _ => h, fun c => absurd e c⟩, fun k174 k196 h => ⟨1, fun _ => h, fun c => absurd e2 c⟩, hb, hp, ha, hst⟩
  | succ d ih =>
    intro i hi om st hb hp ha hst
    have hg : ¬ nI c ≤ nI i := nI_ge (by omega) (by omega)
    have hg0 : ¬ (2 : Int32) * nI c ≤ nI (2 * i) := by
      rw [nI_2]
      exact nI_ge (by omega) (by omega)
    have hg1 : ¬ (2 : Int32) * nI c ≤ nI (2 * i + 1) := by
      rw [nI_2]
      exact nI_ge (by omega) (by omega)
    have ex : x3 + ((2 : Int32) * nI i) = x3 + nI (2 * i) := by rw [nI_2]
    have ex1 : (x3 + nI (2 * i)) + (1 : Int32) = x3 + nI (2 * i + 1) := by rw [Int32.add_assoc, nI_1]
    have q0 := cd_eq hsh hk hw (show 2 * i ≤ 100 by omega) x3
    have q1 := cd_eq hsh hk hw (show 2 * i + 1 ≤ 100 by omega) x3
    by_cases c0 : takeW sh k (nI w) (x3 + nI (2 * i)) = 0
    · have hcd0 := q0.symm.trans c0
      by_cases c1 : takeW sh k (nI w) (x3 + nI (2 * i + 1)) = 0
      · have hcd1 := q1.symm.trans c1
        obtain ⟨m0, hm0, e0, v0⟩ := cd_v (w := w) hsh hk x3 c0
        obtain ⟨m1, hm1, e1, v1⟩ := cd_v (w := w) hsh hk x3 c1
        have em : m1 = m0 + 1 := by
          rw [← ex1, e0, nI_1] at e1
          exact ((nI_eq (by omega) (by omega)).mp e1).symm
        subst em
        obtain ⟨r, om1, st1, hC1, hM1, hb1, hp1, ha1, hst1⟩ := hang_z (T := T) hB2 hB8 hL4 hb hp lok ha he (ce (40 * k + m0)) (ce (40 * k + (m0 + 1)))
        have hst2 : ∀ i : Nat, 25 ≤ i → st1 i = stB i := fun i hi => (hst1 i hi).trans (hst i hi)
        have hCs : ∀ (kd : KRd) (kb : KRb) (N : Nat), ((0 ≤ r → C_read_L sh (nI L) (nI B) lk k (nI w) x3 (nI c) kd kb N (nI i + (1 : Int32)) om1) ∧ (¬ 0 ≤ r → kb (nI i) om1)) → C_read_L sh (nI L) (nI B) lk k (nI w) x3 (nI c) kd kb (N + 1) (nI i) om := by
          intro kd kb N h
          refine ⟨fun c => absurd c hg, fun _ => ?_⟩
          rw [ex, ex1, v0, v1]
          exact ⟨fun c => absurd c0 c, fun _ => ⟨fun c => absurd c1 c, fun _ => hC1 _ h⟩⟩
        by_cases hr : 0 ≤ r
        · rcases ih (i + 1) (by omega) om1 st1 hb1 hp1 ha1 hst2 with ⟨w', i', om2, st2, hC, hM, hr2⟩ | ⟨i', om2, st2, hC, hM, hr2⟩
          · refine Or.inl ⟨w', i', om2, st2, fun kd kb h => ?_, fun k174 k196 h => ?_, hr2⟩
            · obtain ⟨N, hN⟩ := hC kd kb h
              rw [nI_succ] at hN
              exact ⟨N + 1, hCs kd kb N ⟨fun _ => hN, fun c => absurd hr c⟩⟩
            · obtain ⟨n, hn⟩ := hM k174 k196 h
              rw [nI_succ] at hn
              exact ⟨_, rdM_even hk (by omega) (by omega) hg0 hcd0 (rdM_odd hk (by omega) (by omega) (by omega) hg1 hcd1 e1 hM1 (fun _ => hn) (fun c => absurd hr c))⟩
          · refine Or.inr ⟨i', om2, st2, fun kd kb h => ?_, fun k174 k196 h => ?_, hr2⟩
            · obtain ⟨N, hN⟩ := hC kd kb h
              rw [nI_succ] at hN
              exact ⟨N + 1, hCs kd kb N ⟨fun _ => hN, fun c => absurd hr c⟩⟩
            · obtain ⟨n, hn⟩ := hM k174 k196 h
              rw [nI_succ] at hn
              exact ⟨_, rdM_even hk (by omega) (by omega) hg0 hcd0 (rdM_odd hk (by omega) (by omega) (by omega) hg1 hcd1 e1 hM1 (fun _ => hn) (fun c => absurd hr c))⟩
        · refine Or.inr ⟨nI i, om1, st1, fun kd kb h => ?_, fun k174 k196 h => ?_, hst2⟩
          · exact ⟨1, hCs kd kb 0 ⟨fun c => absurd c hr, fun _ => h⟩⟩
          · exact ⟨2, rdM_even hk (by omega) (by omega) hg0 hcd0 (rdM_odd (n := 0) hk (by omega) (by omega) (by omega) hg1 hcd1 e1 hM1 (fun c => absurd c hr) (fun _ => h))⟩
      · refine Or.inl ⟨takeW sh k (nI w) (x3 + nI (2 * i + 1)), nI i, om, st, fun kd kb h => ?_, fun k174 k196 h => ?_, hb, hp, ha, hst⟩
        · refine ⟨1, fun c => absurd c hg, fun _ => ?_⟩
          rw [ex, ex1]
          exact ⟨fun c => absurd c0 c, fun _ => ⟨fun _ => h, fun c => absurd c c1⟩⟩
        · exact ⟨3, rdM_even hk (by omega) (by omega) hg0 hcd0 (rdM_bad hk hg1 q1.symm c1 h)⟩
    · refine Or.inl ⟨takeW sh k (nI w) (x3 + nI (2 * i)), nI i, om, st, fun kd kb h => ?_, fun k174 k196 h => ?_, hb, hp, ha, hst⟩
      · refine ⟨1, fun c => absurd c hg, fun _ => ?_⟩
        rw [ex]
        exact ⟨fun _ => h, fun c => absurd c c0⟩
      · exact ⟨2, rdM_bad hk hg0 q0.symm c0 h⟩
theorem sok_read : SOK_read Inv := by
  intro kept locks seenMany bumpMinute bumpBlock bumpTrains waited keptOut used taped fault costSum safeSum allWays torn n_blocks n_guarded n_trains n_omen n_train t_blocks t_guarded t_trains t_omen t_train i0_blocks i0_guarded i0_trains i0_omen i0_train i1_blocks i1_guarded i1_trains i1_omen i1_train lockA seenA whr homes isSeen leftA were tape would m_blocks m_trainMany m_lockMany m_readBlocks m_readTrains m_readLockMany m_blocksTold m_omensTold m_highBlock m_taped m_fault m_broken m_brokenAt m_spot m_here m_token m_value m_bumpAt m_bumpIn m_bumpOf m_waited m_keptOut m_visited m_seenMany m_drawn m_torn m_state m_locks m_waits m_readPage m_readLocks m_tape m_cuts m_letters m_place m_left m_hasSeen m_homeAt m_places m_seen m_wouldBe m_isKept m_lanes m_lengths m_cells sh x1 x2 x3 x4 hI
  obtain ⟨hB, hT, hL, htp, hft, hsm, htr, hw, hcu, hle, hlk, bok, pok, lok, aok, im0, im1, kok, tok, sok, hsh⟩ := hI
  subst hB hT hL htp hft hsm htr
  obtain ⟨B, hB2, hB8, rfl⟩ := ex_n (l := 2) (h := 8) bok.1 bok.2.1
  obtain ⟨T, hT0, hT4, rfl⟩ := ex_n (l := 0) (h := 4) bok.2.2.1 bok.2.2.2.1
  subst hw
  obtain ⟨L, hL0, hL4, rfl⟩ := ex_n (l := 0) (h := 4) lok.1 lok.2.1
  have hlk2 : ∀ l : Nat, l < 2 * L → m_locks l = lockA l := fun l hl => hlk l (by rw [nI_toInt (by omega)]; omega)
  have tL := nI_toInt (n := L) (by omega)
  unfold C_read M_read
  rw [Min_C, Min_C, Min_C]
  have hS : C_isSheet_e x1 x2 = 0 ↔ (C_in_e x1.toInt64 (0 : Int64) (3 : Int64) = 0 ∨ C_in_e x2.toInt64 (0 : Int64) (2 : Int64) = 0) := zi_and (C_in_z _ _ _)
  by_cases c1 : C_in_e x1.toInt64 (0 : Int64) (3 : Int64) = 0
  · exact ⟨fun _ => ⟨fun _ => ⟨rfl, ⟨rfl, rfl, rfl, rfl, rfl, rfl, rfl, rfl, hcu, hle, hlk, bok, pok, lok, aok, im0, im1, kok, tok, sok, hsh⟩⟩, fun c => absurd c1 c⟩, fun c => absurd (hS.mpr (Or.inl c1)) c⟩
  by_cases c2 : C_in_e x2.toInt64 (0 : Int64) (2 : Int64) = 0
  · exact ⟨fun _ => ⟨fun c => absurd c c1, fun _ => ⟨fun _ => ⟨rfl, ⟨rfl, rfl, rfl, rfl, rfl, rfl, rfl, rfl, hcu, hle, hlk, bok, pok, lok, aok, im0, im1, kok, tok, sok, hsh⟩⟩, fun c => absurd c2 c⟩⟩, fun c => absurd (hS.mpr (Or.inr c2)) c⟩
  refine ⟨fun c => (((hS.mp c).elim c1 c2)).elim, fun _ => ⟨fun c3 => ⟨fun c => absurd c c1, fun _ => ⟨fun c => absurd c c2, fun _ => ⟨fun _ => ⟨rfl, ⟨rfl, rfl, rfl, rfl, rfl, rfl, rfl, rfl, hcu, hle, hlk, bok, pok, lok, aok, im0, im1, kok, tok, sok, hsh⟩⟩, fun c => absurd c3 c⟩⟩⟩, fun c3 => ?_⟩⟩
  obtain ⟨k, -, hk3, rfl⟩ := in_ix (a := 0) (b := 3) (by decide) (by decide) c1
  obtain ⟨w, -, hw2, rfl⟩ := in_ix (a := 0) (b := 2) (by decide) (by decide) c2
  obtain ⟨c, -, hc, rfl⟩ := in_ix (a := 0) (b := 20) (by decide) (by decide) c3
  have v4 : vp_in (nI k) 4 := vp_in_nI (by omega) (by omega)
  have cc : (nI k).toNatClampNeg = k := nI_clamp (by omega)
  obtain ⟨uO, uR, hA, hO, hR⟩ := as_y bok n_guarded t_blocks t_guarded t_trains t_omen t_train
  obtain ⟨s1, hcp, hcp1, hcp2⟩ := copies_y (a := 0) (b := 75) (by omega) (by omega) (by omega) m_state
  have hp1 : pgOK s1 0 n_guarded n_omen n_train := pg_st (p := 0) (fun i _ hi => hcp2 i (by omega)) pok
  have hp75 : pgOK s1 75 n_guarded n_omen n_train := pg_mv (a := 0) (b := 75) hcp1 pok
  refine ⟨v4, hA _ ?_⟩
  rw [cc]
  rcases rd_L (x3 := x3) hB2 hB8 hL4 (show k < 4 by omega) hw2 hc hsh lok hlk2 (stB := s1) c 0 (Nat.zero_add _) n_omen s1 bok hp1 aok (fun _ _ => rfl) with ⟨w', i', om2, st2, hC, hM, bok2, pok2, aok2, hst2⟩ | ⟨i', om2, st2, hC, hM, hst2⟩
  · have hse : ∀ i : Nat, i < 75 → 25 ≤ i → st2 i = m_state i := fun i h1 h2 => (hst2 i h2).trans (hcp2 i (by omega))
    have im02 := im_st (fun i h1 h2 => hse i (by omega) (by omega)) im0
    have im12 := im_st (fun i h1 h2 => hse i (by omega) (by omega)) im1
    exact hC _ _ ⟨fun c => absurd c c1, fun _ => ⟨fun c => absurd c c2, fun _ => ⟨fun c => absurd c c3, fun _ => hcp _ (hM _ _ ⟨rfl, ⟨rfl, rfl, rfl, rfl, rfl, rfl, rfl, rfl, hcu, hle, hlk, bok2, pok2, lok, aok2, im02, im12, kok, tok, sok, hsh⟩⟩)⟩⟩⟩
  · obtain ⟨s4, hM4, k2, k3⟩ := copies_y (a := 75) (b := 0) (by omega) (by omega) (by omega) st2
    have hp3 : pgOK st2 75 n_guarded n_omen n_train := pg_st (p := 75) (fun i hi _ => hst2 i (by omega)) hp75
    obtain ⟨uO3, uR3, hA3, hO3, hR3⟩ := as_y (bo_cg hO hR bok) n_guarded (nI B) n_guarded (nI T) om2 n_train
    have bok2 := bo_cg hO3 hR3 (bo_cg hO hR bok)
    have pok2 : pgOK s4 0 n_guarded uO3 uR3 := pg_cg hO3 hR3 (pg_cg hO hR (pg_mv (a := 75) (b := 0) k2 hp3))
    have aok2 : alOK (nI L) lockA uO3 := al_cg lok.2.2.1 (by omega) hO3 (al_cg lok.2.2.1 (by omega) hO aok)
    have hse : ∀ i : Nat, i < 75 → 25 ≤ i → s4 i = m_state i := fun i h1 h2 => (k3 i (by omega)).trans ((hst2 i h2).trans (hcp2 i (by omega)))
    have im02 := im_st (fun i h1 h2 => hse i (by omega) (by omega)) im0
    have im12 := im_st (fun i h1 h2 => hse i (by omega) (by omega)) im1
    exact hC _ _ (hA3 _ ⟨fun c => absurd c c1, fun _ => ⟨fun c => absurd c c2, fun _ => ⟨fun c => absurd c c3, fun _ => hcp _ (hM _ _ (hM4 _ ⟨rfl, ⟨rfl, rfl, rfl, rfl, rfl, rfl, rfl, rfl, hcu, hle, hlk, bok2, pok2, lok, aok2, im02, im12, kok, tok, sok, hsh⟩⟩))⟩⟩⟩)
