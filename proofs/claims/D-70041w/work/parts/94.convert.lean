set_option maxRecDepth 100000
theorem pg_f0 {st om tr : Nat → Int32} {G v : Int32} {t : Nat} (ht : t < 4) (h : pgOK st 0 G om tr) : pgOK (upd st (9 + t) v) 0 G om (upd tr (4 * t) v) := by
  refine ⟨fun b hb => ?_, ?_, fun u hu w hw => ?_⟩
  · rw [upd_ne _ _ (by omega)]
    exact h.1 b hb
  · rw [upd_ne _ _ (by omega)]
    exact h.2.1
  · by_cases e : u = t ∧ w = 0
    · rw [e.1, e.2, show 0 + 9 + 4 * 0 + t = 9 + t by omega, show 4 * t + 0 = 4 * t by omega, upd_eq, upd_eq]
    · rw [upd_ne _ _ (by omega), upd_ne _ _ (by omega)]
      exact h.2.2 u hu w hw
theorem bo_f0 {B T : Int32} {om tr : Nat → Int32} {v : Int32} {t : Nat} (h : bOK B T om tr) (h0 : 0 ≤ v.toInt) (h9 : v.toInt ≤ 3) : bOK B T om (upd tr (4 * t) v) := by
  obtain ⟨h1, h2, h3, h4, h5, h6⟩ := h
  refine ⟨h1, h2, h3, h4, h5, fun u hu => ?_⟩
  rw [upd_ne _ _ (show 4 * u + 1 ≠ 4 * t by omega), upd_ne _ _ (show 4 * u + 2 ≠ 4 * t by omega), upd_ne _ _ (show 4 * u + 3 ≠ 4 * t by omega)]
  refine ⟨?_, (h6 u hu).2.1, (h6 u hu).2.2.1, (h6 u hu).2.2.2⟩
  by_cases e : u = t
  · rw [e, upd_eq]
    exact ⟨h0, h9⟩
  · rw [upd_ne _ _ (by omega)]
    exact (h6 u hu).1
theorem con_I {B T t : Nat} (hT : T ≤ 4) (hB2 : 2 ≤ B) (hB8 : B ≤ 8) (ht : t < T) {G : Int32} {st om tr : Nat → Int32} (hp : pgOK st 0 G om tr) (hb : bOK (nI B) (nI T) om tr) : ∀ d j : Nat, j + d = 4 → ∀ (bm0 bb0 bt0 wa0 ko0 us0 uB0 uG0 uT0 : Int32) (uO0 uR0 wh0 ho0 iS0 lf0 we0 : Nat → Int32) (x2 x3 : Int32) (ba0 bi0 bo0 wb0 kb0 vi0 : Int32) (st0 pl0 le0 hz0 hm0 ps0 : Nat → Int32), (∀ i : Nat, i ≠ 9 + t → st0 i = st i) →
    ∃ bm bb bt wa ko us uB uG uT uO uR wh ho iS lf we z2 z3 ba2 bi2 bo2 wb2 kb2 vi2 st2 pl2 le2 hz2 hm2 ps2,
      (∀ k : K18, k bm bb bt wa ko us uB uG uT uO uR wh ho iS lf we z2 z3 → ∃ n : Nat, C_convert_L47 (nI B) G (nI T) om tr (nI t) k n bm0 bb0 bt0 wa0 ko0 us0 uB0 uG0 uT0 uO0 uR0 wh0 ho0 iS0 lf0 we0 x2 x3 (nI j)) ∧
      (∀ k : K14, k ba2 bi2 bo2 wb2 kb2 vi2 st2 pl2 le2 hz2 hm2 ps2 z2 z3 → ∃ n : Nat, M_convert_L51 (nI B) (nI T) M0_waits (nI t) k n ba0 bi0 bo0 wb0 kb0 vi0 st0 pl0 le0 hz0 hm0 ps0 x2 x3 (nI j)) ∧
      (∀ i : Nat, i ≠ 9 + t → st2 i = st i) := by
  intro d
  induction d with
  | zero =>
    intro j hj bm0 bb0 bt0 wa0 ko0 us0 uB0 uG0 uT0 uO0 uR0 wh0 ho0 iS0 lf0 we0 x2 x3 ba0 bi0 bo0 wb0 kb0 vi0 st0 pl0 le0 hz0 hm0 ps0 hst
    obtain rfl : j = 4 := by omega
    have e : (4 : Int32) ≤ nI 4 := by decide
    exact ⟨bm0, bb0, bt0, wa0, ko0, us0, uB0, uG0, uT0, uO0, uR0, wh0, ho0, iS0, lf0, we0, x2, x3, ba0, bi0, bo0, wb0, kb0, vi0, st0, pl0, le0, hz0, hm0, ps0, fun k hk => ⟨1, fun _ => hk, fun c => absurd e c⟩, fun k hk => ⟨1, fun _ => hk, fun c => absurd e c⟩, hst⟩
  | succ d ih =>
    intro j hj bm0 bb0 bt0 wa0 ko0 us0 uB0 uG0 uT0 uO0 uR0 wh0 ho0 iS0 lf0 we0 x2 x3 ba0 bi0 bo0 wb0 kb0 vi0 st0 pl0 le0 hz0 hm0 ps0 hst
    have hg : ¬ (4 : Int32) ≤ nI j := nI_ge (b := 4) (by omega) (by omega)
    have hp0 : pgOK (upd st0 (9 + t) (nI j)) 0 G om (upd tr (4 * t) (nI j)) := by
      refine pg_st (p := 0) (fun i _ _ => ?_) (pg_f0 (v := nI j) (show t < 4 by omega) hp)
      by_cases e : i = 9 + t
      · rw [e, upd_eq, upd_eq]
      · rw [upd_ne _ _ e, upd_ne _ _ e]
        exact hst i e
    have tj := nI_toInt (n := j) (by omega)
    have hb0 : bOK (nI B) (nI T) om (upd tr (4 * t) (nI j)) := bo_f0 hb (by omega) (by omega)
    obtain ⟨uO, uR, hA, hO, hR⟩ := as_y hb G uB0 uG0 uT0 uO0 uR0
    have hR2 : ∀ i : Nat, i < 16 → upd uR (4 * t) (nI j) i = upd tr (4 * t) (nI j) i := by
      intro i hi
      by_cases e : i = 4 * t
      · rw [e, upd_eq, upd_eq]
      · rw [upd_ne _ _ e, upd_ne _ _ e]
        exact hR i hi
    have hp1 := pg_cg hO hR2 hp0
    obtain ⟨bm, bb, bt, wa, ko, us, wh, ho, iS, lf, we, bi, bo, pl, le, hz, hm, ps, hC1, hM1, hN⟩ := run_y hT hB2 hB8 hp1 (bo_cg hO hR2 hb0) bm0 bb0 bt0 wa0 ko0 us0 ba0 bi0 bo0 wb0 kb0 vi0 wh0 ho0 iS0 lf0 we0 pl0 le0 hz0 hm0 ps0
    have he : ∀ t : Nat, t < 4 → ho t = hm t := fun t ht => (hN.2.1 t ht).1
    have c9 : ((9 : Int32) + nI t).toNatClampNeg = 9 + t := ad_c (a := 9) (by omega)
    have v9 : vp_in ((9 : Int32) + nI t) 125 := ad_v (a := 9) (by omega) (by omega)
    have c4 : (((4 : Int32) * nI t) + (0 : Int32)).toNatClampNeg = 4 * t := of_c (w := 0) (by omega) (by omega)
    have v4 : vp_in (((4 : Int32) * nI t) + (0 : Int32)) 16 := of_v (w := 0) (by omega) (by omega)
    have hst1 : ∀ i : Nat, i ≠ 9 + t → upd st0 (9 + t) (nI j) i = st i := fun i hi => (upd_ne _ _ hi).trans (hst i hi)
    have en : vp_nar .byte ((nI j).toInt8.toInt32) = nI j := nb_id (by omega) (by omega)
    have hcs : ∀ Q : Int32 → Prop, Q (csF ho (upd uR (4 * t) (nI j)) T) → M_cost (nI T) (upd st0 (9 + t) (nI j)) hm Q := fun Q hQ => csM_y hT hp1 he hQ
    by_cases c2 : x2 ≤ csF ho (upd uR (4 * t) (nI j)) T
    · have c3 : ¬ csF ho (upd uR (4 * t) (nI j)) T < x2 := Int32.not_lt.mpr c2
      obtain ⟨bm5, bb5, bt5, wa5, ko5, us5, uB5, uG5, uT5, uO5, uR5, wh5, ho5, iS5, lf5, we5, z2, z3, ba2, bi2, bo2, wb2, kb2, vi2, st2, pl2, le2, hz2, hm2, ps2, hC, hM, hr⟩ := ih (j + 1) (by omega) bm bb bt wa ko us (nI B) G (nI T) uO (upd uR (4 * t) (nI j)) wh ho iS lf we x2 x3 bm bi bo wa ko us (upd st0 (9 + t) (nI j)) pl le hz hm ps hst1
      rw [nI_succ] at hC hM
      refine ⟨bm5, bb5, bt5, wa5, ko5, us5, uB5, uG5, uT5, uO5, uR5, wh5, ho5, iS5, lf5, we5, z2, z3, ba2, bi2, bo2, wb2, kb2, vi2, st2, pl2, le2, hz2, hm2, ps2, fun k hk => ?_, fun k hk => ?_, hr⟩
      · obtain ⟨n, hn⟩ := hC k hk
        refine ⟨n + 1, fun c => absurd c hg, fun _ => hA _ ⟨v4, ?_⟩⟩
        rw [c4, en]
        refine hC1 _ (csC_y hT ?_)
        rw [if_neg c3, if_pos c2]
        exact hn
      · obtain ⟨n, hn⟩ := hM k hk
        refine ⟨n + 1, fun c => absurd c hg, fun _ => ⟨v9, ?_⟩⟩
        rw [c9]
        refine hM1 _ (hcs _ (hcs _ ⟨fun _ => ?_, fun c => absurd c2 c⟩))
        rw [if_pos c2]
        exact hn
    · have c3 : csF ho (upd uR (4 * t) (nI j)) T < x2 := Int32.not_le.mp c2
      obtain ⟨bm5, bb5, bt5, wa5, ko5, us5, uB5, uG5, uT5, uO5, uR5, wh5, ho5, iS5, lf5, we5, z2, z3, ba2, bi2, bo2, wb2, kb2, vi2, st2, pl2, le2, hz2, hm2, ps2, hC, hM, hr⟩ := ih (j + 1) (by omega) bm bb bt wa ko us (nI B) G (nI T) uO (upd uR (4 * t) (nI j)) wh ho iS lf we (csF ho (upd uR (4 * t) (nI j)) T) (((10 : Int32) * nI t) + nI j) bm bi bo wa ko us (upd st0 (9 + t) (nI j)) pl le hz hm ps hst1
      rw [nI_succ] at hC hM
      refine ⟨bm5, bb5, bt5, wa5, ko5, us5, uB5, uG5, uT5, uO5, uR5, wh5, ho5, iS5, lf5, we5, z2, z3, ba2, bi2, bo2, wb2, kb2, vi2, st2, pl2, le2, hz2, hm2, ps2, fun k hk => ?_, fun k hk => ?_, hr⟩
      · obtain ⟨n, hn⟩ := hC k hk
        refine ⟨n + 1, fun c => absurd c hg, fun _ => hA _ ⟨v4, ?_⟩⟩
        rw [c4, en]
        refine hC1 _ (csC_y hT ?_)
        rw [if_pos c3, if_neg c2]
        exact hn
      · obtain ⟨n, hn⟩ := hM k hk
        refine ⟨n + 1, fun c => absurd c hg, fun _ => ⟨v9, ?_⟩⟩
        rw [c9]
        refine hM1 _ (hcs _ (hcs _ ⟨fun c => absurd c c2, fun _ => hcs _ ?_⟩))
        rw [if_neg c2]
        exact hn
theorem con_O {B T : Nat} (hT : T ≤ 4) (hB2 : 2 ≤ B) (hB8 : B ≤ 8) {G : Int32} {st om tr : Nat → Int32} (hp : pgOK st 0 G om tr) (hb : bOK (nI B) (nI T) om tr) : ∀ d j : Nat, j + d = T → ∀ (bm0 bb0 bt0 wa0 ko0 us0 uB0 uG0 uT0 : Int32) (uO0 uR0 wh0 ho0 iS0 lf0 we0 : Nat → Int32) (x2 x3 : Int32) (ba0 bi0 bo0 wb0 kb0 vi0 : Int32) (st0 pl0 le0 hz0 hm0 ps0 : Nat → Int32), (∀ i : Nat, st0 i = st i) →
    ∃ bm bb bt wa ko us uB uG uT uO uR wh ho iS lf we z2 z3 ba2 bi2 bo2 wb2 kb2 vi2 st2 pl2 le2 hz2 hm2 ps2,
      (∀ k : K18, k bm bb bt wa ko us uB uG uT uO uR wh ho iS lf we z2 z3 → ∃ n : Nat, C_convert_L32 (nI B) G (nI T) om tr k n bm0 bb0 bt0 wa0 ko0 us0 uB0 uG0 uT0 uO0 uR0 wh0 ho0 iS0 lf0 we0 x2 x3 (nI j)) ∧
      (∀ k : K14, k ba2 bi2 bo2 wb2 kb2 vi2 st2 pl2 le2 hz2 hm2 ps2 z2 z3 → ∃ n : Nat, M_convert_L27 (nI B) (nI T) M0_waits k n ba0 bi0 bo0 wb0 kb0 vi0 st0 pl0 le0 hz0 hm0 ps0 x2 x3 (nI j)) ∧
      (∀ i : Nat, st2 i = st i) := by
  intro d
  induction d with
  | zero =>
    intro j hj bm0 bb0 bt0 wa0 ko0 us0 uB0 uG0 uT0 uO0 uR0 wh0 ho0 iS0 lf0 we0 x2 x3 ba0 bi0 bo0 wb0 kb0 vi0 st0 pl0 le0 hz0 hm0 ps0 hst
    obtain rfl : j = T := by omega
    have e : nI j ≤ nI j := nI_le (Nat.le_refl _) (by omega)
    exact ⟨bm0, bb0, bt0, wa0, ko0, us0, uB0, uG0, uT0, uO0, uR0, wh0, ho0, iS0, lf0, we0, x2, x3, ba0, bi0, bo0, wb0, kb0, vi0, st0, pl0, le0, hz0, hm0, ps0, fun k hk => ⟨1, fun _ => hk, fun c => absurd e c⟩, fun k hk => ⟨1, fun _ => hk, fun c => absurd e c⟩, hst⟩
  | succ d ih =>
    intro j hj bm0 bb0 bt0 wa0 ko0 us0 uB0 uG0 uT0 uO0 uR0 wh0 ho0 iS0 lf0 we0 x2 x3 ba0 bi0 bo0 wb0 kb0 vi0 st0 pl0 le0 hz0 hm0 ps0 hst
    have hg : ¬ nI T ≤ nI j := nI_ge (by omega) (by omega)
    have c9 : ((9 : Int32) + nI j).toNatClampNeg = 9 + j := ad_c (a := 9) (by omega)
    have v9 : vp_in ((9 : Int32) + nI j) 125 := ad_v (a := 9) (by omega) (by omega)
    obtain ⟨bm3, bb3, bt3, wa3, ko3, us3, uB3, uG3, uT3, uO3, uR3, wh3, ho3, iS3, lf3, we3, y2, y3, ba3, bi3, bo3, wb3, kb3, vi3, st3, pl3, le3, hz3, hm3, ps3, hC1, hM1, hr1⟩ := con_I hT hB2 hB8 (show j < T by omega) hp hb 4 0 rfl bm0 bb0 bt0 wa0 ko0 us0 uB0 uG0 uT0 uO0 uR0 wh0 ho0 iS0 lf0 we0 x2 x3 ba0 bi0 bo0 wb0 kb0 vi0 st0 pl0 le0 hz0 hm0 ps0 (fun i _ => hst i)
    have hr3 : ∀ i : Nat, upd st3 (9 + j) (st0 (9 + j)) i = st i := by
      intro i
      by_cases e : i = 9 + j
      · rw [e, upd_eq]
        exact hst _
      · rw [upd_ne _ _ e]
        exact hr1 i e
    obtain ⟨bm5, bb5, bt5, wa5, ko5, us5, uB5, uG5, uT5, uO5, uR5, wh5, ho5, iS5, lf5, we5, z2, z3, ba2, bi2, bo2, wb2, kb2, vi2, st2, pl2, le2, hz2, hm2, ps2, hC, hM, hr⟩ := ih (j + 1) (by omega) bm3 bb3 bt3 wa3 ko3 us3 uB3 uG3 uT3 uO3 uR3 wh3 ho3 iS3 lf3 we3 y2 y3 ba3 bi3 bo3 wb3 kb3 vi3 (upd st3 (9 + j) (st0 (9 + j))) pl3 le3 hz3 hm3 ps3 hr3
    rw [nI_succ] at hC hM
    refine ⟨bm5, bb5, bt5, wa5, ko5, us5, uB5, uG5, uT5, uO5, uR5, wh5, ho5, iS5, lf5, we5, z2, z3, ba2, bi2, bo2, wb2, kb2, vi2, st2, pl2, le2, hz2, hm2, ps2, fun k hk => ?_, fun k hk => ?_, hr⟩
    · obtain ⟨n, hn⟩ := hC k hk
      exact ⟨n + 1, fun c => absurd c hg, fun _ => hC1 _ hn⟩
    · obtain ⟨n, hn⟩ := hM k hk
      refine ⟨n + 1, fun c => absurd c hg, fun _ => ⟨v9, hM1 _ ⟨v9, ?_⟩⟩⟩
      rw [c9]
      exact hn
theorem sok_convert : SOK_convert Inv := by
  intro kept locks seenMany bumpMinute bumpBlock bumpTrains waited keptOut used taped fault costSum safeSum allWays torn n_blocks n_guarded n_trains n_omen n_train t_blocks t_guarded t_trains t_omen t_train i0_blocks i0_guarded i0_trains i0_omen i0_train i1_blocks i1_guarded i1_trains i1_omen i1_train lockA seenA whr homes isSeen leftA were tape would m_blocks m_trainMany m_lockMany m_readBlocks m_readTrains m_readLockMany m_blocksTold m_omensTold m_highBlock m_taped m_fault m_broken m_brokenAt m_spot m_here m_token m_value m_bumpAt m_bumpIn m_bumpOf m_waited m_keptOut m_visited m_seenMany m_drawn m_torn m_state m_locks m_waits m_readPage m_readLocks m_tape m_cuts m_letters m_place m_left m_hasSeen m_homeAt m_places m_seen m_wouldBe m_isKept m_lanes m_lengths m_cells sh x1 hI
  obtain ⟨hB, hT, hL, htp, hft, hsm, htr, hw, hcu, hle, hlk, bok, pok, lok, aok, im0, im1, kok, tok, sok, hsh⟩ := hI
  subst hB hT hL htp hft hsm htr
  obtain ⟨B, hB2, hB8, rfl⟩ := ex_n (l := 2) (h := 8) bok.1 bok.2.1
  obtain ⟨T, hT0, hT4, rfl⟩ := ex_n (l := 0) (h := 4) bok.2.2.1 bok.2.2.2.1
  subst hw
  unfold C_convert M_convert
  rw [Min_C, show C_isPart_e x1 = C_in_e x1.toInt64 (0 : Int64) (1 : Int64) from rfl]
  refine ⟨fun c => ⟨fun _ => ⟨rfl, ⟨rfl, rfl, rfl, rfl, rfl, rfl, rfl, rfl, hcu, hle, hlk, bok, pok, lok, aok, im0, im1, kok, tok, sok, hsh⟩⟩, fun c2 => absurd c c2⟩, fun c => ?_⟩
  obtain ⟨bm, bb, bt, wa, ko, us, wh, ho, iS, lf, we, bi, bo, pl, le, hz, hm, ps, hC1, hM1, hN⟩ := run_y hT4 hB2 hB8 pok bok bumpMinute bumpBlock bumpTrains waited keptOut used m_bumpAt m_bumpIn m_bumpOf m_waited m_keptOut m_visited whr homes isSeen leftA were m_place m_left m_hasSeen m_homeAt m_places
  have he : ∀ t : Nat, t < 4 → ho t = hm t := fun t ht => (hN.2.1 t ht).1
  obtain ⟨bm5, bb5, bt5, wa5, ko5, us5, uB5, uG5, uT5, uO5, uR5, wh5, ho5, iS5, lf5, we5, z2, z3, ba2, bi2, bo2, wb2, kb2, vi2, st2, pl2, le2, hz2, hm2, ps2, hC, hM, hst2⟩ := con_O hT4 hB2 hB8 pok bok T 0 (Nat.zero_add _) bm bb bt wa ko us t_blocks t_guarded t_trains t_omen t_train wh ho iS lf we (csF ho n_train T) (-4) bm bi bo wa ko us m_state pl le hz hm ps (fun _ => rfl)
  have pok2 := pg_st (p := 0) (fun i _ _ => hst2 i) pok
  have im02 := im_st (fun i _ _ => hst2 i) im0
  have im12 := im_st (fun i _ _ => hst2 i) im1
  refine hC1 _ (csC_y hT4 (hC _ ⟨fun c2 => absurd c2 c, fun _ => hM1 _ (csM_y hT4 pok he (hM _ ⟨?_, ⟨rfl, rfl, rfl, rfl, rfl, rfl, rfl, rfl, hcu, hle, hlk, bok, pok2, lok, aok, im02, im12, kok, tok, sok, hsh⟩⟩))⟩))
  by_cases h : z3 = -4
  · rw [if_pos h, if_pos h, h]
  · rw [if_neg h, if_neg h]
