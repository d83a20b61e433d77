set_option maxRecDepth 100000
abbrev K16 := Int32 → Int32 → Int32 → Int32 → Int32 → Int32 → Int32 → Int32 → Int32 → (Nat → Int32) → (Nat → Int32) → (Nat → Int32) → (Nat → Int32) → (Nat → Int32) → (Nat → Int32) → (Nat → Int32) → Prop
abbrev K18 := Int32 → Int32 → Int32 → Int32 → Int32 → Int32 → Int32 → Int32 → Int32 → (Nat → Int32) → (Nat → Int32) → (Nat → Int32) → (Nat → Int32) → (Nat → Int32) → (Nat → Int32) → (Nat → Int32) → Int32 → Int32 → Prop
abbrev K13 := Int32 → Int32 → Int32 → Int32 → Int32 → Int32 → (Nat → Int32) → (Nat → Int32) → (Nat → Int32) → (Nat → Int32) → (Nat → Int32) → (Nat → Int32) → Int32 → Prop
abbrev K14 := Int32 → Int32 → Int32 → Int32 → Int32 → Int32 → (Nat → Int32) → (Nat → Int32) → (Nat → Int32) → (Nat → Int32) → (Nat → Int32) → (Nat → Int32) → Int32 → Int32 → Prop
theorem rg_y {B T : Nat} (hT : T ≤ 4) (hB2 : 2 ≤ B) (hB8 : B ≤ 8) {G : Int32} {st om tr : Nat → Int32} (hp : pgOK st 0 G om tr) (hb : bOK (nI B) (nI T) om tr) (G0 x : Int32) (bm0 bb0 bt0 wa0 ko0 us0 uB0 uG0 uT0 : Int32) (uO0 uR0 wh0 ho0 iS0 lf0 we0 : Nat → Int32) (ba0 bi0 bo0 wb0 kb0 vi0 : Int32) (st0 pl0 le0 hz0 hm0 ps0 : Nat → Int32) :
    ∃ bm bb bt wa ko us uO uR wh ho iS lf we bi bo pl le hz hm ps,
      (∀ Q : K16, Q bm bb bt wa ko us (nI B) x (nI T) uO uR wh ho iS lf we → C_runsGuarded bm0 bb0 bt0 wa0 ko0 us0 (nI B) G0 (nI T) om tr uB0 uG0 uT0 uO0 uR0 wh0 ho0 iS0 lf0 we0 x Q) ∧
      (∀ Q : K11, Q bm bi bo wa ko us pl le hz hm ps → M_run (nI B) (nI T) ba0 bi0 bo0 wb0 kb0 vi0 (upd st (8 : Int32).toNatClampNeg x) M0_waits pl0 le0 hz0 hm0 ps0 Q) ∧
      RN x B T bm bb bt bi bo ho we hm ps ∧ (∀ b : Nat, b < 8 → uO b = om b) ∧ (∀ i : Nat, i < 16 → uR i = tr i) := by
  obtain ⟨om2, tr2, hA, ho2, ht2⟩ := as_y hb G0 uB0 uG0 uT0 uO0 uR0
  have hp2 : pgOK (upd st (8 : Int32).toNatClampNeg x) 0 x om2 tr2 := pg_cg ho2 ht2 (pg_G hp)
  obtain ⟨bm, bb, bt, wa, ko, us, wh, ho, iS, lf, we, bi, bo, pl, le, hz, hm, ps, hC, hM, hN⟩ := run_y hT hB2 hB8 hp2 (bo_cg ho2 ht2 hb) bm0 bb0 bt0 wa0 ko0 us0 ba0 bi0 bo0 wb0 kb0 vi0 wh0 ho0 iS0 lf0 we0 pl0 le0 hz0 hm0 ps0
  exact ⟨bm, bb, bt, wa, ko, us, om2, tr2, wh, ho, iS, lf, we, bi, bo, pl, le, hz, hm, ps, fun Q hQ => hA _ (hC _ hQ), hM, hN, ho2, ht2⟩
/-- the best so far: the one program keeps its bits and itself, the other itself alone -/
def FR (x2 x3 y : Int32) : Prop := (x2 = 1000000 ∧ y = -4) ∨ ∃ q : Nat, q < 256 ∧ y = nI q ∧ x3 = nI q ∧ x2 = bsF (nI q) 8
theorem FR_cmp {x2 x3 y : Int32} (h : FR x2 x3 y) {j : Nat} (hj : j < 256) : ∃ v : Int32, (∀ Q : Int32 → Prop, Q v → M_isFewer (nI j) y Q) ∧ (x2 ≤ bsF (nI j) 8 → v = 0) ∧ (¬ x2 ≤ bsF (nI j) 8 → v = 1) := by
  rcases h with ⟨h1, h2⟩ | ⟨q, hq, h1, h2, h3⟩
  · refine ⟨1, fun Q hQ => ⟨fun _ => hQ, fun c => absurd h2 c⟩, fun c => ?_, fun _ => rfl⟩
    have hr := bs_r j hj
    rw [h1, Int32.le_iff_toInt_le, show (1000000 : Int32).toInt = 1000000 from by decide] at c
    omega
  · refine ⟨if bsF (nI q) 8 ≤ bsF (nI j) 8 then (0 : Int32) else (1 : Int32), fun Q hQ => ⟨fun c => ?_, fun _ => ?_⟩, fun c => ?_, fun c => ?_⟩
    · rw [h1] at c
      exact absurd c (n4_ne (by omega))
    · rw [h1]
      exact bits_y (bits_y hQ)
    · rw [h3] at c
      rw [if_pos c]
    · rw [h3] at c
      rw [if_neg c]
theorem few_L {B T : Nat} (hT : T ≤ 4) (hB2 : 2 ≤ B) (hB8 : B ≤ 8) {G : Int32} {st om tr : Nat → Int32} (hp : pgOK st 0 G om tr) (hb : bOK (nI B) (nI T) om tr) : ∀ d j : Nat, j + d = 2 ^ B → ∀ (bm0 bb0 bt0 wa0 ko0 us0 uB0 uG0 uT0 : Int32) (uO0 uR0 wh0 ho0 iS0 lf0 we0 : Nat → Int32) (x2 x3 : Int32) (ba0 bi0 bo0 wb0 kb0 vi0 : Int32) (st0 pl0 le0 hz0 hm0 ps0 : Nat → Int32) (y : Int32), (∀ i : Nat, i ≠ 8 → st0 i = st i) → FR x2 x3 y → (j = 2 ^ B → y ≠ -4) →
    ∃ bm bb bt wa ko us uB uG uT uO uR wh ho iS lf we z2 z3 ba2 bi2 bo2 wb2 kb2 vi2 st2 pl2 le2 hz2 hm2 ps2 y2,
      (∀ k : K18, k bm bb bt wa ko us uB uG uT uO uR wh ho iS lf we z2 z3 → ∃ n : Nat, C_fewest_L17 (nI B) G (nI T) om tr k n bm0 bb0 bt0 wa0 ko0 us0 uB0 uG0 uT0 uO0 uR0 wh0 ho0 iS0 lf0 we0 x2 x3 (nI j)) ∧
      (∀ k : K13, k ba2 bi2 bo2 wb2 kb2 vi2 st2 pl2 le2 hz2 hm2 ps2 y2 → ∃ n : Nat, M_fewest_L26 (nI B) (nI T) M0_waits k n ba0 bi0 bo0 wb0 kb0 vi0 st0 pl0 le0 hz0 hm0 ps0 y (nI j)) ∧
      (∀ i : Nat, i ≠ 8 → st2 i = st i) ∧ FR z2 z3 y2 ∧ y2 ≠ -4 := by
  have hpw := pw_le B hB8
  intro d
  induction d with
  | zero =>
    intro j hj bm0 bb0 bt0 wa0 ko0 us0 uB0 uG0 uT0 uO0 uR0 wh0 ho0 iS0 lf0 we0 x2 x3 ba0 bi0 bo0 wb0 kb0 vi0 st0 pl0 le0 hz0 hm0 ps0 y hst hF hy
    have e : (1 : Int32) <<< (nI B &&& 31) ≤ nI j := by
      rw [pw_B B hB8]
      exact nI_le (by omega) (by omega)
    exact ⟨bm0, bb0, bt0, wa0, ko0, us0, uB0, uG0, uT0, uO0, uR0, wh0, ho0, iS0, lf0, we0, x2, x3, ba0, bi0, bo0, wb0, kb0, vi0, st0, pl0, le0, hz0, hm0, ps0, y, fun k hk => ⟨1, fun _ => hk, fun c => absurd e c⟩, fun k hk => ⟨1, fun _ => hk, fun c => absurd e c⟩, hst, hF, hy (by omega)⟩
  | succ d ih =>
    intro j hj bm0 bb0 bt0 wa0 ko0 us0 uB0 uG0 uT0 uO0 uR0 wh0 ho0 iS0 lf0 we0 x2 x3 ba0 bi0 bo0 wb0 kb0 vi0 st0 pl0 le0 hz0 hm0 ps0 y hst hF hy
    have hg : ¬ (1 : Int32) <<< (nI B &&& 31) ≤ nI j := by
      rw [pw_B B hB8]
      exact nI_ge (by omega) (by omega)
    have hj2 : j < 256 := by omega
    obtain ⟨v, hv, hv0, hv1⟩ := FR_cmp hF hj2
    by_cases c1 : x2 ≤ bsF (nI j) 8
    · have hv2 := hv0 c1
      have hyn : y ≠ -4 := by
        intro h
        rcases hF with ⟨h1, _⟩ | ⟨q, hq, h1, _⟩
        · have hr := bs_r j hj2
          rw [h1, Int32.le_iff_toInt_le, show (1000000 : Int32).toInt = 1000000 from by decide] at c1
          omega
        · rw [h1] at h
          exact n4_ne (by omega) h
      obtain ⟨bm, bb, bt, wa, ko, us, uB, uG, uT, uO, uR, wh, ho, iS, lf, we, z2, z3, ba2, bi2, bo2, wb2, kb2, vi2, st2, pl2, le2, hz2, hm2, ps2, y2, hC, hM, hst2, hF2, hy2⟩ := ih (j + 1) (by omega) bm0 bb0 bt0 wa0 ko0 us0 uB0 uG0 uT0 uO0 uR0 wh0 ho0 iS0 lf0 we0 x2 x3 ba0 bi0 bo0 wb0 kb0 vi0 st0 pl0 le0 hz0 hm0 ps0 y hst hF (fun _ => hyn)
      rw [nI_succ] at hC hM
      refine ⟨bm, bb, bt, wa, ko, us, uB, uG, uT, uO, uR, wh, ho, iS, lf, we, z2, z3, ba2, bi2, bo2, wb2, kb2, vi2, st2, pl2, le2, hz2, hm2, ps2, y2, fun k hk => ?_, fun k hk => ?_, hst2, hF2, hy2⟩
      · obtain ⟨n, hn⟩ := hC k hk
        exact ⟨n + 1, fun c => absurd c hg, fun _ => bc_y hj2 ⟨fun _ => hn, fun c => absurd c1 c⟩⟩
      · obtain ⟨n, hn⟩ := hM k hk
        exact ⟨n + 1, fun c => absurd c hg, fun _ => hv _ ⟨fun _ => hn, fun c => absurd hv2 c⟩⟩
    · have hv2 : ¬ v = 0 := by rw [hv1 c1]; decide
      have hp0 : pgOK st0 0 (st0 8) om tr := ⟨fun b h => (hst _ (by omega)).trans (hp.1 b h), rfl, fun t h1 w h2 => (hst _ (by omega)).trans (hp.2.2 t h1 w h2)⟩
      obtain ⟨bm, bb, bt, wa, ko, us, uO, uR, wh, ho, iS, lf, we, bi, bo, pl, le, hz, hm, ps, hC1, hM1, hN, hO, hR⟩ := rg_y hT hB2 hB8 hp0 hb G (nI j) bm0 bb0 bt0 wa0 ko0 us0 uB0 uG0 uT0 uO0 uR0 wh0 ho0 iS0 lf0 we0 ba0 bi0 bo0 wb0 kb0 vi0 st0 pl0 le0 hz0 hm0 ps0
      have hst1 : ∀ i : Nat, i ≠ 8 → upd st0 (8 : Int32).toNatClampNeg (nI j) i = st i := fun i hi => (upd_ne _ _ hi).trans (hst i hi)
      by_cases c2 : bm = -4
      · have hF1 : FR (bsF (nI j) 8) (nI j) (nI j) := Or.inr ⟨j, hj2, rfl, rfl, rfl⟩
        obtain ⟨bm5, bb5, bt5, wa5, ko5, us5, uB5, uG5, uT5, uO5, uR5, wh5, ho5, iS5, lf5, we5, z2, z3, ba2, bi2, bo2, wb2, kb2, vi2, st2, pl2, le2, hz2, hm2, ps2, y2, hC, hM, hst2, hF2, hy2⟩ := ih (j + 1) (by omega) bm bb bt wa ko us (nI B) (nI j) (nI T) uO uR wh ho iS lf we (bsF (nI j) 8) (nI j) bm bi bo wa ko us (upd st0 (8 : Int32).toNatClampNeg (nI j)) pl le hz hm ps (nI j) hst1 hF1 (fun _ => n4_ne (by omega))
        rw [nI_succ] at hC hM
        refine ⟨bm5, bb5, bt5, wa5, ko5, us5, uB5, uG5, uT5, uO5, uR5, wh5, ho5, iS5, lf5, we5, z2, z3, ba2, bi2, bo2, wb2, kb2, vi2, st2, pl2, le2, hz2, hm2, ps2, y2, fun k hk => ?_, fun k hk => ?_, hst2, hF2, hy2⟩
        · obtain ⟨n, hn⟩ := hC k hk
          refine ⟨n + 1, fun c => absurd c hg, fun _ => bc_y hj2 ⟨fun c => absurd c c1, fun _ => hC1 _ ⟨fun _ => bc_y hj2 ?_, fun c => absurd c2 c⟩⟩⟩
          rw [if_pos c2]
          exact hn
        · obtain ⟨n, hn⟩ := hM k hk
          refine ⟨n + 1, fun c => absurd c hg, fun _ => hv _ ⟨fun c => absurd c hv2, fun _ => hM1 _ ?_⟩⟩
          rw [if_pos c2]
          exact hn
      · have hlast : j + 1 = 2 ^ B → y ≠ -4 := fun e => absurd (hN.1.2.2 (by rw [show j = 2 ^ B - 1 by omega]; exact pw_all B hB8)) c2
        obtain ⟨bm5, bb5, bt5, wa5, ko5, us5, uB5, uG5, uT5, uO5, uR5, wh5, ho5, iS5, lf5, we5, z2, z3, ba2, bi2, bo2, wb2, kb2, vi2, st2, pl2, le2, hz2, hm2, ps2, y2, hC, hM, hst2, hF2, hy2⟩ := ih (j + 1) (by omega) bm bb bt wa ko us (nI B) (nI j) (nI T) uO uR wh ho iS lf we x2 x3 bm bi bo wa ko us (upd st0 (8 : Int32).toNatClampNeg (nI j)) pl le hz hm ps y hst1 hF hlast
        rw [nI_succ] at hC hM
        refine ⟨bm5, bb5, bt5, wa5, ko5, us5, uB5, uG5, uT5, uO5, uR5, wh5, ho5, iS5, lf5, we5, z2, z3, ba2, bi2, bo2, wb2, kb2, vi2, st2, pl2, le2, hz2, hm2, ps2, y2, fun k hk => ?_, fun k hk => ?_, hst2, hF2, hy2⟩
        · obtain ⟨n, hn⟩ := hC k hk
          refine ⟨n + 1, fun c => absurd c hg, fun _ => bc_y hj2 ⟨fun c => absurd c c1, fun _ => hC1 _ ⟨fun c => absurd c c2, fun _ => ?_⟩⟩⟩
          rw [if_neg c2]
          exact hn
        · obtain ⟨n, hn⟩ := hM k hk
          refine ⟨n + 1, fun c => absurd c hg, fun _ => hv _ ⟨fun c => absurd c hv2, fun _ => hM1 _ ?_⟩⟩
          rw [if_neg c2]
          exact hn
theorem sok_fewest : SOK_fewest Inv := by
  intro kept locks seenMany bumpMinute bumpBlock bumpTrains waited keptOut used taped fault costSum safeSum allWays torn n_blocks n_guarded n_trains n_omen n_train t_blocks t_guarded t_trains t_omen t_train i0_blocks i0_guarded i0_trains i0_omen i0_train i1_blocks i1_guarded i1_trains i1_omen i1_train lockA seenA whr homes isSeen leftA were tape would m_blocks m_trainMany m_lockMany m_readBlocks m_readTrains m_readLockMany m_blocksTold m_omensTold m_highBlock m_taped m_fault m_broken m_brokenAt m_spot m_here m_token m_value m_bumpAt m_bumpIn m_bumpOf m_waited m_keptOut m_visited m_seenMany m_drawn m_torn m_state m_locks m_waits m_readPage m_readLocks m_tape m_cuts m_letters m_place m_left m_hasSeen m_homeAt m_places m_seen m_wouldBe m_isKept m_lanes m_lengths m_cells sh x1 hI
  obtain ⟨hB, hT, hL, htp, hft, hsm, htr, hw, hcu, hle, hlk, bok, pok, lok, aok, im0, im1, kok, tok, sok, hsh⟩ := hI
  subst hB hT hL htp hft hsm htr
  obtain ⟨B, hB2, hB8, rfl⟩ := ex_n (l := 2) (h := 8) bok.1 bok.2.1
  obtain ⟨T, hT0, hT4, rfl⟩ := ex_n (l := 0) (h := 4) bok.2.2.1 bok.2.2.2.1
  subst hw
  unfold C_fewest M_fewest
  rw [Min_C, show C_isPart_e x1 = C_in_e x1.toInt64 (0 : Int64) (1 : Int64) from rfl]
  refine ⟨fun c => ⟨fun _ => ⟨rfl, ⟨rfl, rfl, rfl, rfl, rfl, rfl, rfl, rfl, hcu, hle, hlk, bok, pok, lok, aok, im0, im1, kok, tok, sok, hsh⟩⟩, fun c2 => absurd c c2⟩, fun c => ?_⟩
  obtain ⟨bm, bb, bt, wa, ko, us, uB, uG, uT, uO, uR, wh, ho, iS, lf, we, z2, z3, ba2, bi2, bo2, wb2, kb2, vi2, st2, pl2, le2, hz2, hm2, ps2, y2, hC, hM, hst2, hF2, hy2⟩ := few_L hT4 hB2 hB8 pok bok (2 ^ B) 0 (Nat.zero_add _) bumpMinute bumpBlock bumpTrains waited keptOut used t_blocks t_guarded t_trains t_omen t_train whr homes isSeen leftA were 1000000 0 m_bumpAt m_bumpIn m_bumpOf m_waited m_keptOut m_visited m_state m_place m_left m_hasSeen m_homeAt m_places (-4) (fun _ _ => rfl) (Or.inl ⟨rfl, rfl⟩) (fun e => by have := (pw_le B hB8).2; omega)
  have hse : ∀ i : Nat, upd st2 (8 : Int32).toNatClampNeg (m_state (8 : Int32).toNatClampNeg) i = m_state i := by
    intro i
    by_cases e : i = 8
    · rw [e]
      exact upd_eq _ _ _
    · exact (upd_ne _ _ e).trans (hst2 i e)
  have pok2 := pg_st (p := 0) (fun i _ _ => hse i) pok
  have im02 := im_st (fun i _ _ => hse i) im0
  have im12 := im_st (fun i _ _ => hse i) im1
  obtain ⟨q, hq, e1, e2, e3⟩ : ∃ q : Nat, q < 256 ∧ y2 = nI q ∧ z3 = nI q ∧ z2 = bsF (nI q) 8 := by
    rcases hF2 with ⟨_, h⟩ | h
    · exact absurd h hy2
    · exact h
  refine hC _ ⟨fun c2 => absurd c2 c, fun _ => hM _ ⟨fun c2 => absurd c2 hy2, fun _ => ⟨fun h1 => ⟨?_, ⟨rfl, rfl, rfl, rfl, rfl, rfl, rfl, rfl, hcu, hle, hlk, bok, pok2, lok, aok, im02, im12, kok, tok, sok, hsh⟩⟩, fun h1 => ?_⟩⟩⟩
  · rw [h1, if_neg (by decide), e1, e2]
  · have h0 : x1 = 0 := by
      obtain ⟨t, -, ht, rfl⟩ := in_ix (a := 0) (b := 1) (by decide) (by decide) c
      have : t = 0 ∨ t = 1 := by omega
      rcases this with rfl | rfl
      · rfl
      · exact absurd rfl h1
    refine bits_y ⟨?_, ⟨rfl, rfl, rfl, rfl, rfl, rfl, rfl, rfl, hcu, hle, hlk, bok, pok2, lok, aok, im02, im12, kok, tok, sok, hsh⟩⟩
    rw [if_pos h0, e1, e3]
