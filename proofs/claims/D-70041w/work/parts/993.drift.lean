set_option maxRecDepth 100000
def rnN (x : Int32) : Nat := x.toBitVec.toNat / 65536 % 32768
theorem dr_C (x : Int32) : ((((x).toUInt32 >>> (((16 : Int32)).toUInt32 &&& Int32.toUInt32 31)).toInt32) &&& (32767 : Int32)) = nI (rnN x) := by
  rw [pk_and _ 15 (by decide), pk_ushr x 16 16 (by decide)]
  rfl
theorem dr_M (x : Int32) : ((x >>> ((16 : Int32) &&& 31)) &&& (32767 : Int32)) = nI (rnN x) := by
  rw [pk_and _ 15 (by decide)]
  have h := pk_shr x ((16 : Int32) &&& 31) 16 (by decide)
  have h5 : (x >>> ((16 : Int32) &&& 31)).toInt = if 2 * (x >>> ((16 : Int32) &&& 31)).toBitVec.toNat < 2 ^ 32 then ((x >>> ((16 : Int32) &&& 31)).toBitVec.toNat : Int) else ((x >>> ((16 : Int32) &&& 31)).toBitVec.toNat : Int) - (2 ^ 32 : Nat) := BitVec.toInt_eq_toNat_cond _
  have h6 : x.toInt = if 2 * x.toBitVec.toNat < 2 ^ 32 then (x.toBitVec.toNat : Int) else (x.toBitVec.toNat : Int) - (2 ^ 32 : Nat) := BitVec.toInt_eq_toNat_cond _
  rw [h5, h6, Int.shiftRight_eq_div_pow] at h
  unfold rnN
  refine congrArg nI ?_
  clear h5 h6
  generalize (x >>> ((16 : Int32) &&& 31)).toBitVec.toNat = Y at *
  generalize x.toBitVec.toNat = X at *
  by_cases a : 2 * Y < 2 ^ 32
  · rw [if_pos a] at h
    by_cases b : 2 * X < 2 ^ 32
    · rw [if_pos b] at h
      omega
    · rw [if_neg b] at h
      omega
  · rw [if_neg a] at h
    by_cases b : 2 * X < 2 ^ 32
    · rw [if_pos b] at h
      omega
    · rw [if_neg b] at h
      omega
theorem rn_l (x : Int32) : rnN x < 32768 := Nat.mod_lt _ (by omega)
theorem hang_fin {B T L b v : Nat} (hB8 : B ≤ 8) (hL4 : L ≤ 4) (hb0 : b < B) (hv4 : v ≤ 4) {om tr st lk : Nat → Int32} {G : Int32} (bok : bOK (nI B) (nI T) om tr) (pok : pgOK st 0 G om tr) (lok : lkOK (nI L) (nI B) lk) (aok : alOK (nI L) lk om) (hor : v = 0 ∨ ¬ alF lk (hs om B ||| ((1 : Int32) <<< (nI b &&& 31))) L = 0) : bOK (nI B) (nI T) (upd om b (nI v)) tr ∧ pgOK (upd st b (nI v)) 0 G (upd om b (nI v)) tr ∧ alOK (nI L) lk (upd om b (nI v)) := by
  have tB := nI_toInt (n := B) (by omega)
  have tv := nI_toInt (n := v) (by omega)
  obtain ⟨g1, g2, g3, g4, g5, g6⟩ := bok
  refine ⟨⟨g1, g2, g3, g4, fun x hx => ?_, g6⟩, ⟨fun x hx => ?_, ?_, fun t ht w hw => ?_⟩, fun l hl => ?_⟩
  · by_cases e : x = b
    · rw [e, upd_eq]
      exact ⟨by omega, by omega, fun h => by omega⟩
    · rw [upd_ne _ _ e]
      exact g5 x hx
  · rw [Nat.zero_add]
    by_cases e : x = b
    · rw [e, upd_eq, upd_eq]
    · rw [upd_ne _ _ e, upd_ne _ _ e]
      exact pg_b pok hx
  · rw [upd_ne _ _ (by omega)]
    exact pok.2.1
  · rw [upd_ne _ _ (by omega)]
    exact pok.2.2 t ht w hw
  · have tL := nI_toInt (n := L) (by omega)
    have h3 := aok l hl
    have l0 := lok.2.2.1 (2 * l) (by omega)
    have l1 := lok.2.2.1 (2 * l + 1) (by omega)
    have lb := lok.2.2.2 l hl
    have e0 : lk (2 * l) = nI (lk (2 * l)).toInt.toNat := of_nn l0.1
    have e1 : lk (2 * l + 1) = nI (lk (2 * l + 1)).toInt.toNat := of_nn l1.1
    have hne := lb.2.2
    have hp : (lk (2 * l)).toInt.toNat < B := by omega
    have hq : (lk (2 * l + 1)).toInt.toNat < B := by omega
    rcases hor with h0 | h0
    · rw [h0]
      have hz : ∀ i : Nat, om i = 0 → upd om b (nI 0) i = 0 := by
        intro i hi
        by_cases e : i = b
        · rw [e, upd_eq]; rfl
        · rw [upd_ne _ _ e]; exact hi
      exact h3.imp (hz _) (hz _)
    · have h4 := (alF_iff lk _ L).mp h0 l (by omega)
      generalize (lk (2 * l)).toInt.toNat = p at *
      generalize (lk (2 * l + 1)).toInt.toNat = q at *
      rw [e0, e1] at h4 h3 hne ⊢
      rw [nI_clamp (by omega), nI_clamp (by omega)] at h3 ⊢
      rw [bz_or, bz_or, Int32.or_eq_zero_iff, Int32.or_eq_zero_iff, bz_bit b (by omega) p (by omega), bz_bit b (by omega) q (by omega), hs_bz om (by omega) B hB8, hs_bz om (by omega) B hB8] at h4
      rcases h4 with h4 | h4
      · left
        by_cases e : p = b
        · rw [if_pos e] at h4
          exact absurd h4.2 (by decide)
        · rw [upd_ne _ _ e]
          exact h4.1 hp
      · right
        by_cases e : q = b
        · rw [if_pos e] at h4
          exact absurd h4.2 (by decide)
        · rw [upd_ne _ _ e]
          exact h4.1 hq
theorem al_cg {L : Int32} {lk om om2 : Nat → Int32} (hk : ∀ l : Nat, l < 8 → 0 ≤ (lk l).toInt ∧ (lk l).toInt < 8) (hL : L.toInt ≤ 4) (ho : ∀ b : Nat, b < 8 → om2 b = om b) (h : alOK L lk om) : alOK L lk om2 := by
  intro l hl
  have l0 := hk (2 * l) (by omega)
  have l1 := hk (2 * l + 1) (by omega)
  rw [ho _ (by rw [cl_of]; omega), ho _ (by rw [cl_of]; omega)]
  exact h l hl
/-- a hanging, as both programs do it: what is hung behind it -/
theorem hang_y {B T L b v : Nat} (hB2 : 2 ≤ B) (hB8 : B ≤ 8) (hL4 : L ≤ 4) (hb0 : b < B) (hv4 : v ≤ 4) {om tr st lk lk2 : Nat → Int32} {G : Int32} (bok : bOK (nI B) (nI T) om tr) (pok : pgOK st 0 G om tr) (lok : lkOK (nI L) (nI B) lk) (aok : alOK (nI L) lk om) (he : ∀ l : Nat, l < 2 * L → lk2 l = lk l) :
    ∃ r w : Int32, ∃ st2 : Nat → Int32, (∀ Q : Int32 → Prop, Q r → C_canHang (nI L) lk (nI B) om (nI b) (nI v) Q) ∧ vp_nar .byte (if r = 0 then om b else (nI v).toInt8.toInt32) = w ∧
      (∀ Q : Int32 → (Nat → Int32) → Prop, (∀ m : Int32, Q m st2) → M_hangs (nI B) (nI L) st lk2 (nI b) (nI v) Q) ∧
      bOK (nI B) (nI T) (upd om b w) tr ∧ pgOK st2 0 G (upd om b w) tr ∧ alOK (nI L) lk (upd om b w) ∧ (∀ i : Nat, 25 ≤ i → st2 i = st i) := by
  have tB := nI_toInt (n := B) (by omega)
  have tL := nI_toInt (n := L) (by omega)
  have tv := nI_toInt (n := v) (by omega)
  have tb := nI_toInt (n := b) (by omega)
  have hho : ∀ Q : Int32 → Prop, Q (hs om B) → B_hung (nI B) om Q := fun Q hQ => hung_y hB8 om hQ
  have hmo : ∀ Q : Int32 → Prop, Q (hs om B) → M_omens (nI B) st Q := fun Q hQ => omens_y hB8 (fun b hb => ⟨pg_b pok hb, (bok.2.2.2.2.1 b hb).1⟩) hQ
  have cb : (nI b).toNatClampNeg = b := nI_clamp (by omega)
  have v125 : vp_in (nI b) 125 := vp_in_nI (by omega) (by omega)
  have en : vp_nar .byte ((nI v).toInt8.toInt32) = nI v := nb_id (by omega) (by omega)
  have ib : ¬ M_isBlock_e (nI B) (nI b) = 0 := by
    rw [show M_isBlock_e (nI B) (nI b) = C_in_e (nI b).toInt64 (0 : Int64) ((nI B) - (1 : Int32)).toInt64 from rfl, in_iff, nI_p B (by omega), Int32.toInt_toInt64, Int32.toInt_toInt64, tb, nI_toInt (by omega), z64]
    omega
  have iv : ¬ M_in_e (nI v).toInt64 (0 : Int64) (4 : Int64) = 0 := by
    rw [Min_C, in_iff, Int32.toInt_toInt64, tv, z64, show (4 : Int64).toInt = 4 from by decide]
    omega
  have hx2 : nI v ≤ 0 ↔ nI v = 0 := by
    constructor
    · intro h
      have := (nI_leI (a := v) (b := 0) (by omega) (by omega)).mp h
      rw [show v = 0 by omega]
      rfl
    · intro h
      rw [h]
      decide
  by_cases c3 : nI v = 0
  · have hv0 : v = 0 := (nI_eq (a := v) (b := 0) (by omega) (by omega)).mp c3
    obtain ⟨f2, f3, f4⟩ := hang_fin hB8 hL4 hb0 hv4 bok pok lok aok (Or.inl hv0)
    refine ⟨1, nI v, upd st b (nI v), fun Q hQ => ⟨fun _ => hQ, fun c => absurd c3 c⟩, ?_, fun Q hQ => ⟨fun c => absurd c ib, fun _ => ⟨fun c => absurd c iv, fun _ => ⟨fun _ => ⟨v125, v125, ?_⟩, fun c => absurd (hx2.mpr c3) c⟩⟩⟩, f2, f3, f4, fun i hi => upd_ne _ _ (by omega)⟩
    · rw [if_neg (by decide), en]
    · rw [cb]
      exact hQ _
  · have hi := hang_iff hB8 hL4 hb0 lok aok
    by_cases c5 : alF lk (hs om B ||| ((1 : Int32) <<< (nI b &&& 31))) L = 0
    · have ho : ∀ x : Nat, x < 8 → upd om b (om b) x = om x := by
        intro x _
        by_cases e : x = b
        · rw [e, upd_eq]
        · rw [upd_ne _ _ e]
      have hb := bok.2.2.2.2.1 b (by omega)
      refine ⟨0, om b, st, fun Q hQ => ⟨fun c => absurd c c3, fun _ => hho _ (alC_y hL4 ?_)⟩, ?_, fun Q hQ => ⟨fun c => absurd c ib, fun _ => ⟨fun c => absurd c iv, fun _ => ⟨fun c => absurd (hx2.mp c) c3, fun _ => lwM_y hL4 he (hmo _ ⟨fun c => absurd c5 (hi.mp c), fun _ => hQ _⟩)⟩⟩⟩, bo_cg ho (fun _ _ => rfl) bok, pg_cg ho (fun _ _ => rfl) pok, al_cg lok.2.2.1 (by omega) ho aok, fun _ _ => rfl⟩
      · rw [if_pos c5]
        exact hQ
      · rw [if_pos rfl]
        exact nar_id (by omega) (by omega)
    · obtain ⟨f2, f3, f4⟩ := hang_fin hB8 hL4 hb0 hv4 bok pok lok aok (Or.inr c5)
      refine ⟨1, nI v, upd st b (nI v), fun Q hQ => ⟨fun c => absurd c c3, fun _ => hho _ (alC_y hL4 ?_)⟩, ?_, fun Q hQ => ⟨fun c => absurd c ib, fun _ => ⟨fun c => absurd c iv, fun _ => ⟨fun c => absurd (hx2.mp c) c3, fun _ => lwM_y hL4 he (hmo _ ⟨fun _ => ⟨v125, v125, ?_⟩, fun c => absurd (hi.mpr c5) c⟩)⟩⟩⟩, f2, f3, f4, fun i hi => upd_ne _ _ (by omega)⟩
      · rw [if_neg c5]
        exact hQ
      · rw [if_neg (by decide), en]
      · rw [cb]
        exact hQ _
abbrev KD := Int32 → Int32 → Int32 → Int32 → Int32 → Int32 → (Nat → Int32) → (Nat → Int32) → (Nat → Int32) → (Nat → Int32) → (Nat → Int32) → (Nat → Int32) → Int32 → Int32 → Prop
abbrev KE := Int32 → Int32 → Int32 → Int32 → Int32 → Int32 → Int32 → (Nat → Int32) → (Nat → Int32) → (Nat → Int32) → (Nat → Int32) → (Nat → Int32) → (Nat → Int32) → Int32 → Int32 → Prop
theorem dri_L {B T L c : Nat} (hT : T ≤ 4) (hB2 : 2 ≤ B) (hB8 : B ≤ 8) (hL4 : L ≤ 4) (hc : c ≤ 20) {G : Int32} {st tr lk lk2 : Nat → Int32} (lok : lkOK (nI L) (nI B) lk) (he : ∀ l : Nat, l < 2 * L → lk2 l = lk l) : ∀ d j : Nat, j + d = c → ∀ (bm0 bb0 bt0 wa0 ko0 us0 : Int32) (uO0 wh0 ho0 iS0 lf0 we0 : Nat → Int32) (x5 x6 x7 : Int32) (ba0 bi0 bo0 wb0 kb0 vi0 : Int32) (st0 pl0 le0 hz0 hm0 ps0 : Nat → Int32), bOK (nI B) (nI T) uO0 tr → pgOK st0 0 G uO0 tr → alOK (nI L) lk uO0 → (∀ i : Nat, 25 ≤ i → st0 i = st i) →
    ∃ bm bb bt wa ko us uO wh ho iS lf we z6 z7 dw ba2 bi2 bo2 wb2 kb2 vi2 st2 pl2 le2 hz2 hm2 ps2,
      (∀ k : KD, k bm bb bt wa ko us uO wh ho iS lf we z6 z7 → ∃ n : Nat, C_drift_L48 (nI L) (nI B) G (nI T) tr lk (nI c) k n bm0 bb0 bt0 wa0 ko0 us0 uO0 wh0 ho0 iS0 lf0 we0 x5 x6 x7 (nI j)) ∧
      (∀ k : KE, k ba2 bi2 bo2 wb2 kb2 vi2 dw st2 pl2 le2 hz2 hm2 ps2 z6 z7 → ∃ n : Nat, M_drift_L45 (nI B) (nI T) (nI L) lk2 M0_waits (nI c) k n ba0 bi0 bo0 wb0 kb0 vi0 x5 st0 pl0 le0 hz0 hm0 ps0 x6 x7 (nI j)) ∧
      (∀ i : Nat, 25 ≤ i → st2 i = st i) := by
  intro d
  induction d with
  | zero =>
    intro j hj bm0 bb0 bt0 wa0 ko0 us0 uO0 wh0 ho0 iS0 lf0 we0 x5 x6 x7 ba0 bi0 bo0 wb0 kb0 vi0 st0 pl0 le0 hz0 hm0 ps0 hb hp ha hst
    obtain rfl : j = c := by omega
    have e : nI j ≤ nI j := nI_le (Nat.le_refl _) (by omega)
    exact ⟨bm0, bb0, bt0, wa0, ko0, us0, uO0, wh0, ho0, iS0, lf0, we0, x6, x7, x5, ba0, bi0, bo0, wb0, kb0, vi0, st0, pl0, le0, hz0, hm0, ps0, fun k hk => ⟨1, fun _ => hk, fun c => absurd e c⟩, fun k hk => ⟨1, fun _ => hk, fun c => absurd e c⟩, hst⟩
  | succ d ih =>
    intro j hj bm0 bb0 bt0 wa0 ko0 us0 uO0 wh0 ho0 iS0 lf0 we0 x5 x6 x7 ba0 bi0 bo0 wb0 kb0 vi0 st0 pl0 le0 hz0 hm0 ps0 hb hp ha hst
    have hg : ¬ nI c ≤ nI j := nI_ge (by omega) (by omega)
    have hB0 : ¬ nI B = 0 := nI_ne0 (by omega) (by omega)
    generalize hs1 : (x5 * (1103515245 : Int32)) + (12345 : Int32) = s1
    generalize hs2 : (s1 * (1103515245 : Int32)) + (12345 : Int32) = s2
    have r1 := rn_l s1
    have r2 := rn_l s2
    have m1 : nI (rnN s1) - nI (rnN s1) / nI B * nI B = nI (rnN s1 % B) := pk_rem (by omega) (by omega) (by omega)
    have m2 : nI (rnN s2) - nI (rnN s2) / (5 : Int32) * (5 : Int32) = nI (rnN s2 % 5) := pk_rem (d := 5) (by omega) (by omega) (by omega)
    have l1 : rnN s1 % B < B := Nat.mod_lt _ (by omega)
    have l2 : rnN s2 % 5 ≤ 4 := by have := Nat.mod_lt (rnN s2) (show 0 < 5 by omega); omega
    generalize rnN s1 % B = b at *
    generalize rnN s2 % 5 = v at *
    have cb : (nI b).toNatClampNeg = b := nI_clamp (by omega)
    have v8 : vp_in (nI b) 8 := vp_in_nI (by omega) (by omega)
    obtain ⟨r, w, st1, hcH, hw, hmH, hb1, hp1, ha1, hst1⟩ := hang_y (T := T) hB2 hB8 hL4 l1 l2 hb hp lok ha he
    obtain ⟨bm, bb, bt, wa, ko, us, wh, ho, iS, lf, we, bi, bo, pl, le, hz, hm, ps, hC1, hM1, hN⟩ := run_y hT hB2 hB8 hp1 hb1 bm0 bb0 bt0 wa0 ko0 us0 ba0 bi0 bo0 wb0 kb0 vi0 wh0 ho0 iS0 lf0 we0 pl0 le0 hz0 hm0 ps0
    have heq : ∀ t : Nat, t < 4 → ho t = hm t := fun t ht => (hN.2.1 t ht).1
    obtain ⟨bm5, bb5, bt5, wa5, ko5, us5, uO5, wh5, ho5, iS5, lf5, we5, z6, z7, dw, ba2, bi2, bo2, wb2, kb2, vi2, st2, pl2, le2, hz2, hm2, ps2, hC, hM, hr⟩ := ih (j + 1) (by omega) bm bb bt wa ko us (upd uO0 b w) wh ho iS lf we s2 (x6 + (if bm = (-4 : Int32) then (0 : Int32) else (1 : Int32))) (x7 + csF ho tr T) bm bi bo wa ko us st1 pl le hz hm ps hb1 hp1 ha1 (fun i hi => (hst1 i hi).trans (hst i hi))
    rw [nI_succ] at hC hM
    refine ⟨bm5, bb5, bt5, wa5, ko5, us5, uO5, wh5, ho5, iS5, lf5, we5, z6, z7, dw, ba2, bi2, bo2, wb2, kb2, vi2, st2, pl2, le2, hz2, hm2, ps2, fun k hk => ?_, fun k hk => ?_, hr⟩
    · obtain ⟨n, hn⟩ := hC k hk
      refine ⟨n + 1, fun c => absurd c hg, fun _ => ⟨hB0, ?_⟩⟩
      rw [hs1, hs2, dr_C, dr_C, m1, m2, cb]
      refine hcH _ ⟨fun _ => v8, v8, ?_⟩
      rw [hw]
      exact hC1 _ (csC_y hT hn)
    · obtain ⟨n, hn⟩ := hM k hk
      refine ⟨n + 1, fun c => absurd c hg, fun _ => ?_⟩
      unfold M_draws
      rw [hs1, dr_M, m1]
      refine ⟨hB0, ?_⟩
      show ¬ (5 : Int32) = 0 ∧ _
      rw [hs2, dr_M, m2]
      exact ⟨by decide, hmH _ (fun _ => hM1 _ (csM_y hT hp1 heq hn))⟩
theorem sok_drift : SOK_drift Inv := by
  intro kept locks seenMany bumpMinute bumpBlock bumpTrains waited keptOut used taped fault costSum safeSum allWays torn n_blocks n_guarded n_trains n_omen n_train t_blocks t_guarded t_trains t_omen t_train i0_blocks i0_guarded i0_trains i0_omen i0_train i1_blocks i1_guarded i1_trains i1_omen i1_train lockA seenA whr homes isSeen leftA were tape would m_blocks m_trainMany m_lockMany m_readBlocks m_readTrains m_readLockMany m_blocksTold m_omensTold m_highBlock m_taped m_fault m_broken m_brokenAt m_spot m_here m_token m_value m_bumpAt m_bumpIn m_bumpOf m_waited m_keptOut m_visited m_seenMany m_drawn m_torn m_state m_locks m_waits m_readPage m_readLocks m_tape m_cuts m_letters m_place m_left m_hasSeen m_homeAt m_places m_seen m_wouldBe m_isKept m_lanes m_lengths m_cells sh x1 x2 x3 hI
  obtain ⟨hB, hT, hL, htp, hft, hsm, htr, hw, hcu, hle, hlk, bok, pok, lok, aok, im0, im1, kok, tok, sok, hsh⟩ := hI
  subst hB hT hL htp hft hsm htr
  obtain ⟨B, hB2, hB8, rfl⟩ := ex_n (l := 2) (h := 8) bok.1 bok.2.1
  obtain ⟨T, hT0, hT4, rfl⟩ := ex_n (l := 0) (h := 4) bok.2.2.1 bok.2.2.2.1
  subst hw
  obtain ⟨L, hL0, hL4, rfl⟩ := ex_n (l := 0) (h := 4) lok.1 lok.2.1
  have hlk2 : ∀ l : Nat, l < 2 * L → m_locks l = lockA l := fun l hl => hlk l (by rw [nI_toInt (by omega)]; omega)
  unfold C_drift M_drift
  rw [Min_C, Min_C, show C_isPart_e x3 = C_in_e x3.toInt64 (0 : Int64) (1 : Int64) from rfl]
  refine ⟨fun c => ⟨fun _ => ⟨rfl, ⟨rfl, rfl, rfl, rfl, rfl, rfl, rfl, rfl, hcu, hle, hlk, bok, pok, lok, aok, im0, im1, kok, tok, sok, hsh⟩⟩, fun c2 => absurd c c2⟩, fun c => ⟨fun c2 => ⟨fun c3 => absurd c3 c, fun _ => ⟨fun _ => ⟨rfl, ⟨rfl, rfl, rfl, rfl, rfl, rfl, rfl, rfl, hcu, hle, hlk, bok, pok, lok, aok, im0, im1, kok, tok, sok, hsh⟩⟩, fun c3 => absurd c2 c3⟩⟩, fun c2 => ?_⟩⟩
  obtain ⟨n', -, hn, rfl⟩ := in_ix (a := 1) (b := 20) (by decide) (by decide) c
  obtain ⟨uO, uR, hA, hO, hR⟩ := as_y bok n_guarded t_blocks t_guarded t_trains t_omen t_train
  obtain ⟨s1, hcp, hcp1, hcp2⟩ := copies_y (a := 0) (b := 100) (by omega) (by omega) (by omega) m_state
  have hp1 : pgOK s1 0 n_guarded n_omen n_train := pg_st (p := 0) (fun i _ hi => hcp2 i (by omega)) pok
  have hp100 : pgOK s1 100 n_guarded n_omen n_train := pg_mv (a := 0) (b := 100) hcp1 pok
  have tL := nI_toInt (n := L) (by omega)
  obtain ⟨bm5, bb5, bt5, wa5, ko5, us5, uO5, wh5, ho5, iS5, lf5, we5, z6, z7, dw, ba2, bi2, bo2, wb2, kb2, vi2, st2, pl2, le2, hz2, hm2, ps2, hC, hM, hst2⟩ := dri_L hT4 hB2 hB8 hL4 hn (st := s1) lok hlk2 n' 0 (Nat.zero_add _) bumpMinute bumpBlock bumpTrains waited keptOut used uO whr homes isSeen leftA were x1 0 0 m_bumpAt m_bumpIn m_bumpOf m_waited m_keptOut m_visited s1 m_place m_left m_hasSeen m_homeAt m_places (bo_cg hO hR bok) (pg_cg hO hR hp1) (al_cg lok.2.2.1 (by omega) hO aok) (fun _ _ => rfl)
  obtain ⟨s4, hM4, k2, k3⟩ := copies_y (a := 100) (b := 0) (by omega) (by omega) (by omega) st2
  have hp3 : pgOK st2 100 n_guarded n_omen n_train := pg_st (p := 100) (fun i hi _ => hst2 i (by omega)) hp100
  have pok2 : pgOK s4 0 n_guarded n_omen n_train := pg_mv (a := 100) (b := 0) k2 hp3
  have hse : ∀ i : Nat, i < 100 → 25 ≤ i → s4 i = m_state i := fun i h1 h2 => (k3 i (by omega)).trans ((hst2 i h2).trans (hcp2 i (by omega)))
  have im02 := im_st (fun i h1 h2 => hse i (by omega) (by omega)) im0
  have im12 := im_st (fun i h1 h2 => hse i (by omega) (by omega)) im1
  exact hA _ (hC _ ⟨fun c3 => absurd c3 c, fun _ => ⟨fun c3 => absurd c3 c2, fun _ => hcp _ (hM _ (hM4 _ ⟨rfl, ⟨rfl, rfl, rfl, rfl, rfl, rfl, rfl, rfl, hcu, hle, hlk, bok, pok2, lok, aok, im02, im12, kok, tok, sok, hsh⟩⟩))⟩⟩)
