set_option maxRecDepth 100000
theorem z_bz (v : Int32) : bz 0 v = 0 := by
  unfold bz
  rw [Int32.zero_shiftRight, Int32.zero_and]
abbrev KLk := Int32 → Int32 → Int32 → Int32 → Int32 → Int32 → (Nat → Int32) → Prop
theorem bJ34 {ml : Nat} (hm : ml < 4) {n hb br ba sp he to va x1 : Int32} {b rL : Nat → Int32} (hk : BK br) : ∃ (h2 : Int32) (z : Nat → Int32), ∀ Q : Int32 → Int32 → Int32 → Int32 → Int32 → Int32 → Int32 → Int32 → (Nat → Int32) → Prop, Q (nI ml + (1 : Int32)) h2 br ba sp he to va z → M_readLock_J34 (nI ml) hb n br ba sp he to va rL b x1 Q := by
  obtain ⟨h2, h⟩ := bblk (n := n) (hb := hb) (br := br) (ba := ba) (sp := sp) (he := he) (to := to) (va := va) (x1 := 0) (b := b) hk
  refine ⟨h2, _, fun Q hQ => ⟨?_, h _ ⟨?_, hQ⟩⟩⟩
  · rw [nI_2]
    exact vp_in_nI (by omega) (by omega)
  · rw [nI_2, nI_1]
    exact vp_in_nI (by omega) (by omega)
theorem lock_y {N lo q f kb nt ml : Nat} (hN : N ≤ 160) (hm : ml < 4) {a b : Nat → Int32} (tp : TP N a b) {s vC vM ba oB hi hb kg : Int32} {kO kT lA rP rL : Nat → Int32} (hT : TK N lo q f s vC vM) (hR : RK nt ml oB hi hb kg kO kT lA rP rL) :
    (∃ (q2 f2 : Nat) (s2 vC2 vM2 hi2 hb2 : Int32) (lA2 rL2 : Nat → Int32), TK N lo q2 f2 s2 vC2 vM2 ∧ RK nt (ml + 1) oB hi2 hb2 kg kO kT lA2 rP rL2 ∧ (∀ (Q : KLk) (X : KX), Q (nI (ml + 1)) hi2 (nI q2) (nI f2) s2 vC2 lA2 → R_lock (nI N) (nI ml) hi (nI q) (nI f) s vC lA a Q X) ∧
      (∀ Q : KMo, Q (nI kb) (nI nt) (nI (ml + 1)) oB hb2 0 ba (nI q2) (nI f2) s2 vM2 rP rL2 → M_readMore (nI kb) (nI nt) (nI ml) oB hb (nI N) 0 ba (nI q) (nI f) s vM rP rL b M0_cuts M0_letters (nI 10) Q)) ∨
    (∃ xc xp y1 y2 y3 y4 y5 sp he to va : Int32, ∃ z1 z2 : Nat → Int32, BK xc ∧ (∀ (Q : KLk) (X : KX), X xc xp → R_lock (nI N) (nI ml) hi (nI q) (nI f) s vC lA a Q X) ∧
      (∀ Q : KMo, Q y1 y2 y3 y4 y5 xc xp sp he to va z1 z2 → M_readMore (nI kb) (nI nt) (nI ml) oB hb (nI N) 0 ba (nI q) (nI f) s vM rP rL b M0_cuts M0_letters (nI 10) Q)) := by
  have hMM : ∀ Q : KMo, M_readLock (nI ml) hb (nI N) 0 ba (nI q) (nI f) s vM rL b (fun readLockMany_6 highBlock_7 broken_8 brokenAt_9 spot_10 here_11 token_12 value_13 readLocks_14 => Q (nI kb) (nI nt) readLockMany_6 oB highBlock_7 broken_8 brokenAt_9 spot_10 here_11 token_12 value_13 rP readLocks_14) → M_readMore (nI kb) (nI nt) (nI ml) oB hb (nI N) 0 ba (nI q) (nI f) s vM rP rL b M0_cuts M0_letters (nI 10) Q := fun Q h => ⟨fun _ => ⟨fun _ => ⟨fun c => absurd c (by decide), fun _ => ⟨fun c => absurd c (by decide), fun _ => h⟩⟩, fun c => absurd (show (7 : Int32) < nI 10 by decide) c⟩, fun c => absurd (show (3 : Int32) < nI 10 by decide) c⟩
  have e2 : (2 : Int32) * nI ml = nI (2 * ml) := nI_2 ml
  have c2 : (nI (2 * ml)).toNatClampNeg = 2 * ml := nI_clamp (by omega)
  have c3 : (nI (2 * ml) + (1 : Int32)).toNatClampNeg = 2 * ml + 1 := by rw [nI_1, nI_clamp (by omega)]
  have v2 : vp_in (nI (2 * ml)) 8 := vp_in_nI (by omega) (by omega)
  have v3 : vp_in (nI (2 * ml) + (1 : Int32)) 8 := by rw [nI_1]; exact vp_in_nI (by omega) (by omega)
  have en : ∀ x : Nat, x < 8 → vp_nar .byte ((nI x).toInt8.toInt32) = nI x := fun x hx => nb_id (by rw [nI_toInt (by omega)]; omega) (by rw [nI_toInt (by omega)]; omega)
  rcases blk_y hN tp hT hi hb 0 (ba := ba) with ⟨v, q2, f2, s2, vC2, vM2, hv, hz, hT2, h1, h2, hA, hC, hM⟩ | ⟨xc, xp, r, h2, sp, he, to, va, hx, hr, hC, hM⟩
  · have hU := HB_up hR.2.2.1 hv
    have tv := nI_toInt (n := v) (by omega)
    by_cases c : s2 = 2 ∧ vM2 = nI v
    · have ev : vC2 = nI v := (hT2.2.2.1 c.1).trans c.2
      obtain ⟨h3, z, hJ⟩ := bJ34 hm (n := nI N) (hb := hbU hb v) (br := 3) (ba := nI f2) (sp := nI q2) (he := nI f2) (to := s2) (va := vM2) (x1 := nI v) (b := b) (rL := rL) bk3
      refine Or.inr ⟨3, nI f2, nI kb, nI nt, nI ml + (1 : Int32), oB, h3, nI q2, nI f2, s2, vM2, rP, z, bk3, fun Q X hX => hA _ X (hC _ X (look_k c.1 ?_ (need_0 ?_ hX))), fun Q hQ => hMM Q (hM _ ⟨fun _ => ⟨fun _ => ⟨fun _ => fails_0 (hJ _ hQ), fun c3 => absurd c.2 c3⟩, fun c3 => absurd c.1 c3⟩, fun c3 => absurd rfl c3⟩)⟩
      · rw [ev]
        have e : C_in_e (nI v).toInt64 (0 : Int32).toInt64 (7 : Int32).toInt64 = 0 ↔ _ := in_iff
        rw [e, Int32.toInt_toInt64, Int32.toInt_toInt64, Int32.toInt_toInt64, tv, show (0 : Int32).toInt = 0 from by decide, show (7 : Int32).toInt = 7 from by decide]
        omega
      · exact if_pos ev
    · have hgo : ∀ Q, M_readLock_J34 (nI ml) (hbU hb v) (nI N) 0 ba (nI q2) (nI f2) s2 vM2 rL b (nI v) Q → ((0 : Int32) = 0 → ((s2 = (2 : Int32) → ((vM2 = nI v → (M_fails 0 ba (nI f2) (3 : Int32) (fun broken_23 brokenAt_24 => (M_readLock_J34 (nI ml) (hbU hb v) (nI N) broken_23 brokenAt_24 (nI q2) (nI f2) s2 vM2 rL b (nI v) Q)))) ∧ (¬ (vM2 = nI v) → (M_readLock_J34 (nI ml) (hbU hb v) (nI N) 0 ba (nI q2) (nI f2) s2 vM2 rL b (nI v) Q)))) ∧ (¬ (s2 = (2 : Int32)) → (M_readLock_J34 (nI ml) (hbU hb v) (nI N) 0 ba (nI q2) (nI f2) s2 vM2 rL b (nI v) Q)))) ∧ (¬ ((0 : Int32) = 0) → (M_readLock_J34 (nI ml) (hbU hb v) (nI N) 0 ba (nI q2) (nI f2) s2 vM2 rL b (nI v) Q)) := fun Q h => ⟨fun _ => ⟨fun g1 => ⟨fun g2 => absurd ⟨g1, g2⟩ c, fun _ => h⟩, fun _ => h⟩, fun _ => h⟩
      rcases blk_y hN tp hT2 (hiU hi v) (hbU hb v) 0 (ba := ba) with ⟨u, q3, f3, s3, vC3, vM3, hu, hz2, hT3, k1, k2, hA2, hC2, hM2⟩ | ⟨xc, xp, r, h2, sp, he, to, va, hx, hr, hC2, hM2⟩
      · have hne : u ≠ v := fun e => c ⟨k1, by rw [← hT2.2.2.1 k1, k2, e]⟩
        have hne2 : ¬ nI u = nI v := fun e => hne ((nI_eq (by omega) (by omega)).mp e)
        have hU2 := HB_up hU.1 hu
        have hRR := RK_lock (RK_hb (RK_hb hR hU.1 hU.2.2) hU2.1 hU2.2.2) hm hv hu (fun e => hne e.symm) (by omega) hU2.2.1
        refine Or.inl ⟨q3, f3, s3, vC3, vM3, hiU (hiU hi v) u, hbU (hbU hb v) u, _, _, hT3, hRR, fun Q X hQ => hA _ X (hC _ X (hA2 _ X (need_1 ?_ (hC2 _ X ?_)))), fun Q hQ => hMM Q (hM _ (hgo _ ⟨?_, hM2 _ ⟨?_, ?_⟩⟩))⟩
        · rw [if_neg hne2]
          decide
        · rw [e2, c2, c3, en v hv, en u hu]
          exact ⟨v2, v3, by rw [← nI_succ]; exact hQ⟩
        · rw [e2]
          exact v2
        · rw [e2]
          exact v3
        · rw [e2, c2, c3, ← nI_succ]
          exact hQ
      · refine Or.inr ⟨xc, xp, nI kb, nI nt, nI ml + (1 : Int32), oB, h2, sp, he, to, va, rP, upd (upd rL (2 * ml) (nI v)) (2 * ml + 1) (nI r), hx, fun Q X hX => hA _ X (hC _ X ?_), fun Q hQ => hMM Q (hM _ (hgo _ ⟨?_, hM2 _ ⟨?_, ?_⟩⟩))⟩
        · rcases hC2 with hC2 | ⟨u, hu, k3, k4, hA2, ⟨hz2, _, _⟩ | ⟨hz2, hC2⟩⟩
          · exact hC2 _ X hX
          · exact absurd (z_bz _) hz2
          · have hne : u ≠ v := fun e => c ⟨k3, by rw [← hT2.2.2.1 k3, k4, e]⟩
            have hne2 : ¬ nI u = nI v := fun e => hne ((nI_eq (by omega) (by omega)).mp e)
            exact hA2 _ X (need_1 (by rw [if_neg hne2]; decide) (hC2 _ X hX))
        · rw [e2]
          exact v2
        · rw [e2]
          exact v3
        · rw [e2, c2, c3]
          exact hQ
  · obtain ⟨h3, z, hJ⟩ := bJ34 hm (n := nI N) (hb := h2) (br := xc) (ba := xp) (sp := sp) (he := he) (to := to) (va := va) (x1 := nI r) (b := b) (rL := rL) hx
    refine Or.inr ⟨xc, xp, nI kb, nI nt, nI ml + (1 : Int32), oB, h3, sp, he, to, va, rP, z, hx, fun Q X hX => ?_, fun Q hQ => hMM Q (hM _ ⟨fun c => absurd c hx.1, fun _ => hJ _ hQ⟩)⟩
    rcases hC with hC | ⟨v, hv, h3, h4, hA, ⟨hz, _, _⟩ | ⟨hz, hC⟩⟩
    · exact hC _ X hX
    · exact absurd (z_bz _) hz
    · exact hA _ X (hC _ X hX)
