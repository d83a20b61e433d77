set_option maxRecDepth 100000
abbrev KTr := Int32 → Int32 → Int32 → Int32 → Int32 → (Nat → Int32) → Prop
abbrev KMt := Int32 → Int32 → Int32 → Int32 → Int32 → Int32 → Int32 → (Nat → Int32) → Prop
theorem bJ30 {nt : Nat} (hn : nt < 4) {n br ba sp he to va x1 x2 : Int32} {b rP : Nat → Int32} (hk : BK br) : ∃ z : Nat → Int32, ∀ Q : KMt, Q (nI nt + (1 : Int32)) br ba sp he to va z → M_readTrain_J30 (nI nt) n br ba sp he to va rP b x1 x2 Q := by
  exact ⟨_, fun Q hQ => bst hk ⟨ad_v (a := 9) (by omega) (by omega), ad_v (a := 13) (by omega) (by omega), bother hk ⟨ad_v (a := 17) (by omega) (by omega), bother hk ⟨ad_v (a := 21) (by omega) (by omega), hQ⟩⟩⟩⟩
theorem train_y {N lo q f fa kb nt ml : Nat} (hN : N ≤ 160) (hn : nt < 4) (hfa : fa ≤ 3) {a b : Nat → Int32} (tp : TP N a b) {s vC vM ba oB hi hb kg : Int32} {kO kT lA rP rL : Nat → Int32} (hT : TK N lo q f s vC vM) (hR : RK nt ml oB hi hb kg kO kT lA rP rL) :
    (∃ (q2 f2 : Nat) (s2 vC2 vM2 : Int32) (kT2 rP2 : Nat → Int32), TK N lo q2 f2 s2 vC2 vM2 ∧ RK (nt + 1) ml oB hi hb kg kO kT2 lA rP2 rL ∧ (∀ (Q : KTr) (X : KX), Q (nI q2) (nI f2) s2 vC2 (nI (nt + 1)) kT2 → R_train (nI N) (nI q) (nI f) s vC (nI nt) kT a (nI fa) Q X) ∧
      (∀ Q : KMo, Q (nI kb) (nI (nt + 1)) (nI ml) oB hb 0 ba (nI q2) (nI f2) s2 vM2 rP2 rL → M_readMore (nI kb) (nI nt) (nI ml) oB hb (nI N) 0 ba (nI q) (nI f) s vM rP rL b M0_cuts M0_letters (nI (fa + 4)) Q)) ∨
    (∃ xc xp y1 y2 y3 y4 y5 sp he to va : Int32, ∃ z1 z2 : Nat → Int32, BK xc ∧ (∀ (Q : KTr) (X : KX), X xc xp → R_train (nI N) (nI q) (nI f) s vC (nI nt) kT a (nI fa) Q X) ∧
      (∀ Q : KMo, Q y1 y2 y3 y4 y5 xc xp sp he to va z1 z2 → M_readMore (nI kb) (nI nt) (nI ml) oB hb (nI N) 0 ba (nI q) (nI f) s vM rP rL b M0_cuts M0_letters (nI (fa + 4)) Q)) := by
  have ef : nI (fa + 4) - (4 : Int32) = nI fa := by
    have := pk_sub (a := fa + 4) (b := 4) (by omega)
    rwa [Nat.add_sub_cancel] at this
  have hMM : ∀ Q : KMo, M_readTrain (nI nt) (nI N) 0 ba (nI q) (nI f) s vM rP b M0_cuts M0_letters (nI fa) (fun readTrains_31 broken_32 brokenAt_33 spot_34 here_35 token_36 value_37 readPage_38 => Q (nI kb) readTrains_31 (nI ml) oB hb broken_32 brokenAt_33 spot_34 here_35 token_36 value_37 readPage_38 rL) → M_readMore (nI kb) (nI nt) (nI ml) oB hb (nI N) 0 ba (nI q) (nI f) s vM rP rL b M0_cuts M0_letters (nI (fa + 4)) Q := by
    intro Q h
    have g3 : (3 : Int32) < nI (fa + 4) := nI_lt (a := 3) (by omega) (by omega)
    have g7 : ¬ (7 : Int32) < nI (fa + 4) := nI_nlt (a := 7) (by omega) (by omega)
    refine ⟨fun _ => ⟨fun c => absurd c g7, fun _ => ?_⟩, fun c => absurd g3 c⟩
    rw [ef]
    exact h
  have e4 : (4 : Int32) * nI nt = nI (4 * nt) := pk_mul 4 nt
  have v0 : vp_in (((4 : Int32) * nI nt) + (0 : Int32)) 16 := of_v (w := 0) (by omega) (by omega)
  have v1 : vp_in (((4 : Int32) * nI nt) + (1 : Int32)) 16 := of_v (w := 1) (by omega) (by omega)
  have v2 : vp_in (((4 : Int32) * nI nt) + (2 : Int32)) 16 := of_v (w := 2) (by omega) (by omega)
  have v3 : vp_in (((4 : Int32) * nI nt) + (3 : Int32)) 16 := of_v (w := 3) (by omega) (by omega)
  have c0 : (((4 : Int32) * nI nt) + (0 : Int32)).toNatClampNeg = 4 * nt := of_c (w := 0) (by omega) (by omega)
  have c1 : (((4 : Int32) * nI nt) + (1 : Int32)).toNatClampNeg = 4 * nt + 1 := of_c (w := 1) (by omega) (by omega)
  have c2 : (((4 : Int32) * nI nt) + (2 : Int32)).toNatClampNeg = 4 * nt + 2 := of_c (w := 2) (by omega) (by omega)
  have c3 : (((4 : Int32) * nI nt) + (3 : Int32)).toNatClampNeg = 4 * nt + 3 := of_c (w := 3) (by omega) (by omega)
  have d9 : ((9 : Int32) + nI nt).toNatClampNeg = 9 + nt := ad_c (a := 9) (by omega)
  have d13 : ((13 : Int32) + nI nt).toNatClampNeg = 13 + nt := ad_c (a := 13) (by omega)
  have d17 : ((17 : Int32) + nI nt).toNatClampNeg = 17 + nt := ad_c (a := 17) (by omega)
  have d21 : ((21 : Int32) + nI nt).toNatClampNeg = 21 + nt := ad_c (a := 21) (by omega)
  have u9 : vp_in ((9 : Int32) + nI nt) 25 := ad_v (a := 9) (by omega) (by omega)
  have u13 : vp_in ((13 : Int32) + nI nt) 25 := ad_v (a := 13) (by omega) (by omega)
  have u17 : vp_in ((17 : Int32) + nI nt) 25 := ad_v (a := 17) (by omega) (by omega)
  have u21 : vp_in ((21 : Int32) + nI nt) 25 := ad_v (a := 21) (by omega) (by omega)
  have en : ∀ x : Nat, x < 100 → vp_nar .byte ((nI x).toInt8.toInt32) = nI x := fun x hx => nb_id (by rw [nI_toInt (by omega)]; omega) (by rw [nI_toInt (by omega)]; omega)
  rcases which_y (lo := 11) (hi := 12) (s := s) hN hT.1 hT.2.1 (by omega) (fun k k1 k2 => by unfold ixW; rw [if_neg (by omega), if_neg (by omega)]; omega) (fun n n1 n2 => ⟨n, n1, n2, by unfold ixW; rw [if_neg (by omega), if_neg (by omega)]⟩) (by omega) tp with ⟨k, k1, k2, hC, hM⟩ | ⟨hC, r, hr, hM⟩
  · have ek : ixW k = k := by unfold ixW; rw [if_neg (by omega), if_neg (by omega)]
    rw [ek] at hM
    have ew : nI k - (11 : Int32) = nI (k - 11) := pk_sub (a := k) (b := 11) (by omega)
    have hin : ¬ M_in_e ((nI k - (11 : Int32))).toInt64 (0 : Int64) (1 : Int64) = 0 := by
      rw [ew, Min_C, in_iff, Int32.toInt_toInt64, nI_toInt (by omega), z64, show (1 : Int64).toInt = 1 from by decide]
      omega
    have hM1 : ∀ Q : KMt, M_readTrain_J30 (nI nt) (nI N) 0 ba (nI q) (nI f) s vM rP b (nI fa) (nI (k - 11)) Q → M_readTrain (nI nt) (nI N) 0 ba (nI q) (nI f) s vM rP b M0_cuts M0_letters (nI fa) Q := by
      intro Q h
      refine hM _ ⟨fun _ => ⟨fun c => absurd c hin, fun _ => ?_⟩, fun c => absurd rfl c⟩
      rw [ew]
      exact h
    rcases step_y hN hT.2.1 tp (nI f) s vC ba (nI f) s vM with ⟨q2, f2, s2, vC2, vM2, g1, g2, g3, g4, g5, hC2, hM2⟩ | ⟨xp, sp, to, va, hC2, hM2⟩
    · rcases take_y (l := 0) (h := 9) (ba := ba) hN tp (show TK N lo q2 f2 s2 vC2 vM2 from ⟨g1, g2, g3, Nat.le_trans hT.2.2.2.1 g4, fun h => Nat.lt_of_le_of_lt hT.2.2.2.1 (g5 h)⟩) (by omega) (by omega) with ⟨st, q3, f3, s3, vC3, vM3, st0, st9, hT3, hC3, hM3⟩ | ⟨xc, xp, r, sp, he, to, va, hx, hC3, hM3⟩
      · rcases take_y (l := 0) (h := 9) (ba := ba) hN tp hT3 (by omega) (by omega) with ⟨wo, q4, f4, s4, vC4, vM4, wo0, wo9, hT4, hC4, hM4⟩ | ⟨xc, xp, r, sp, he, to, va, hx, hC4, hM4⟩
        · refine Or.inl ⟨q4, f4, s4, vC4, vM4, _, _, hT4, RK_train hR hn hfa (show k - 11 ≤ 1 by omega) st9 wo9, fun Q X hQ => ⟨v0, hC _ X ⟨v1, hC2 _ X (hC3 _ X ⟨v2, hC4 _ X ⟨v3, ?_⟩⟩)⟩⟩, fun Q hQ => hMM Q (hM1 _ (hM2 _ ⟨u9, u13, hM3 _ ⟨u17, hM4 _ ⟨u21, ?_⟩⟩⟩))⟩
          · rw [c0, c1, c2, c3, ew, en fa (by omega), en (k - 11) (by omega), en st (by omega), en wo (by omega), ← nI_succ]
            exact hQ
          · rw [d9, d13, d17, d21, ← nI_succ]
            exact hQ
        · exact Or.inr ⟨xc, xp, nI kb, nI nt + (1 : Int32), nI ml, oB, hb, sp, he, to, va, _, rL, hx, fun Q X hX => ⟨v0, hC _ X ⟨v1, hC2 _ X (hC3 _ X ⟨v2, hC4 _ X hX⟩)⟩⟩, fun Q hQ => hMM Q (hM1 _ (hM2 _ ⟨u9, u13, hM3 _ ⟨u17, hM4 _ ⟨u21, hQ⟩⟩⟩))⟩
      · exact Or.inr ⟨xc, xp, nI kb, nI nt + (1 : Int32), nI ml, oB, hb, sp, he, to, va, _, rL, hx, fun Q X hX => ⟨v0, hC _ X ⟨v1, hC2 _ X (hC3 _ X hX)⟩⟩, fun Q hQ => hMM Q (hM1 _ (hM2 _ ⟨u9, u13, hM3 _ ⟨u17, bother hx ⟨u21, hQ⟩⟩⟩))⟩
    · exact Or.inr ⟨1, xp, nI kb, nI nt + (1 : Int32), nI ml, oB, hb, sp, xp, to, va, _, rL, bk1, fun Q X hX => ⟨v0, hC _ X ⟨v1, hC2 _ X hX⟩⟩, fun Q hQ => hMM Q (hM1 _ (hM2 _ ⟨u9, u13, bother bk1 ⟨u17, bother bk1 ⟨u21, hQ⟩⟩⟩))⟩
  · obtain ⟨z, hJ⟩ := bJ30 hn (n := nI N) (br := 2) (ba := nI f) (sp := nI q) (he := nI f) (to := s) (va := vM) (x1 := nI fa) (x2 := r - (11 : Int32)) (b := b) (rP := rP) bk2
    have hin : M_in_e ((r - (11 : Int32))).toInt64 (0 : Int64) (1 : Int64) = 0 := by
      rw [Min_C, in_iff, Int32.toInt_toInt64, z64, show (1 : Int64).toInt = 1 from by decide]
      rcases hr with rfl | ⟨n, n13, hn2, rfl⟩
      · decide
      · rw [sub_i (by rw [nI_toInt (by omega), show (11 : Int32).toInt = 11 from by decide]; omega) (by rw [nI_toInt (by omega), show (11 : Int32).toInt = 11 from by decide]; omega), nI_toInt (by omega), show (11 : Int32).toInt = 11 from by decide]
        omega
    exact Or.inr ⟨2, nI f, nI kb, nI nt + (1 : Int32), nI ml, oB, hb, nI q, nI f, s, vM, z, rL, bk2, fun Q X hX => ⟨v0, hC _ X hX⟩, fun Q hQ => hMM Q (hM _ ⟨fun _ => ⟨fun _ => fails_0 (hJ _ hQ), fun c => absurd hin c⟩, fun c => absurd rfl c⟩)⟩
theorem told_y {N lo q f k kb nt ml : Nat} (hN : N ≤ 160) (hk : k ≤ 10) (hk4 : k < 4 → nt < 4) (hk10 : k = 10 → ml < 4) (hkb : 2 ≤ kb ∧ kb ≤ 8) {a b : Nat → Int32} (tp : TP N a b) {s vC vM ba oB hi hb kg : Int32} {kO kT lA rP rL : Nat → Int32} (hT : TK N lo q f s vC vM) (hR : RK nt ml oB hi hb kg kO kT lA rP rL) :
    (∃ (kb2 nt2 ml2 q2 f2 : Nat) (s2 vC2 vM2 oB2 hi2 hb2 kg2 : Int32) (kO2 kT2 lA2 rP2 rL2 : Nat → Int32), (2 ≤ kb2 ∧ kb2 ≤ 8) ∧ TK N lo q2 f2 s2 vC2 vM2 ∧ RK nt2 ml2 oB2 hi2 hb2 kg2 kO2 kT2 lA2 rP2 rL2 ∧ (∀ (Q : KTo) (X : KX), Q (nI ml2) oB2 hi2 (nI q2) (nI f2) s2 vC2 (nI kb2) kg2 (nI nt2) kO2 kT2 lA2 → R_told (nI N) (nI ml) oB hi (nI q) (nI f) s vC (nI kb) kg (nI nt) kO kT lA a (nI k) Q X) ∧
      (∀ Q : KMo, Q (nI kb2) (nI nt2) (nI ml2) oB2 hb2 0 ba (nI q2) (nI f2) s2 vM2 rP2 rL2 → M_readMore (nI kb) (nI nt) (nI ml) oB hb (nI N) 0 ba (nI q) (nI f) s vM rP rL b M0_cuts M0_letters (nI (ixW k)) Q)) ∨
    (∃ xc xp y1 y2 y3 y4 y5 sp he to va : Int32, ∃ z1 z2 : Nat → Int32, BK xc ∧ (∀ (Q : KTo) (X : KX), X xc xp → R_told (nI N) (nI ml) oB hi (nI q) (nI f) s vC (nI kb) kg (nI nt) kO kT lA a (nI k) Q X) ∧
      (∀ Q : KMo, Q y1 y2 y3 y4 y5 xc xp sp he to va z1 z2 → M_readMore (nI kb) (nI nt) (nI ml) oB hb (nI N) 0 ba (nI q) (nI f) s vM rP rL b M0_cuts M0_letters (nI (ixW k)) Q)) := by
  have tk := nI_toInt (n := k) (by omega)
  have e8 : nI k = (8 : Int32) ↔ k = 8 := nI_eq (b := 8) (by omega) (by omega)
  have e9 : nI k = (9 : Int32) ↔ k = 9 := nI_eq (b := 9) (by omega) (by omega)
  have e10 : nI k = (10 : Int32) ↔ k = 10 := nI_eq (b := 10) (by omega) (by omega)
  have e4 : (4 : Int32) ≤ nI k ↔ 4 ≤ k := nI_leI (a := 4) (by omega) (by omega)
  by_cases k8 : k = 8
  · subst k8
    rcases take_y (l := 2) (h := 8) (ba := ba) hN tp hT (by omega) (by omega) with ⟨v, q2, f2, s2, vC2, vM2, w1, w2, hT2, hC, hM⟩ | ⟨xc, xp, r, sp, he, to, va, hx, hC, hM⟩
    · exact Or.inl ⟨v, nt, ml, q2, f2, s2, vC2, vM2, oB, hi, hb, kg, kO, kT, lA, rP, rL, ⟨w1, w2⟩, hT2, hR, fun Q X hQ => ⟨fun _ => hC _ X hQ, fun c => absurd c (by decide), fun c => absurd c (by decide), fun c => absurd c (by decide)⟩, fun Q hQ => ⟨fun _ => ⟨fun _ => ⟨fun _ => hM _ hQ, fun c => absurd rfl c⟩, fun c => absurd (show (7 : Int32) < nI 8 by decide) c⟩, fun c => absurd (show (3 : Int32) < nI 8 by decide) c⟩⟩
    · exact Or.inr ⟨xc, xp, r, nI nt, nI ml, oB, hb, sp, he, to, va, rP, rL, hx, fun Q X hX => ⟨fun _ => hC _ X hX, fun c => absurd c (by decide), fun c => absurd c (by decide), fun c => absurd c (by decide)⟩, fun Q hQ => ⟨fun _ => ⟨fun _ => ⟨fun _ => hM _ hQ, fun c => absurd rfl c⟩, fun c => absurd (show (7 : Int32) < nI 8 by decide) c⟩, fun c => absurd (show (3 : Int32) < nI 8 by decide) c⟩⟩
  by_cases k9 : k = 9
  · subst k9
    rcases guard_y (kb := kb) (ba := ba) hN tp hT hR with ⟨q2, f2, s2, vC2, vM2, kg2, hi2, hb2, rP2, hT2, hR2, hC, hM⟩ | ⟨xc, xp, y1, y2, y3, y4, y5, sp, he, to, va, z1, z2, hx, hC, hM⟩
    · exact Or.inl ⟨kb, nt, ml, q2, f2, s2, vC2, vM2, oB, hi2, hb2, kg2, kO, kT, lA, rP2, rL, hkb, hT2, hR2, fun Q X hQ => ⟨fun c => absurd c (by decide), fun _ => hC _ X hQ, fun c => absurd c (by decide), fun c => absurd c (by decide)⟩, hM⟩
    · exact Or.inr ⟨xc, xp, y1, y2, y3, y4, y5, sp, he, to, va, z1, z2, hx, fun Q X hX => ⟨fun c => absurd c (by decide), fun _ => hC _ X hX, fun c => absurd c (by decide), fun c => absurd c (by decide)⟩, hM⟩
  by_cases k10 : k = 10
  · subst k10
    rcases lock_y (kb := kb) (ba := ba) hN (hk10 rfl) tp hT hR with ⟨q2, f2, s2, vC2, vM2, hi2, hb2, lA2, rL2, hT2, hR2, hC, hM⟩ | ⟨xc, xp, y1, y2, y3, y4, y5, sp, he, to, va, z1, z2, hx, hC, hM⟩
    · exact Or.inl ⟨kb, nt, ml + 1, q2, f2, s2, vC2, vM2, oB, hi2, hb2, kg, kO, kT, lA2, rP, rL2, hkb, hT2, hR2, fun Q X hQ => ⟨fun c => absurd c (by decide), fun c => absurd c (by decide), fun _ => hC _ X hQ, fun c => absurd c (by decide)⟩, hM⟩
    · exact Or.inr ⟨xc, xp, y1, y2, y3, y4, y5, sp, he, to, va, z1, z2, hx, fun Q X hX => ⟨fun c => absurd c (by decide), fun c => absurd c (by decide), fun _ => hC _ X hX, fun c => absurd c (by decide)⟩, hM⟩
  by_cases k4 : k < 4
  · have ei : ixW k = k + 4 := if_pos k4
    rw [ei]
    have hR1 : ∀ (Q : KTo) (X : KX), R_train (nI N) (nI q) (nI f) s vC (nI nt) kT a (nI k) (fun atR_32 fromR_33 sortR_34 valueR_35 k_trains_36 k_train_37 => Q (nI ml) oB hi atR_32 fromR_33 sortR_34 valueR_35 (nI kb) kg k_trains_36 kO k_train_37 lA) X → R_told (nI N) (nI ml) oB hi (nI q) (nI f) s vC (nI kb) kg (nI nt) kO kT lA a (nI k) Q X := fun Q X h => ⟨fun c => absurd (e8.mp c) k8, fun c => absurd (e9.mp c) k9, fun c => absurd (e10.mp c) k10, fun _ => ⟨fun c => absurd (e4.mp c) (by omega), fun _ => h⟩⟩
    rcases train_y (kb := kb) (ba := ba) hN (hk4 k4) (show k ≤ 3 by omega) tp hT hR with ⟨q2, f2, s2, vC2, vM2, kT2, rP2, hT2, hR2, hC, hM⟩ | ⟨xc, xp, y1, y2, y3, y4, y5, sp, he, to, va, z1, z2, hx, hC, hM⟩
    · exact Or.inl ⟨kb, nt + 1, ml, q2, f2, s2, vC2, vM2, oB, hi, hb, kg, kO, kT2, lA, rP2, rL, hkb, hT2, hR2, fun Q X hQ => hR1 Q X (hC _ X hQ), hM⟩
    · exact Or.inr ⟨xc, xp, y1, y2, y3, y4, y5, sp, he, to, va, z1, z2, hx, fun Q X hX => hR1 Q X (hC _ X hX), hM⟩
  · have ei : ixW k = k - 4 := by unfold ixW; rw [if_neg k4, if_pos (by omega)]
    rw [ei]
    have ew : (nI k - (4 : Int32)) + (1 : Int32) = nI (k - 4 + 1) := by
      have e : nI k - (4 : Int32) = nI (k - 4) := pk_sub (a := k) (b := 4) (by omega)
      rw [e, nI_1]
    have hR1 : ∀ (Q : KTo) (X : KX), R_omen (nI N) oB hi (nI q) (nI f) s vC kO a (nI (k - 4 + 1)) (fun omened_24 highest_25 atR_26 fromR_27 sortR_28 valueR_29 k_omen_30 => Q (nI ml) omened_24 highest_25 atR_26 fromR_27 sortR_28 valueR_29 (nI kb) kg (nI nt) k_omen_30 kT lA) X → R_told (nI N) (nI ml) oB hi (nI q) (nI f) s vC (nI kb) kg (nI nt) kO kT lA a (nI k) Q X := by
      intro Q X h
      refine ⟨fun c => absurd (e8.mp c) k8, fun c => absurd (e9.mp c) k9, fun c => absurd (e10.mp c) k10, fun _ => ⟨fun _ => ?_, fun c => absurd (e4.mpr (by omega)) c⟩⟩
      rw [ew]
      exact h
    rcases omen_y (kb := kb) (ba := ba) hN (show k - 4 < 4 by omega) tp hT hR with ⟨q2, f2, s2, vC2, vM2, oB2, hi2, hb2, kO2, rP2, hT2, hR2, hC, hM⟩ | ⟨xc, xp, y1, y2, y3, y4, y5, sp, he, to, va, z1, z2, hx, hC, hM⟩
    · exact Or.inl ⟨kb, nt, ml, q2, f2, s2, vC2, vM2, oB2, hi2, hb2, kg, kO2, kT, lA, rP2, rL, hkb, hT2, hR2, fun Q X hQ => hR1 Q X (hC _ X hQ), hM⟩
    · exact Or.inr ⟨xc, xp, y1, y2, y3, y4, y5, sp, he, to, va, z1, z2, hx, fun Q X hX => hR1 Q X (hC _ X hX), hM⟩
