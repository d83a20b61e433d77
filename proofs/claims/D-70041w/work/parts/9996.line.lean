set_option maxRecDepth 100000
abbrev KLc := Int32 → Int32 → Int32 → Int32 → Int32 → Int32 → Int32 → Int32 → Int32 → Int32 → Int32 → (Nat → Int32) → (Nat → Int32) → (Nat → Int32) → Prop
abbrev KLm := Int32 → Int32 → Int32 → Int32 → Int32 → Int32 → Int32 → Int32 → Int32 → Int32 → Int32 → Int32 → (Nat → Int32) → (Nat → Int32) → Prop
def btU (bt : Int32) (x : Int32) : Int32 := if bt = 0 then (if x = (8 : Int32) then (1 : Int32) else (0 : Int32)) else (1 : Int32)
theorem bt_or {bt x : Int32} (h : zb bt) : bt ||| (if x = (8 : Int32) then (1 : Int32) else (0 : Int32)) = btU bt x := by
  unfold btU
  rcases h with rfl | rfl
  · rw [if_pos rfl, Int32.zero_or]
  · rw [if_neg (show ¬ (1 : Int32) = 0 by decide)]
    by_cases c : x = 8
    · rw [if_pos c]; decide
    · rw [if_neg c]; decide
theorem ix_10 {k : Nat} (hk : k ≤ 10) : ixW k ≤ 10 := by
  unfold ixW
  by_cases c1 : k < 4
  · rw [if_pos c1]
    omega
  · rw [if_neg c1]
    by_cases c2 : k < 8
    · rw [if_pos c2]
      omega
    · rw [if_neg c2]
      exact hk
theorem bt_z (bt x : Int32) : zb (btU bt x) := zb_I (fun _ => zb_I (fun _ => zb_1) (fun _ => zb_0)) (fun _ => zb_1)
theorem bJ82 {kb nt ml bt oB hb n br ba sp he to va x1 : Int32} {rP rL b cu le : Nat → Int32} (hk : BK br) {Q : KLm} (hQ : Q kb nt ml (btU bt x1) oB hb br ba sp he to va rP rL) : M_readLine_J82 kb nt ml bt oB hb n br ba sp he to va rP rL b cu le x1 Q := bst hk ⟨fun c => absurd c hk.2, fun _ => hQ⟩
theorem bJ64 {kb nt ml bt oB hb n br ba sp he to va x1 : Int32} {rP rL b cu le : Nat → Int32} (hk : BK br) {Q : KLm} (hQ : Q kb nt ml (btU bt x1) oB hb br ba sp he to va rP rL) : M_readLine_J64 kb nt ml bt oB hb n br ba sp he to va rP rL b cu le x1 Q := ⟨fun _ => ⟨fun _ => bJ82 hk hQ, fun _ => ⟨fun c => absurd c hk.1, fun _ => bJ82 hk hQ⟩⟩, fun _ => bJ82 hk hQ⟩
theorem line_y {N q f kb nt ml : Nat} (hN : N ≤ 160) (hf : f ≤ q) (hq : q ≤ N) {a b : Nat → Int32} (tp : TP N a b) {s vC vM bt oB hi hb kg : Int32} (ba : Int32) {kO kT lA rP rL : Nat → Int32} (hv : s = 2 → vC = vM) (hkb : 2 ≤ kb ∧ kb ≤ 8) (hbt : zb bt) (hR : RK nt ml oB hi hb kg kO kT lA rP rL) :
    (∃ (kb2 nt2 ml2 q2 f2 : Nat) (s2 vC2 vM2 bt2 oB2 hi2 hb2 kg2 : Int32) (kO2 kT2 lA2 rP2 rL2 : Nat → Int32), (2 ≤ kb2 ∧ kb2 ≤ 8) ∧ zb bt2 ∧ f2 ≤ q2 ∧ q2 ≤ N ∧ (s2 = 2 → vC2 = vM2) ∧ q < q2 ∧ RK nt2 ml2 oB2 hi2 hb2 kg2 kO2 kT2 lA2 rP2 rL2 ∧
      (∀ (Q : KLc) (X : KX), Q (nI ml2) bt2 oB2 hi2 (nI q2) (nI f2) s2 vC2 (nI kb2) kg2 (nI nt2) kO2 kT2 lA2 → R_line (nI N) (nI ml) bt oB hi (nI q) (nI f) s vC (nI kb) kg (nI nt) kO kT lA a Q X) ∧
      (∀ Q : KLm, Q (nI kb2) (nI nt2) (nI ml2) bt2 oB2 hb2 0 ba (nI q2) (nI f2) s2 vM2 rP2 rL2 → M_readLine (nI kb) (nI nt) (nI ml) bt oB hb (nI N) 0 ba (nI q) (nI f) s vM rP rL b M0_cuts M0_letters Q)) ∨
    (∃ xc xp y1 y2 y3 y4 y5 y6 sp he to va : Int32, ∃ z1 z2 : Nat → Int32, BK xc ∧ (∀ (Q : KLc) (X : KX), X xc xp → R_line (nI N) (nI ml) bt oB hi (nI q) (nI f) s vC (nI kb) kg (nI nt) kO kT lA a Q X) ∧
      (∀ Q : KLm, Q y1 y2 y3 y4 y5 y6 xc xp sp he to va z1 z2 → M_readLine (nI kb) (nI nt) (nI ml) bt oB hb (nI N) 0 ba (nI q) (nI f) s vM rP rL b M0_cuts M0_letters Q)) := by
  rcases which_y (lo := 0) (hi := 10) (s := s) hN hf hq (by omega) (fun k _ k2 => ⟨Nat.zero_le _, ix_10 k2⟩) (fun n _ n2 => by
    by_cases c1 : n < 4
    · exact ⟨n + 4, by omega, by omega, by unfold ixW; rw [if_neg (by omega), if_pos (by omega)]; omega⟩
    · by_cases c2 : n < 8
      · exact ⟨n - 4, by omega, by omega, by unfold ixW; rw [if_pos (by omega)]; omega⟩
      · exact ⟨n, by omega, by omega, by unfold ixW; rw [if_neg (by omega), if_neg (by omega)]⟩) (by omega) tp with ⟨k, _, hk, hC, hM⟩ | ⟨hC, r, hr, hM⟩
  · have hix : ixW k ≤ 10 ∧ (ixW k = 10 ↔ k = 10) ∧ (ixW k = 8 ↔ k = 8) ∧ ((4 ≤ ixW k ∧ ixW k ≤ 7) ↔ k < 4) := by
      unfold ixW
      by_cases c1 : k < 4
      · rw [if_pos c1]
        omega
      · rw [if_neg c1]
        by_cases c2 : k < 8
        · rw [if_pos c2]
          omega
        · rw [if_neg c2]
          omega
    have i10 : nI (ixW k) = (10 : Int32) ↔ k = 10 := (nI_eq (b := 10) (by omega) (by omega)).trans hix.2.1
    have i8 : nI (ixW k) = (8 : Int32) ↔ k = 8 := (nI_eq (b := 8) (by omega) (by omega)).trans hix.2.2.1
    have j10 : nI k = (10 : Int32) ↔ k = 10 := nI_eq (b := 10) (by omega) (by omega)
    have j8 : nI k = (8 : Int32) ↔ k = 8 := nI_eq (b := 8) (by omega) (by omega)
    have j4 : (4 : Int32) ≤ nI k ↔ 4 ≤ k := nI_leI (a := 4) (by omega) (by omega)
    have hm4 : (4 : Int32) ≤ nI ml ↔ 4 ≤ ml := nI_leI (a := 4) (by omega) (by have := hR.2.1; omega)
    have hn4 : (4 : Int32) ≤ nI nt ↔ 4 ≤ nt := nI_leI (a := 4) (by omega) (by have := hR.1; omega)
    have em4 : nI ml = (4 : Int32) ↔ ml = 4 := nI_eq (b := 4) (by have := hR.2.1; omega) (by omega)
    have en4 : nI nt = (4 : Int32) ↔ nt = 4 := nI_eq (b := 4) (by have := hR.1; omega) (by omega)
    have hml := hR.2.1
    have hnt := hR.1
    have hin : ¬ M_in_e (nI (ixW k)).toInt64 (0 : Int64) (10 : Int64) = 0 := by
      rw [Min_C, in_iff, Int32.toInt_toInt64, nI_toInt (by omega), z64, show (10 : Int64).toInt = 10 from by decide]
      omega
    have h47 : M_in_e (nI (ixW k)).toInt64 (4 : Int64) (7 : Int64) = 0 ↔ ¬ k < 4 := by
      rw [Min_C, in_iff, Int32.toInt_toInt64, nI_toInt (by omega), show (4 : Int64).toInt = 4 from by decide, show (7 : Int64).toInt = 7 from by decide, ← hix.2.2.2]
      omega
    have eb : btU bt (nI (ixW k)) = btU bt (nI k) := by
      unfold btU
      by_cases c : k = 8
      · rw [if_pos (i8.mpr c), if_pos (j8.mpr c)]
      · rw [if_neg (fun h => c (i8.mp h)), if_neg (fun h => c (j8.mp h))]
    -- too many
    by_cases c5 : (k = 10 ∧ ml = 4) ∨ (k < 4 ∧ nt = 4)
    · have hJ59 : ∀ Q : KLm, Q (nI kb) (nI nt) (nI ml) (btU bt (nI (ixW k))) oB hb 5 (nI f) (nI q) (nI f) s vM rP rL → M_readLine_J59 (nI kb) (nI nt) (nI ml) bt oB hb (nI N) 0 ba (nI q) (nI f) s vM rP rL b M0_cuts M0_letters (nI (ixW k)) Q := fun Q hQ => fails_0 (bJ64 bk5 hQ)
      refine Or.inr ⟨5, nI f, nI kb, nI nt, nI ml, _, oB, hb, nI q, nI f, s, vM, rP, rL, bk5, fun Q X hX => hC _ X (need_0 ?_ hX), fun Q hQ => hM _ ⟨fun c => absurd c hin, fun _ => ⟨fun c => ⟨fun _ => hJ59 _ hQ, fun c2 => ?_⟩, fun c => ⟨fun c2 => ?_, fun _ => ⟨fun _ => hJ59 _ hQ, fun c2 => ?_⟩⟩⟩⟩⟩
      · rcases c5 with ⟨e1, e2⟩ | ⟨e1, e2⟩
        · rw [if_pos (j4.mpr (by omega)), if_pos (j10.mpr e1), if_pos (hm4.mpr (by omega))]
        · rw [if_neg (fun h => by have := j4.mp h; omega), if_pos (hn4.mpr (by omega))]
      · rcases c5 with ⟨e1, e2⟩ | ⟨e1, e2⟩
        · exact absurd (em4.mpr e2) c2
        · have := i10.mp c
          omega
      · rcases c5 with ⟨e1, e2⟩ | ⟨e1, e2⟩
        · exact absurd (i10.mpr e1) c
        · exact absurd e1 (h47.mp c2)
      · rcases c5 with ⟨e1, e2⟩ | ⟨e1, e2⟩
        · exact absurd (i10.mpr e1) c
        · exact absurd (en4.mpr e2) c2
    have hC5 : ∀ (Q : Prop) (X : KX), Q → R_need (nI f) (if (4 : Int32) ≤ nI k then (if nI k = (10 : Int32) then (if (4 : Int32) ≤ nI ml then (0 : Int32) else (1 : Int32)) else (1 : Int32)) else (if (4 : Int32) ≤ nI nt then (0 : Int32) else (if nI k = (10 : Int32) then (if (4 : Int32) ≤ nI ml then (0 : Int32) else (1 : Int32)) else (1 : Int32)))) (5 : Int32) Q X := by
      intro Q X hQ
      refine need_1 ?_ hQ
      by_cases c1 : 4 ≤ k
      · rw [if_pos (j4.mpr c1)]
        by_cases c2 : k = 10
        · rw [if_pos (j10.mpr c2), if_neg (fun h => c5 (Or.inl ⟨c2, by have := hm4.mp h; omega⟩))]
          decide
        · rw [if_neg (fun h => c2 (j10.mp h))]
          decide
      · rw [if_neg (fun h => c1 (j4.mp h)), if_neg (fun h => c5 (Or.inr ⟨by omega, by have := hn4.mp h; omega⟩)), if_neg (fun h => by have := j10.mp h; omega)]
        decide
    have hM5 : ∀ Q : KLm, M_readLine_J64 (nI kb) (nI nt) (nI ml) bt oB hb (nI N) 0 ba (nI q) (nI f) s vM rP rL b M0_cuts M0_letters (nI (ixW k)) Q → M_readLine (nI kb) (nI nt) (nI ml) bt oB hb (nI N) 0 ba (nI q) (nI f) s vM rP rL b M0_cuts M0_letters Q := by
      intro Q h
      have h37 : M_readLine_J37 (nI kb) (nI nt) (nI ml) bt oB hb (nI N) 0 ba (nI q) (nI f) s vM rP rL b M0_cuts M0_letters (nI (ixW k)) Q := ⟨fun _ => h, fun c => ⟨fun c2 => absurd (Or.inr ⟨Classical.byContradiction (fun c3 => c (h47.mpr c3)), en4.mp c2⟩) c5, fun _ => h⟩⟩
      exact hM _ ⟨fun c => absurd c hin, fun _ => ⟨fun c => ⟨fun c2 => absurd (Or.inl ⟨i10.mp c, em4.mp c2⟩) c5, fun _ => h37⟩, fun _ => h37⟩⟩
    -- told twice
    by_cases c4 : k = 8 ∧ bt = 1
    · refine Or.inr ⟨4, nI f, nI kb, nI nt, nI ml, _, oB, hb, nI q, nI f, s, vM, rP, rL, bk4, fun Q X hX => hC _ X (hC5 _ X (need_0 ?_ hX)), fun Q hQ => hM5 Q ⟨fun _ => ⟨fun c => absurd (c4.2.symm.trans c) (by decide), fun _ => fails_0 (bJ82 bk4 hQ)⟩, fun c => absurd (i8.mpr c4.1) c⟩⟩
      rw [if_pos (j8.mpr c4.1), if_neg (by rw [c4.2]; decide)]
    have hC4 : ∀ (Q : Prop) (X : KX), Q → R_need (nI f) (if nI k = (8 : Int32) then (if bt = 0 then (1 : Int32) else (0 : Int32)) else (1 : Int32)) (4 : Int32) Q X := by
      intro Q X hQ
      refine need_1 ?_ hQ
      by_cases c1 : k = 8
      · rw [if_pos (j8.mpr c1), if_pos (hbt.resolve_right (fun h => c4 ⟨c1, h⟩))]
        decide
      · rw [if_neg (fun h => c1 (j8.mp h))]
        decide
    have hM4 : ∀ Q : KLm, M_readLine_J82 (nI kb) (nI nt) (nI ml) bt oB hb (nI N) 0 ba (nI q) (nI f) s vM rP rL b M0_cuts M0_letters (nI (ixW k)) Q → M_readLine (nI kb) (nI nt) (nI ml) bt oB hb (nI N) 0 ba (nI q) (nI f) s vM rP rL b M0_cuts M0_letters Q := fun Q h => hM5 Q ⟨fun c => ⟨fun _ => h, fun c2 => absurd ⟨i8.mp c, hbt.resolve_left c2⟩ c4⟩, fun _ => h⟩
    have hzb : zb (bt ||| (if nI k = (8 : Int32) then (1 : Int32) else (0 : Int32))) := by
      rw [bt_or hbt]
      exact bt_z _ _
    rcases step_y hN hq tp (nI f) s vC ba (nI f) s vM with ⟨q2, f2, s2, vC2, vM2, g1, g2, g3, g4, g5, hC2, hM2⟩ | ⟨xp, sp, to, va, hC2, hM2⟩
    · have hT2 : TK N q q2 f2 s2 vC2 vM2 := ⟨g1, g2, g3, g4, g5⟩
      rcases told_y (ba := ba) hN hk (fun h => by omega) (fun h => by omega) hkb tp hT2 hR with ⟨kb3, nt3, ml3, q3, f3, s3, vC3, vM3, oB3, hi3, hb3, kg3, kO3, kT3, lA3, rP3, rL3, hkb3, hT3, hR3, hC3, hM3⟩ | ⟨xc, xp, y1, y2, y3, y4, y5, sp, he, to, va, z1, z2, hx, hC3, hM3⟩
      · have z00 : (0 : Int32) ≤ 0 := by decide
        by_cases cs : s3 = 3
        · have cs1 : ¬ (if s3 = (3 : Int32) then (1 : Int32) else (0 : Int32)) = 0 := by rw [if_pos cs]; decide
          rcases step_y hN hT3.2.1 tp (nI f3) s3 vC3 ba (nI f3) s3 vM3 with ⟨q4, f4, s4, vC4, vM4, g1, g2, g3, g4', g5', hC4', hM4'⟩ | ⟨xp, sp, to, va, hC4', hM4'⟩
          · have hlt := hT3.2.2.2.2 cs
            refine Or.inl ⟨kb3, nt3, ml3, q4, f4, s4, vC4, vM4, btU bt (nI k), oB3, hi3, hb3, kg3, kO3, kT3, lA3, rP3, rL3, hkb3, bt_z _ _, g1, g2, g3, by omega, hR3, fun Q X hQ => hC _ X (hC5 _ X (hC4 _ X ⟨hzb, hC2 _ X (hC3 _ X (need_1 cs1 (hC4' _ X ?_)))⟩)), fun Q hQ => hM4 Q (hM2 _ ⟨fun _ => hM3 _ ⟨fun _ => ⟨fun _ => hM4' _ ?_, fun c => absurd cs c⟩, fun c => absurd rfl c⟩, fun c => absurd z00 c⟩)⟩
            · rw [bt_or hbt]
              exact hQ
            · rw [← eb] at hQ
              exact hQ
          · exact Or.inr ⟨1, xp, nI kb3, nI nt3, nI ml3, _, oB3, hb3, sp, xp, to, va, rP3, rL3, bk1, fun Q X hX => hC _ X (hC5 _ X (hC4 _ X ⟨hzb, hC2 _ X (hC3 _ X (need_1 cs1 (hC4' _ X hX)))⟩)), fun Q hQ => hM4 Q (hM2 _ ⟨fun _ => hM3 _ ⟨fun _ => ⟨fun _ => hM4' _ hQ, fun c => absurd cs c⟩, fun c => absurd rfl c⟩, fun c => absurd z00 c⟩)⟩
        · exact Or.inr ⟨2, nI f3, nI kb3, nI nt3, nI ml3, _, oB3, hb3, nI q3, nI f3, s3, vM3, rP3, rL3, bk2, fun Q X hX => hC _ X (hC5 _ X (hC4 _ X ⟨hzb, hC2 _ X (hC3 _ X (need_0 (if_neg cs) hX))⟩)), fun Q hQ => hM4 Q (hM2 _ ⟨fun _ => hM3 _ ⟨fun _ => ⟨fun c => absurd c cs, fun _ => fails_0 (bst bk2 hQ)⟩, fun c => absurd rfl c⟩, fun c => absurd z00 c⟩)⟩
      · have z00 : (0 : Int32) ≤ 0 := by decide
        exact Or.inr ⟨xc, xp, y1, y2, y3, _, y4, y5, sp, he, to, va, z1, z2, hx, fun Q X hX => hC _ X (hC5 _ X (hC4 _ X ⟨hzb, hC2 _ X (hC3 _ X hX)⟩)), fun Q hQ => hM4 Q (hM2 _ ⟨fun _ => hM3 _ ⟨fun c => absurd c hx.1, fun _ => bst hx hQ⟩, fun c => absurd z00 c⟩)⟩
    · exact Or.inr ⟨1, xp, nI kb, nI nt, nI ml, _, oB, hb, sp, xp, to, va, rP, rL, bk1, fun Q X hX => hC _ X (hC5 _ X (hC4 _ X ⟨hzb, hC2 _ X hX⟩)), fun Q hQ => hM4 Q (hM2 _ ⟨fun c => absurd c bk1.2, fun _ => hQ⟩)⟩
  · have hin : M_in_e r.toInt64 (0 : Int64) (10 : Int64) = 0 := by
      rw [Min_C, in_iff, Int32.toInt_toInt64, z64, show (10 : Int64).toInt = 10 from by decide]
      rcases hr with rfl | ⟨n, n13, hn2, rfl⟩
      · decide
      · rw [nI_toInt (by omega)]
        omega
    exact Or.inr ⟨2, nI f, nI kb, nI nt, nI ml, bt, oB, hb, nI q, nI f, s, vM, rP, rL, bk2, fun Q X hX => hC _ X hX, fun Q hQ => hM _ ⟨fun _ => fails_0 hQ, fun c => absurd hin c⟩⟩
