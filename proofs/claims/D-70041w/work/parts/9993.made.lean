set_option maxRecDepth 100000
/-- what both readers have made so far -/
def RK (nt ml : Nat) (oB hi hb kg : Int32) (kO kT lA rP rL : Nat → Int32) : Prop := nt ≤ 4 ∧ ml ≤ 4 ∧ HB hi hb ∧ bOK 8 (nI nt) kO kT ∧ pgOK rP 0 kg kO kT ∧ (∀ b : Nat, b < 8 → (bz oB (nI b) = 0 ↔ kO b = 0) ∧ (¬ bz oB (nI b) = 0 → (b : Int) ≤ hb.toInt)) ∧ (∀ l : Nat, l < 8 → 0 ≤ (lA l).toInt ∧ (lA l).toInt < 8) ∧ (∀ l : Nat, l < 2 * ml → rL l = lA l ∧ (lA l).toInt ≤ hb.toInt) ∧ (∀ l : Nat, l < ml → lA (2 * l) ≠ lA (2 * l + 1))
theorem RK_hb {nt ml : Nat} {oB hi hb kg hi2 hb2 : Int32} {kO kT lA rP rL : Nat → Int32} (h : RK nt ml oB hi hb kg kO kT lA rP rL) (h2 : HB hi2 hb2) (hle : hb.toInt ≤ hb2.toInt) : RK nt ml oB hi2 hb2 kg kO kT lA rP rL := by
  obtain ⟨a1, a2, a3, a4, a5, a6, a7, a8, a9⟩ := h
  exact ⟨a1, a2, h2, a4, a5, fun b hb3 => ⟨(a6 b hb3).1, fun c => by have := (a6 b hb3).2 c; omega⟩, a7, fun l hl => ⟨(a8 l hl).1, by have := (a8 l hl).2; omega⟩, a9⟩
theorem RK_omen {nt ml v w : Nat} {oB hi hb kg : Int32} {kO kT lA rP rL : Nat → Int32} (h : RK nt ml oB hi hb kg kO kT lA rP rL) (hv : v < 8) (hw : w < 4) (hle : (v : Int) ≤ hb.toInt) : RK nt ml (oB ||| ((1 : Int32) <<< (nI v &&& 31))) hi hb kg (upd kO v (nI (w + 1))) kT lA (upd rP v (nI (w + 1))) rL := by
  obtain ⟨a1, a2, a3, a4, a5, a6, a7, a8, a9⟩ := h
  obtain ⟨g1, g2, g3, g4, g5, g6⟩ := a4
  have tw := nI_toInt (n := w + 1) (by omega)
  refine ⟨a1, a2, a3, ⟨g1, g2, g3, g4, fun b hb3 => ?_, g6⟩, ⟨fun b hb3 => ?_, ?_, fun t ht x hx => ?_⟩, fun b hb3 => ?_, a7, a8, a9⟩
  · by_cases e : b = v
    · rw [e, upd_eq]
      refine ⟨by omega, by omega, fun c => ?_⟩
      rw [show (8 : Int32).toInt = 8 from by decide] at c
      omega
    · rw [upd_ne _ _ e]
      exact g5 b hb3
  · rw [Nat.zero_add]
    by_cases e : b = v
    · rw [e, upd_eq, upd_eq]
    · rw [upd_ne _ _ e, upd_ne _ _ e]
      exact pg_b a5 hb3
  · rw [upd_ne _ _ (by omega)]
    exact a5.2.1
  · rw [upd_ne _ _ (by omega)]
    exact a5.2.2 t ht x hx
  · rw [bz_or, Int32.or_eq_zero_iff, bz_bit v hv b hb3]
    by_cases e : b = v
    · rw [e, upd_eq, if_pos rfl]
      exact ⟨⟨fun c => absurd c.2 (by decide), fun c => absurd c (nI_ne0 (by omega) (by omega))⟩, fun _ => hle⟩
    · rw [upd_ne _ _ e, if_neg e]
      exact ⟨⟨fun c => (a6 b hb3).1.mp c.1, fun c => ⟨(a6 b hb3).1.mpr c, rfl⟩⟩, fun c => (a6 b hb3).2 (fun c2 => c ⟨c2, rfl⟩)⟩
theorem RK_guard {nt ml : Nat} {oB hi hb kg kg2 : Int32} {kO kT lA rP rL : Nat → Int32} (h : RK nt ml oB hi hb kg kO kT lA rP rL) : RK nt ml oB hi hb kg2 kO kT lA (upd rP 8 kg2) rL := by
  obtain ⟨a1, a2, a3, a4, a5, a6, a7, a8, a9⟩ := h
  exact ⟨a1, a2, a3, a4, pg_G a5, a6, a7, a8, a9⟩
theorem RK_lock {nt ml v u : Nat} {oB hi hb kg : Int32} {kO kT lA rP rL : Nat → Int32} (h : RK nt ml oB hi hb kg kO kT lA rP rL) (hm : ml < 4) (hv : v < 8) (hu : u < 8) (hne : v ≠ u) (hlv : (v : Int) ≤ hb.toInt) (hlu : (u : Int) ≤ hb.toInt) : RK nt (ml + 1) oB hi hb kg kO kT (upd (upd lA (2 * ml) (nI v)) (2 * ml + 1) (nI u)) rP (upd (upd rL (2 * ml) (nI v)) (2 * ml + 1) (nI u)) := by
  obtain ⟨a1, a2, a3, a4, a5, a6, a7, a8, a9⟩ := h
  have tv := nI_toInt (n := v) (by omega)
  have tu := nI_toInt (n := u) (by omega)
  refine ⟨a1, by omega, a3, a4, a5, a6, fun l hl => ?_, fun l hl => ?_, fun l hl => ?_⟩
  · by_cases e1 : l = 2 * ml + 1
    · rw [e1, upd_eq]
      omega
    · rw [upd_ne _ _ e1]
      by_cases e2 : l = 2 * ml
      · rw [e2, upd_eq]
        omega
      · rw [upd_ne _ _ e2]
        exact a7 l hl
  · by_cases e1 : l = 2 * ml + 1
    · rw [e1, upd_eq, upd_eq]
      exact ⟨rfl, by omega⟩
    · rw [upd_ne _ _ e1, upd_ne _ _ e1]
      by_cases e2 : l = 2 * ml
      · rw [e2, upd_eq, upd_eq]
        exact ⟨rfl, by omega⟩
      · rw [upd_ne _ _ e2, upd_ne _ _ e2]
        exact a8 l (by omega)
  · by_cases e : l = ml
    · rw [e, upd_eq, upd_ne _ _ (by omega), upd_eq]
      exact fun c => hne ((nI_eq (by omega) (by omega)).mp c)
    · rw [upd_ne _ _ (by omega), upd_ne _ _ (by omega), upd_ne _ _ (by omega), upd_ne _ _ (by omega)]
      exact a9 l (by omega)
theorem RK_train {nt ml f w s g : Nat} {oB hi hb kg : Int32} {kO kT lA rP rL : Nat → Int32} (h : RK nt ml oB hi hb kg kO kT lA rP rL) (hn : nt < 4) (hf : f ≤ 3) (hw : w ≤ 1) (hs : s ≤ 9) (hg : g ≤ 9) : RK (nt + 1) ml oB hi hb kg kO (upd (upd (upd (upd kT (4 * nt) (nI f)) (4 * nt + 1) (nI w)) (4 * nt + 2) (nI s)) (4 * nt + 3) (nI g)) lA (upd (upd (upd (upd rP (9 + nt) (nI f)) (13 + nt) (nI w)) (17 + nt) (nI s)) (21 + nt) (nI g)) rL := by
  obtain ⟨a1, a2, a3, a4, a5, a6, a7, a8, a9⟩ := h
  have tf := nI_toInt (n := f) (by omega)
  have tw := nI_toInt (n := w) (by omega)
  have ts := nI_toInt (n := s) (by omega)
  have tg := nI_toInt (n := g) (by omega)
  have b0 := b_set (t := nt) (w := 0) (v := nI f) (by omega) a4 (by omega) (by rw [if_pos rfl]; omega)
  have b1 := b_set (t := nt) (w := 1) (v := nI w) (by omega) b0 (by omega) (by rw [if_neg (by omega), if_pos rfl]; omega)
  have b2 := b_set (t := nt) (w := 2) (v := nI s) (by omega) b1 (by omega) (by rw [if_neg (by omega), if_neg (by omega)]; omega)
  have b3 := b_set (t := nt) (w := 3) (v := nI g) (by omega) b2 (by omega) (by rw [if_neg (by omega), if_neg (by omega)]; omega)
  obtain ⟨g1, g2, g3, g4, g5, g6⟩ := b3
  have p0 := pg_set (t := nt) (w := 0) (v := nI f) hn (by omega) a5
  have p1 := pg_set (t := nt) (w := 1) (v := nI w) hn (by omega) p0
  have p2 := pg_set (t := nt) (w := 2) (v := nI s) hn (by omega) p1
  have p3 := pg_set (t := nt) (w := 3) (v := nI g) hn (by omega) p2
  exact ⟨by omega, a2, a3, ⟨g1, g2, by rw [nI_toInt (by omega)]; omega, by rw [nI_toInt (by omega)]; omega, g5, g6⟩, p3, a6, a7, a8, a9⟩
abbrev KTo := Int32 → Int32 → Int32 → Int32 → Int32 → Int32 → Int32 → Int32 → Int32 → Int32 → (Nat → Int32) → (Nat → Int32) → (Nat → Int32) → Prop
abbrev KMo := Int32 → Int32 → Int32 → Int32 → Int32 → Int32 → Int32 → Int32 → Int32 → Int32 → Int32 → (Nat → Int32) → (Nat → Int32) → Prop
theorem need_1 {f : Nat} {x c : Int32} {Q : Prop} {X : KX} (h : ¬ x = 0) (hQ : Q) : R_need (nI f) x c Q X := ⟨fun e => absurd e h, fun _ => hQ⟩
theorem need_0 {f : Nat} {x c : Int32} {Q : Prop} {X : KX} (h : x = 0) (hX : X c (nI f)) : R_need (nI f) x c Q X := ⟨fun _ => hX, fun e => absurd h e⟩
theorem or_0 {v : Nat} {s : Int32} (h : ¬ C_has_e s (nI v) = 0) : (if C_has_e s (nI v) = 0 then (1 : Int32) else (0 : Int32)) = 0 := if_neg h
theorem or_1 {v : Nat} {s : Int32} (h : C_has_e s (nI v) = 0) : ¬ (if C_has_e s (nI v) = 0 then (1 : Int32) else (0 : Int32)) = 0 := by rw [if_pos h]; decide
theorem omen_y {N lo q f w kb nt ml : Nat} (hN : N ≤ 160) (hw : w < 4) {a b : Nat → Int32} (tp : TP N a b) {s vC vM ba oB hi hb kg : Int32} {kO kT lA rP rL : Nat → Int32} (hT : TK N lo q f s vC vM) (hR : RK nt ml oB hi hb kg kO kT lA rP rL) :
    (∃ (q2 f2 : Nat) (s2 vC2 vM2 oB2 hi2 hb2 : Int32) (kO2 rP2 : Nat → Int32), TK N lo q2 f2 s2 vC2 vM2 ∧ RK nt ml oB2 hi2 hb2 kg kO2 kT lA rP2 rL ∧ (∀ (Q : Int32 → Int32 → Int32 → Int32 → Int32 → Int32 → (Nat → Int32) → Prop) (X : KX), Q oB2 hi2 (nI q2) (nI f2) s2 vC2 kO2 → R_omen (nI N) oB hi (nI q) (nI f) s vC kO a (nI (w + 1)) Q X) ∧
      (∀ Q : KMo, Q (nI kb) (nI nt) (nI ml) oB2 hb2 0 ba (nI q2) (nI f2) s2 vM2 rP2 rL → M_readMore (nI kb) (nI nt) (nI ml) oB hb (nI N) 0 ba (nI q) (nI f) s vM rP rL b M0_cuts M0_letters (nI w) Q)) ∨
    (∃ xc xp y1 y2 y3 y4 y5 sp he to va : Int32, ∃ z1 z2 : Nat → Int32, BK xc ∧ (∀ (Q : Int32 → Int32 → Int32 → Int32 → Int32 → Int32 → (Nat → Int32) → Prop) (X : KX), X xc xp → R_omen (nI N) oB hi (nI q) (nI f) s vC kO a (nI (w + 1)) Q X) ∧
      (∀ Q : KMo, Q y1 y2 y3 y4 y5 xc xp sp he to va z1 z2 → M_readMore (nI kb) (nI nt) (nI ml) oB hb (nI N) 0 ba (nI q) (nI f) s vM rP rL b M0_cuts M0_letters (nI w) Q)) := by
  have hg : ¬ (3 : Int32) < nI w := nI_nlt (a := 3) (by omega) (by omega)
  have en : vp_nar .byte ((nI (w + 1)).toInt8.toInt32) = nI (w + 1) := nb_id (by rw [nI_toInt (by omega)]; omega) (by rw [nI_toInt (by omega)]; omega)
  rcases blk_y hN tp hT hi hb oB (ba := ba) with ⟨v, q2, f2, s2, vC2, vM2, hv, hz, hT2, h1, h2, hA, hC, hM⟩ | ⟨xc, xp, r, h2, sp, he, to, va, hx, hr, hC, hM⟩
  · have hU := HB_up hR.2.2.1 hv
    refine Or.inl ⟨q2, f2, s2, vC2, vM2, oB ||| ((1 : Int32) <<< (nI v &&& 31)), hiU hi v, hbU hb v, upd kO v (nI (w + 1)), upd rP v (nI (w + 1)), hT2, RK_omen (RK_hb hR hU.1 hU.2.2) hv hw hU.2.1, fun Q X hQ => hA _ X (need_1 (or_1 (by rw [has_bz]; exact hz)) ⟨vp_in_nI hv (by omega), hC _ X ?_⟩), fun Q hQ => ⟨fun c => absurd c hg, fun _ => hM _ ⟨vp_in_nI (by omega) (by omega), ?_⟩⟩⟩
    · rw [nI_clamp (by omega), en]
      exact hQ
    · rw [nI_clamp (by omega), nI_1]
      exact hQ
  · refine Or.inr ⟨xc, xp, nI kb, nI nt, nI ml, _, h2, sp, he, to, va, _, rL, hx, fun Q X hX => ?_, fun Q hQ => ⟨fun c => absurd c hg, fun _ => hM _ ⟨vp_in_nI (by omega) (by omega), hQ⟩⟩⟩
    rcases hC with hC | ⟨v, hv, h3, h4, hA, ⟨hz, e1, e2⟩ | ⟨hz, hC⟩⟩
    · exact hC _ X hX
    · rw [e1, e2] at hX
      exact hA _ X (need_0 (or_0 (by rw [has_bz]; exact hz)) hX)
    · exact hA _ X (need_1 (or_1 (by rw [has_bz]; exact hz)) ⟨vp_in_nI hv (by omega), hC _ X hX⟩)
theorem guard_y {N lo q f kb nt ml : Nat} (hN : N ≤ 160) {a b : Nat → Int32} (tp : TP N a b) {s vC vM ba oB hi hb kg : Int32} {kO kT lA rP rL : Nat → Int32} (hT : TK N lo q f s vC vM) (hR : RK nt ml oB hi hb kg kO kT lA rP rL) :
    (∃ (q2 f2 : Nat) (s2 vC2 vM2 kg2 hi2 hb2 : Int32) (rP2 : Nat → Int32), TK N lo q2 f2 s2 vC2 vM2 ∧ RK nt ml oB hi2 hb2 kg2 kO kT lA rP2 rL ∧ (∀ (Q : Int32 → Int32 → Int32 → Int32 → Int32 → Int32 → Prop) (X : KX), Q hi2 (nI q2) (nI f2) s2 vC2 kg2 → R_guard (nI N) hi (nI q) (nI f) s vC kg a Q X) ∧
      (∀ Q : KMo, Q (nI kb) (nI nt) (nI ml) oB hb2 0 ba (nI q2) (nI f2) s2 vM2 rP2 rL → M_readMore (nI kb) (nI nt) (nI ml) oB hb (nI N) 0 ba (nI q) (nI f) s vM rP rL b M0_cuts M0_letters (nI 9) Q)) ∨
    (∃ xc xp y1 y2 y3 y4 y5 sp he to va : Int32, ∃ z1 z2 : Nat → Int32, BK xc ∧ (∀ (Q : Int32 → Int32 → Int32 → Int32 → Int32 → Int32 → Prop) (X : KX), X xc xp → R_guard (nI N) hi (nI q) (nI f) s vC kg a Q X) ∧
      (∀ Q : KMo, Q y1 y2 y3 y4 y5 xc xp sp he to va z1 z2 → M_readMore (nI kb) (nI nt) (nI ml) oB hb (nI N) 0 ba (nI q) (nI f) s vM rP rL b M0_cuts M0_letters (nI 9) Q)) := by
  have g3 : (3 : Int32) < nI 9 := by decide
  have g7 : (7 : Int32) < nI 9 := by decide
  have g8 : ¬ nI 9 = (8 : Int32) := by decide
  have g9 : nI 9 = (9 : Int32) := by decide
  have c8 : (8 : Int32).toNatClampNeg = 8 := by decide
  have ek : rP 8 = kg := hR.2.2.2.2.1.2.1
  have hMM : ∀ Q : KMo, M_blockHere hb (nI N) 0 ba (nI q) (nI f) s vM b kg (fun r_15 highBlock_16 broken_17 brokenAt_18 spot_19 here_20 token_21 value_22 => (Q (nI kb) (nI nt) (nI ml) oB highBlock_16 broken_17 brokenAt_18 spot_19 here_20 token_21 value_22 (upd rP 8 (kg ||| ((1 : Int32) <<< (r_15 &&& 31)))) rL)) → M_readMore (nI kb) (nI nt) (nI ml) oB hb (nI N) 0 ba (nI q) (nI f) s vM rP rL b M0_cuts M0_letters (nI 9) Q := by
    intro Q h
    refine ⟨fun _ => ⟨fun _ => ⟨fun c => absurd c g8, fun _ => ⟨fun _ => ?_, fun c => absurd g9 c⟩⟩, fun c => absurd g7 c⟩, fun c => absurd g3 c⟩
    rw [c8, ek]
    exact h
  rcases blk_y hN tp hT hi hb kg (ba := ba) with ⟨v, q2, f2, s2, vC2, vM2, hv, hz, hT2, h1, h2, hA, hC, hM⟩ | ⟨xc, xp, r, h2, sp, he, to, va, hx, hr, hC, hM⟩
  · have hU := HB_up hR.2.2.1 hv
    exact Or.inl ⟨q2, f2, s2, vC2, vM2, kg ||| ((1 : Int32) <<< (nI v &&& 31)), hiU hi v, hbU hb v, _, hT2, RK_guard (RK_hb hR hU.1 hU.2.2), fun Q X hQ => hA _ X (need_1 (or_1 (by rw [has_bz]; exact hz)) (hC _ X hQ)), fun Q hQ => hMM Q (hM _ hQ)⟩
  · refine Or.inr ⟨xc, xp, nI kb, nI nt, nI ml, oB, h2, sp, he, to, va, _, rL, hx, fun Q X hX => ?_, fun Q hQ => hMM Q (hM _ hQ)⟩
    rcases hC with hC | ⟨v, hv, h3, h4, hA, ⟨hz, e1, e2⟩ | ⟨hz, hC⟩⟩
    · exact hC _ X hX
    · rw [e1, e2] at hX
      exact hA _ X (need_0 (or_0 (by rw [has_bz]; exact hz)) hX)
    · exact hA _ X (need_1 (or_1 (by rw [has_bz]; exact hz)) (hC _ X hX))
