set_option maxRecDepth 100000
abbrev KLx := Int32 → Int32 → Int32 → Int32 → Int32 → Int32 → Int32 → Int32 → Int32 → Int32 → Int32 → (Nat → Int32) → (Nat → Int32) → (Nat → Int32) → Int32 → Prop
abbrev KLy := Int32 → Int32 → Int32 → Int32 → Int32 → Int32 → Int32 → Int32 → Int32 → Int32 → Int32 → Int32 → (Nat → Int32) → (Nat → Int32) → Int32 → Prop
theorem lns_L {N : Nat} (hN : N ≤ 160) {a b : Nat → Int32} (tp : TP N a b) (ba : Int32) : ∀ d q : Nat, N - q < d → ∀ (f kb nt ml : Nat) (s vC vM bt oB hi hb kg x1 : Int32) (kO kT lA rP rL : Nat → Int32), f ≤ q → q ≤ N → (s = 2 → vC = vM) → (2 ≤ kb ∧ kb ≤ 8) → zb bt → RK nt ml oB hi hb kg kO kT lA rP rL →
    (∃ (kb2 nt2 ml2 q2 f2 : Nat) (vC2 vM2 bt2 oB2 hi2 hb2 kg2 m2 : Int32) (kO2 kT2 lA2 rP2 rL2 : Nat → Int32), (2 ≤ kb2 ∧ kb2 ≤ 8) ∧ RK nt2 ml2 oB2 hi2 hb2 kg2 kO2 kT2 lA2 rP2 rL2 ∧
      (∀ (k : KLx) (X : KX), k (nI ml2) bt2 oB2 hi2 (nI q2) (nI f2) 0 vC2 (nI kb2) kg2 (nI nt2) kO2 kT2 lA2 m2 → ∃ n : Nat, R_lines_L2 (nI N) a k X n (nI ml) bt oB hi (nI q) (nI f) s vC (nI kb) kg (nI nt) kO kT lA x1) ∧
      (∀ k : KLy, k (nI kb2) (nI nt2) (nI ml2) bt2 oB2 hb2 0 ba (nI q2) (nI f2) 0 vM2 rP2 rL2 m2 → ∃ n : Nat, M_text_L67 (nI N) b M0_cuts M0_letters k n (nI kb) (nI nt) (nI ml) bt oB hb 0 ba (nI q) (nI f) s vM rP rL x1)) ∨
    (∃ xc xp y1 y2 y3 y4 y5 y6 sp he to va m2 : Int32, ∃ z1 z2 : Nat → Int32, BK xc ∧
      (∀ (k : KLx) (X : KX), X xc xp → ∃ n : Nat, R_lines_L2 (nI N) a k X n (nI ml) bt oB hi (nI q) (nI f) s vC (nI kb) kg (nI nt) kO kT lA x1) ∧
      (∀ k : KLy, k y1 y2 y3 y4 y5 y6 xc xp sp he to va z1 z2 m2 → ∃ n : Nat, M_text_L67 (nI N) b M0_cuts M0_letters k n (nI kb) (nI nt) (nI ml) bt oB hb 0 ba (nI q) (nI f) s vM rP rL x1)) := by
  intro d
  induction d with
  | zero => intro q hd; omega
  | succ d ih =>
    intro q hd f kb nt ml s vC vM bt oB hi hb kg x1 kO kT lA rP rL hf hq hv hkb hbt hR
    by_cases c : s = 0
    · subst c
      exact Or.inl ⟨kb, nt, ml, q, f, vC, vM, bt, oB, hi, hb, kg, x1, kO, kT, lA, rP, rL, hkb, hR, fun k X hk => ⟨1, fun _ => hk, fun c => absurd rfl c⟩, fun k hk => ⟨1, fun _ => ⟨fun _ => hk, fun c => absurd rfl c⟩, fun c => absurd rfl c⟩⟩
    · rcases line_y hN hf hq tp ba hv hkb hbt hR with ⟨kb2, nt2, ml2, q2, f2, s2, vC2, vM2, bt2, oB2, hi2, hb2, kg2, kO2, kT2, lA2, rP2, rL2, hkb2, hbt2, hf2, hq2, hv2, hlt, hR2, hC, hM⟩ | ⟨xc, xp, y1, y2, y3, y4, y5, y6, sp, he, to, va, z1, z2, hx, hC, hM⟩
      · rcases ih q2 (by omega) f2 kb2 nt2 ml2 s2 vC2 vM2 bt2 oB2 hi2 hb2 kg2 (x1 + 1) kO2 kT2 lA2 rP2 rL2 hf2 hq2 hv2 hkb2 hbt2 hR2 with ⟨kb3, nt3, ml3, q3, f3, vC3, vM3, bt3, oB3, hi3, hb3, kg3, m3, kO3, kT3, lA3, rP3, rL3, hkb3, hR3, hC3, hM3⟩ | ⟨xc, xp, y1, y2, y3, y4, y5, y6, sp, he, to, va, m3, z1, z2, hx, hC3, hM3⟩
        · refine Or.inl ⟨kb3, nt3, ml3, q3, f3, vC3, vM3, bt3, oB3, hi3, hb3, kg3, m3, kO3, kT3, lA3, rP3, rL3, hkb3, hR3, fun k X hk => ?_, fun k hk => ?_⟩
          · obtain ⟨n, hn⟩ := hC3 k X hk
            exact ⟨n + 1, fun c2 => absurd c2 c, fun _ => hC _ X hn⟩
          · obtain ⟨n, hn⟩ := hM3 k hk
            exact ⟨n + 1, fun _ => ⟨fun c2 => absurd c2 c, fun _ => hM _ hn⟩, fun c2 => absurd rfl c2⟩
        · refine Or.inr ⟨xc, xp, y1, y2, y3, y4, y5, y6, sp, he, to, va, m3, z1, z2, hx, fun k X hX => ?_, fun k hk => ?_⟩
          · obtain ⟨n, hn⟩ := hC3 k X hX
            exact ⟨n + 1, fun c2 => absurd c2 c, fun _ => hC _ X hn⟩
          · obtain ⟨n, hn⟩ := hM3 k hk
            exact ⟨n + 1, fun _ => ⟨fun c2 => absurd c2 c, fun _ => hM _ hn⟩, fun c2 => absurd rfl c2⟩
      · exact Or.inr ⟨xc, xp, y1, y2, y3, y4, y5, y6, sp, he, to, va, x1 + 1, z1, z2, hx, fun k X hX => ⟨1, fun c2 => absurd c2 c, fun _ => hC _ X hX⟩, fun k hk => ⟨2, fun _ => ⟨fun c2 => absurd c2 c, fun _ => hM _ ⟨fun c2 => absurd c2 hx.1, fun _ => hk⟩⟩, fun c2 => absurd rfl c2⟩⟩
/-! both of a lock's blocks hung -/
def ilF (oB : Int32) (lA : Nat → Int32) : Nat → Int32
  | 0 => 0
  | l + 1 => if ilF oB lA l = 0 then (if bz oB (lA (2 * l)) = 0 then (0 : Int32) else (if bz oB (lA (2 * l + 1)) = 0 then (0 : Int32) else (1 : Int32))) else (1 : Int32)
theorem il_z (oB : Int32) (lA : Nat → Int32) : ∀ l : Nat, zb (ilF oB lA l) := by
  intro l
  induction l with
  | zero => exact zb_0
  | succ l ih => exact zb_I (fun _ => zb_I (fun _ => zb_0) (fun _ => zb_I (fun _ => zb_0) (fun _ => zb_1))) (fun _ => zb_1)
theorem or_zz {a b : Int32} (ha : zb a) (hb : zb b) : a ||| b = if a = 0 then b else (1 : Int32) := by
  rcases ha with rfl | rfl
  · rw [if_pos rfl, Int32.zero_or]
  · rw [if_neg (show ¬ (1 : Int32) = 0 by decide)]
    rcases hb with rfl | rfl <;> decide
theorem ilC_L {ml : Nat} (hm : ml ≤ 4) {oB : Int32} {lA : Nat → Int32} {k : Int32 → Prop} (hk : k (ilF oB lA ml)) : ∀ n j : Nat, j + n = ml → R_isLocked_L4 (nI ml) oB lA k (n + 1) (ilF oB lA j) (nI j) := by
  intro n
  induction n with
  | zero =>
    intro j hj
    obtain rfl : j = ml := by omega
    exact ⟨fun _ => hk, fun c => absurd (nI_le (Nat.le_refl _) (by omega)) c⟩
  | succ n ih =>
    intro j hj
    have h := ih (j + 1) (by omega)
    rw [nI_succ] at h
    have v0 : vp_in (nI (2 * j)) 8 := vp_in_nI (by omega) (by omega)
    have v1 : vp_in (nI (2 * j + 1)) 8 := vp_in_nI (by omega) (by omega)
    refine ⟨fun c => absurd c (nI_ge (by omega) (by omega)), fun _ => ?_⟩
    rw [nI_2, nI_1, nI_clamp (n := 2 * j) (by omega), nI_clamp (n := 2 * j + 1) (by omega), has_bz, has_bz, or_zz (il_z _ _ _) (zb_I (fun _ => zb_0) (fun _ => zb_I (fun _ => zb_0) (fun _ => zb_1)))]
    exact ⟨v0, fun _ => v1, h⟩
theorem ilM_L {nt ml : Nat} {oB hi hb kg : Int32} {kO kT lA rP rL : Nat → Int32} (hR : RK nt ml oB hi hb kg kO kT lA rP rL) {k : Int32 → Prop} (hk : k (ilF oB lA ml)) : ∀ n j : Nat, j + n = ml → M_areBothHung_L4 (nI ml) rP rL k (n + 1) (ilF oB lA j) (nI j) := by
  obtain ⟨a1, a2, a3, a4, a5, a6, a7, a8, a9⟩ := hR
  have hz : ∀ l : Nat, l < 2 * ml → vp_in (rL l) 25 ∧ (rP (rL l).toNatClampNeg ≤ 0 ↔ bz oB (lA l) = 0) := by
    intro l hl
    have h1 := a7 l (by omega)
    have e : lA l = nI (lA l).toInt.toNat := of_nn h1.1
    rw [(a8 l hl).1, e]
    generalize hx : (lA l).toInt.toNat = x at *
    have hx8 : x < 8 := by omega
    refine ⟨vp_in_nI (by omega) (by omega), ?_⟩
    rw [nI_clamp (by omega), pg_b a5 hx8, (a6 x hx8).1]
    have h2 := (a4.2.2.2.2.1 x hx8).1
    constructor
    · intro h3
      have h4 := Int32.le_iff_toInt_le.mp h3
      rw [show (0 : Int32).toInt = 0 from by decide] at h4
      exact Int32.toInt_inj.mp (by rw [show (0 : Int32).toInt = 0 from by decide]; omega)
    · intro h3
      rw [h3]
      decide
  intro n
  induction n with
  | zero =>
    intro j hj
    obtain rfl : j = ml := by omega
    exact ⟨fun _ => hk, fun c => absurd (nI_le (Nat.le_refl _) (by omega)) c⟩
  | succ n ih =>
    intro j hj
    have h := ih (j + 1) (by omega)
    rw [nI_succ] at h
    have v0 : vp_in (nI (2 * j)) 8 := vp_in_nI (by omega) (by omega)
    have v1 : vp_in (nI (2 * j + 1)) 8 := vp_in_nI (by omega) (by omega)
    have z0 := hz (2 * j) (by omega)
    have z1 := hz (2 * j + 1) (by omega)
    refine ⟨fun c => absurd c (nI_ge (by omega) (by omega)), fun _ => ?_⟩
    rw [nI_2, nI_1, nI_clamp (n := 2 * j) (by omega), nI_clamp (n := 2 * j + 1) (by omega)]
    refine ⟨fun _ => v0, fun _ => z0.1, fun _ _ => v1, fun _ _ => z1.1, ?_⟩
    have e : (if ilF oB lA j = 0 then (if rP (rL (2 * j)).toNatClampNeg ≤ 0 then (0 : Int32) else (if rP (rL (2 * j + 1)).toNatClampNeg ≤ 0 then (0 : Int32) else (1 : Int32))) else (1 : Int32)) = ilF oB lA (j + 1) := by
      show _ = if ilF oB lA j = 0 then (if bz oB (lA (2 * j)) = 0 then (0 : Int32) else (if bz oB (lA (2 * j + 1)) = 0 then (0 : Int32) else (1 : Int32))) else (1 : Int32)
      by_cases c0 : bz oB (lA (2 * j)) = 0
      · rw [if_pos c0, if_pos (z0.2.mpr c0)]
      · rw [if_neg c0, if_neg (fun h => c0 (z0.2.mp h))]
        by_cases c1 : bz oB (lA (2 * j + 1)) = 0
        · rw [if_pos c1, if_pos (z1.2.mpr c1)]
        · rw [if_neg c1, if_neg (fun h => c1 (z1.2.mp h))]
    rw [e]
    exact h
theorem il_0 (oB : Int32) (lA : Nat → Int32) : ∀ m : Nat, ilF oB lA m = 0 → ∀ l : Nat, l < m → bz oB (lA (2 * l)) = 0 ∨ bz oB (lA (2 * l + 1)) = 0 := by
  intro m
  induction m with
  | zero => intro _ l hl; omega
  | succ m ih =>
    intro h l hl
    have e : ilF oB lA (m + 1) = if ilF oB lA m = 0 then (if bz oB (lA (2 * m)) = 0 then (0 : Int32) else (if bz oB (lA (2 * m + 1)) = 0 then (0 : Int32) else (1 : Int32))) else (1 : Int32) := rfl
    rw [e] at h
    by_cases c : ilF oB lA m = 0
    · rw [if_pos c] at h
      by_cases e2 : l = m
      · rw [e2]
        by_cases c0 : bz oB (lA (2 * m)) = 0
        · exact Or.inl c0
        · rw [if_neg c0] at h
          by_cases c1 : bz oB (lA (2 * m + 1)) = 0
          · exact Or.inr c1
          · rw [if_neg c1] at h
            exact absurd h (by decide)
      · exact ih c l (by omega)
    · rw [if_neg c] at h
      exact absurd h (by decide)
theorem z44_L : ∀ d j : Nat, j + d = 25 → ∀ rP : Nat → Int32, (∀ i : Nat, i < j → rP i = 0) → ∃ rP2 : Nat → Int32, (∀ k : (Nat → Int32) → Prop, k rP2 → ∃ n : Nat, M_text_L44 k n rP (nI j)) ∧ ∀ i : Nat, i < 25 → rP2 i = 0 := by
  intro d
  induction d with
  | zero =>
    intro j hj rP h
    obtain rfl : j = 25 := by omega
    exact ⟨rP, fun k hk => ⟨1, fun _ => hk, fun c => absurd (show (25 : Int32) ≤ nI 25 by decide) c⟩, h⟩
  | succ d ih =>
    intro j hj rP h
    obtain ⟨rP2, hM, h2⟩ := ih (j + 1) (by omega) (upd rP j 0) (fun i hi => by
      by_cases e : i = j
      · rw [e, upd_eq]
      · rw [upd_ne _ _ e]
        exact h i (by omega))
    rw [nI_succ] at hM
    refine ⟨rP2, fun k hk => ?_, h2⟩
    obtain ⟨n, hn⟩ := hM k hk
    refine ⟨n + 1, fun c => absurd c (nI_ge (b := 25) (by omega) (by omega)), fun _ => ⟨vp_in_nI (by omega) (by omega), ?_⟩⟩
    rw [nI_clamp (by omega)]
    exact hn
theorem c165_L {rP rL : Nat → Int32} : ∀ d j : Nat, j + d = 25 → ∀ st lk st0 : Nat → Int32, (∀ i : Nat, i < j → st i = rP i) → (∀ i : Nat, 25 ≤ i → st i = st0 i) → (∀ i : Nat, i < 8 → i < j → lk i = rL i) → ∃ st2 lk2 : Nat → Int32, (∀ k : (Nat → Int32) → (Nat → Int32) → Prop, k st2 lk2 → ∃ n : Nat, M_text_L165 rP rL k n st lk (nI j)) ∧ (∀ i : Nat, i < 25 → st2 i = rP i) ∧ (∀ i : Nat, 25 ≤ i → st2 i = st0 i) ∧ (∀ i : Nat, i < 8 → lk2 i = rL i) := by
  intro d
  induction d with
  | zero =>
    intro j hj st lk st0 h1 h2 h3
    obtain rfl : j = 25 := by omega
    exact ⟨st, lk, fun k hk => ⟨1, fun _ => hk, fun c => absurd (show (25 : Int32) ≤ nI 25 by decide) c⟩, h1, h2, fun i hi => h3 i hi (by omega)⟩
  | succ d ih =>
    intro j hj st lk st0 h1 h2 h3
    have er : nI j - nI j / (8 : Int32) * (8 : Int32) = nI (j % 8) := pk_rem (d := 8) (by omega) (by omega) (by omega)
    have hm : j % 8 < 8 := Nat.mod_lt _ (by omega)
    obtain ⟨st2, lk2, hM, k1, k2, k3⟩ := ih (j + 1) (by omega) (upd st j (rP j)) (upd lk (j % 8) (rL (j % 8))) st0 (fun i hi => by
      by_cases e : i = j
      · rw [e, upd_eq]
      · rw [upd_ne _ _ e]
        exact h1 i (by omega)) (fun i hi => by
      rw [upd_ne _ _ (by omega)]
      exact h2 i hi) (fun i hi hi2 => by
      by_cases e : i = j % 8
      · rw [e, upd_eq]
      · rw [upd_ne _ _ e]
        exact h3 i hi (by omega))
    rw [nI_succ] at hM
    refine ⟨st2, lk2, fun k hk => ?_, k1, k2, k3⟩
    obtain ⟨n, hn⟩ := hM k hk
    refine ⟨n + 1, fun c => absurd c (nI_ge (b := 25) (by omega) (by omega)), fun _ => ?_⟩
    rw [er, nI_clamp (n := j) (by omega), nI_clamp (n := j % 8) (by omega)]
    exact ⟨vp_in_nI (by omega) (by omega), vp_in_nI (by omega) (by omega), vp_in_nI hm (by omega), vp_in_nI hm (by omega), hn⟩
