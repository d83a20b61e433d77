set_option maxRecDepth 100000
/-! sets of blocks, bit by bit -/
theorem or_and1 (p q r : Int32) : (p ||| q) &&& r = (p &&& r) ||| (q &&& r) := by
  apply Int32.toBitVec_inj.mp
  rw [Int32.toBitVec_and, Int32.toBitVec_or, Int32.toBitVec_or, Int32.toBitVec_and, Int32.toBitVec_and]
  ext i hi
  simp [Bool.and_or_distrib_right]
theorem bz_or (x y i : Int32) : bz (x ||| y) i = bz x i ||| bz y i := by
  unfold bz
  rw [Int32.shiftRight_or, or_and1]
theorem bz_bit : ∀ b : Nat, b < 8 → ∀ i : Nat, i < 8 → bz ((1 : Int32) <<< (nI b &&& 31)) (nI i) = if i = b then (1 : Int32) else (0 : Int32) := by
  decide +kernel
theorem bz_0 : ∀ i : Nat, i < 8 → bz 0 (nI i) = 0 := by
  decide +kernel
theorem or_bit : ∀ j : Nat, j < 8 → ∀ h : Nat, h < 2 ^ j → nI h ||| ((1 : Int32) <<< (nI j &&& 31)) = nI (h + 2 ^ j) := by
  decide +kernel
theorem pow_8 : ∀ j : Nat, j ≤ 8 → 2 ^ j ≤ 256 := by
  decide +kernel
theorem hs_n (om : Nat → Int32) : ∀ j : Nat, j ≤ 8 → ∃ h : Nat, h < 2 ^ j ∧ hs om j = nI h := by
  intro j
  induction j with
  | zero => intro _; exact ⟨0, by decide, rfl⟩
  | succ j ih =>
    intro hj
    obtain ⟨h, h1, h2⟩ := ih (by omega)
    have e : hs om (j + 1) = hs om j ||| (if om j = 0 then (0 : Int32) else ((1 : Int32) <<< (nI j &&& 31))) := rfl
    rw [e, h2]
    by_cases c : om j = 0
    · rw [if_pos c, Int32.or_zero]
      exact ⟨h, by rw [Nat.pow_succ]; omega, rfl⟩
    · rw [if_neg c, or_bit j (by omega) h h1]
      exact ⟨h + 2 ^ j, by rw [Nat.pow_succ]; omega, rfl⟩
theorem hs_bz (om : Nat → Int32) {i : Nat} (hi : i < 8) : ∀ j : Nat, j ≤ 8 → (bz (hs om j) (nI i) = 0 ↔ (i < j → om i = 0)) := by
  intro j
  induction j with
  | zero =>
    intro _
    exact ⟨fun _ h => absurd h (Nat.not_lt_zero _), fun _ => bz_0 i hi⟩
  | succ j ih =>
    intro hj
    have e : hs om (j + 1) = hs om j ||| (if om j = 0 then (0 : Int32) else ((1 : Int32) <<< (nI j &&& 31))) := rfl
    rw [e, bz_or, Int32.or_eq_zero_iff, ih (by omega)]
    by_cases c : om j = 0
    · rw [if_pos c]
      constructor
      · intro h h2
        by_cases e2 : i = j
        · rw [e2]; exact c
        · exact h.1 (by omega)
      · intro h
        exact ⟨fun h2 => h (by omega), bz_0 i hi⟩
    · rw [if_neg c, bz_bit j (by omega) i hi]
      constructor
      · intro h h2
        by_cases e2 : i = j
        · rw [if_pos e2] at h
          exact absurd h.2 (by decide)
        · exact h.1 (by omega)
      · intro h
        refine ⟨fun h2 => h (by omega), ?_⟩
        by_cases e2 : i = j
        · exact absurd (e2 ▸ h (by omega)) c
        · rw [if_neg e2]
theorem bit_and : ∀ b : Nat, b < 8 → ∀ h : Nat, h < 256 → (((1 : Int32) <<< (nI b &&& 31)) &&& nI h = 0 ↔ bz (nI h) (nI b) = 0) := by
  decide +kernel
theorem alF_iff (lk : Nat → Int32) (x : Int32) : ∀ L : Nat, (¬ alF lk x L = 0 ↔ ∀ l : Nat, l < L → bz x (lk (2 * l)) = 0 ∨ bz x (lk (2 * l + 1)) = 0) := by
  intro L
  induction L with
  | zero => exact ⟨fun _ l h => absurd h (Nat.not_lt_zero _), fun _ => by show ¬ (1 : Int32) = 0; decide⟩
  | succ L ih =>
    have e : alF lk x (L + 1) = if alF lk x L = 0 then (0 : Int32) else (if bz x (lk (2 * L)) = 0 then (1 : Int32) else (if bz x (lk (2 * L + 1)) = 0 then (1 : Int32) else (0 : Int32))) := rfl
    rw [e]
    constructor
    · intro h l hl
      by_cases c : alF lk x L = 0
      · rw [if_pos c] at h
        exact absurd rfl h
      · rw [if_neg c] at h
        by_cases e2 : l = L
        · rw [e2]
          by_cases c1 : bz x (lk (2 * L)) = 0
          · exact Or.inl c1
          · rw [if_neg c1] at h
            by_cases c2 : bz x (lk (2 * L + 1)) = 0
            · exact Or.inr c2
            · rw [if_neg c2] at h
              exact absurd rfl h
        · exact ih.mp c l (by omega)
    · intro h
      rw [if_neg (ih.mpr (fun l hl => h l (by omega)))]
      rcases h L (by omega) with c | c
      · rw [if_pos c]; decide
      · by_cases c1 : bz x (lk (2 * L)) = 0
        · rw [if_pos c1]; decide
        · rw [if_neg c1, if_pos c]; decide
theorem lw_and {lk : Nat → Int32} (hlk : ∀ l : Nat, l < 8 → 0 ≤ (lk l).toInt ∧ (lk l).toInt < 8) {h : Nat} (hh : h < 256) (x : Int32) : ∀ L : Nat, L ≤ 4 → (lws lk x L &&& nI h = 0 ↔ ∀ l : Nat, l < L → (lk (2 * l) = x → bz (nI h) (lk (2 * l + 1)) = 0) ∧ (lk (2 * l + 1) = x → bz (nI h) (lk (2 * l)) = 0)) := by
  have hb : ∀ l : Nat, l < 8 → ∀ c : Prop, [Decidable c] → ((if c then ((1 : Int32) <<< (lk l &&& 31)) else (0 : Int32)) &&& nI h = 0 ↔ (c → bz (nI h) (lk l) = 0)) := by
    intro l hl c _
    by_cases hc : c
    · rw [if_pos hc]
      have e : lk l = nI (lk l).toInt.toNat := of_nn (hlk l hl).1
      rw [e, bit_and _ (by have := (hlk l hl).2; omega) h hh]
      exact ⟨fun h1 _ => h1, fun h1 => h1 hc⟩
    · rw [if_neg hc, Int32.zero_and]
      exact ⟨fun _ h1 => absurd h1 hc, fun _ => rfl⟩
  intro L
  induction L with
  | zero => intro _; exact ⟨fun _ l h => absurd h (Nat.not_lt_zero _), fun _ => Int32.zero_and⟩
  | succ L ih =>
    intro hL
    have e : lws lk x (L + 1) = (lws lk x L ||| (if lk (2 * L) = x then ((1 : Int32) <<< (lk (2 * L + 1) &&& 31)) else (0 : Int32))) ||| (if lk (2 * L + 1) = x then ((1 : Int32) <<< (lk (2 * L) &&& 31)) else (0 : Int32)) := rfl
    rw [e, or_and1, or_and1, Int32.or_eq_zero_iff, Int32.or_eq_zero_iff, ih (by omega), hb _ (by omega), hb _ (by omega)]
    constructor
    · intro h1 l hl
      by_cases e2 : l = L
      · rw [e2]
        exact ⟨h1.1.2, h1.2⟩
      · exact h1.1.1 l (by omega)
    · intro h1
      exact ⟨⟨fun l hl => h1 l (by omega), (h1 L (by omega)).1⟩, (h1 L (by omega)).2⟩
theorem alC_y {L : Nat} (hL : L ≤ 4) {lk : Nat → Int32} {x : Int32} {Q : Int32 → Prop} (hQ : Q (alF lk x L)) : C_isAllowed (nI L) lk x Q := ⟨_, alC_L hL (k := fun r => zb r ∧ Q r) ⟨alF_z lk x L, hQ⟩ L 0 (Nat.zero_add _)⟩
theorem alM_y {L : Nat} (hL : L ≤ 4) {lk lk2 : Nat → Int32} (he : ∀ l : Nat, l < 2 * L → lk2 l = lk l) {x : Int32} {Q : Int32 → Prop} (hQ : Q (alF lk x L)) : M_isAllowed (nI L) lk2 x Q := by
  rw [← alF_eq x L he] at hQ
  exact ⟨_, alM_L hL (k := fun r => zb r ∧ Q r) ⟨alF_z lk2 x L, hQ⟩ L 0 (Nat.zero_add _)⟩
theorem al_hs {B L : Nat} (hB8 : B ≤ 8) (hL : L ≤ 4) {lk om : Nat → Int32} (hlk : lkOK (nI L) (nI B) lk) (ha : alOK (nI L) lk om) : ¬ alF lk (hs om B) L = 0 := by
  rw [alF_iff]
  intro l hl
  have t := nI_toInt (n := L) (by omega)
  have h0 := hlk.2.2.1 (2 * l) (by omega)
  have h1 := hlk.2.2.1 (2 * l + 1) (by omega)
  have e0 : lk (2 * l) = nI (lk (2 * l)).toInt.toNat := of_nn h0.1
  have e1 : lk (2 * l + 1) = nI (lk (2 * l + 1)).toInt.toNat := of_nn h1.1
  rw [e0, e1, hs_bz om (by omega) B hB8, hs_bz om (by omega) B hB8]
  rcases ha l (by omega) with h | h
  · exact Or.inl (fun _ => h)
  · exact Or.inr (fun _ => h)
