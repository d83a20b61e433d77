set_option maxRecDepth 100000
theorem alF_s (lk : Nat → Int32) (x : Int32) (l : Nat) : alF lk x (l + 1) = alF lk x l &&& (if bz x (lk (2 * l)) = 0 then (1 : Int32) else (if bz x (lk (2 * l + 1)) = 0 then (1 : Int32) else (0 : Int32))) := by
  show (if alF lk x l = 0 then (0 : Int32) else _) = _
  rcases alF_z lk x l with h | h
  · rw [h, if_pos rfl, Int32.zero_and]
  · rw [h, if_neg (by decide)]
    rcases bz_01 x (lk (2 * l)) with c | c
    · rw [if_pos c]; decide
    · rw [c]
      rcases bz_01 x (lk (2 * l + 1)) with d | d
      · rw [d]; decide
      · rw [d]; decide
theorem alC_L {L : Nat} (hL : L ≤ 4) {lk : Nat → Int32} {x : Int32} {k : Int32 → Prop} (hk : k (alF lk x L)) : ∀ n j : Nat, j + n = L → C_isAllowed_L4 (nI L) lk x k (n + 1) (alF lk x j) (nI j) := by
  intro n
  induction n with
  | zero =>
    intro j hj
    obtain rfl : j = L := by omega
    exact ⟨fun _ => hk, fun c => absurd (nI_le (Nat.le_refl _) (by omega)) c⟩
  | succ n ih =>
    intro j hj
    have v0 : vp_in (nI (2 * j)) 8 := vp_in_nI (by omega) (by omega)
    have v1 : vp_in (nI (2 * j + 1)) 8 := vp_in_nI (by omega) (by omega)
    have h := ih (j + 1) (by omega)
    rw [nI_succ] at h
    refine ⟨fun c => absurd c (nI_ge (by omega) (by omega)), fun _ => ?_⟩
    rw [nI_2, nI_1, nI_clamp (n := 2 * j) (by omega), nI_clamp (n := 2 * j + 1) (by omega)]
    rw [has_bz, has_bz, ← alF_s]
    exact ⟨v0, fun _ => v1, h⟩
theorem alM_L {L : Nat} (hL : L ≤ 4) {lk : Nat → Int32} {x : Int32} {k : Int32 → Prop} (hk : k (alF lk x L)) : ∀ n j : Nat, j + n = L → M_isAllowed_L4 (nI L) lk x k (n + 1) (alF lk x j) (nI j) := by
  intro n
  induction n with
  | zero =>
    intro j hj
    obtain rfl : j = L := by omega
    exact ⟨fun _ => hk, fun c => absurd (nI_le (Nat.le_refl _) (by omega)) c⟩
  | succ n ih =>
    intro j hj
    have v0 : vp_in (nI (2 * j)) 8 := vp_in_nI (by omega) (by omega)
    have v1 : vp_in (nI (2 * j + 1)) 8 := vp_in_nI (by omega) (by omega)
    have h := ih (j + 1) (by omega)
    rw [nI_succ] at h
    refine ⟨fun c => absurd c (nI_ge (by omega) (by omega)), fun _ => ?_⟩
    rw [nI_2, nI_1, nI_clamp (n := 2 * j) (by omega), nI_clamp (n := 2 * j + 1) (by omega)]
    exact ⟨fun _ => v0, fun _ _ => v1, h⟩
