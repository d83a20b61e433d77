set_option maxRecDepth 100000
/-! products, sums, the lowest terms -/
theorem low_cmp (b : Nat) (h : b < 2 ^ 63) : lg_cmp (lN b) (0 : Int64) = 0 ↔ b = 0 := by
  unfold lg_cmp
  have e0 : (0 : Int64) = lN 0 := rfl
  constructor
  · intro c
    refine Classical.byContradiction (fun hb => ?_)
    rw [if_pos (show lN b > (0 : Int64) by rw [e0]; exact (pk_lLT (by omega) h).mpr (by omega))] at c
    exact absurd c (by decide)
  · intro c
    rw [c]
    decide
theorem lN_n0 {b : Nat} (h : b < 2 ^ 63) (h0 : b ≠ 0) : ¬ lN b = 0 := fun e => h0 ((pk_lEQ (b := 0) h (by omega)).mp e)
theorem lowC_L {k : Int64 → Prop} : ∀ b : Nat, b < 2 ^ 63 → ∀ a : Nat, a < 2 ^ 63 → k (lN (Nat.gcd a b)) → ∃ n : Nat, C_lowest_L6 k n (lN a) (lN b) := by
  intro b
  induction b using Nat.strongRecOn with
  | _ b ih =>
    intro hb a ha hk
    by_cases c : b = 0
    · subst c
      rw [Nat.gcd_zero_right] at hk
      exact ⟨1, fun _ => hk, fun h => absurd ((low_cmp 0 hb).mpr rfl) h⟩
    · have hr : a % b < b := Nat.mod_lt _ (by omega)
      obtain ⟨n, hn⟩ := ih (a % b) hr (by omega) b hb (by rw [Nat.gcd_comm, ← Nat.gcd_rec, Nat.gcd_comm]; exact hk)
      refine ⟨n + 1, fun h => absurd ((low_cmp b hb).mp h) c, fun _ => ⟨lN_n0 hb c, ?_⟩⟩
      rw [pk_lRem ha (by omega) hb]
      exact hn
theorem lowM_L {k : Int64 → Prop} : ∀ b : Nat, b < 2 ^ 63 → ∀ a : Nat, a < 2 ^ 63 → k (lN (Nat.gcd a b)) → ∃ n : Nat, M_lowest_L6 k n (lN a) (lN b) := by
  intro b
  induction b using Nat.strongRecOn with
  | _ b ih =>
    intro hb a ha hk
    by_cases c : b = 0
    · subst c
      rw [Nat.gcd_zero_right] at hk
      exact ⟨1, fun _ => hk, fun h => absurd ((low_cmp 0 hb).mpr rfl) h⟩
    · have hr : a % b < b := Nat.mod_lt _ (by omega)
      obtain ⟨n, hn⟩ := ih (a % b) hr (by omega) b hb (by rw [Nat.gcd_comm, ← Nat.gcd_rec, Nat.gcd_comm]; exact hk)
      refine ⟨n + 1, fun h => absurd ((low_cmp b hb).mp h) c, fun _ => ⟨lN_n0 hb c, ?_⟩⟩
      rw [pk_lRem ha (by omega) hb]
      exact hn
theorem low_y {a b : Nat} (ha : a < 2 ^ 63) (hb : b < 2 ^ 63) (hb0 : b ≠ 0) (x : Int32) : ∃ v : Int64, (∀ Q : Int64 → Prop, Q v → C_lowest (lN a) (lN b) x Q) ∧ (∀ Q : Int64 → Prop, Q v → M_lowest (lN a) (lN b) x Q) := by
  have hg : Nat.gcd a b ≤ b := Nat.gcd_le_right _ (by omega)
  have hg0 : Nat.gcd a b ≠ 0 := fun h => hb0 (Nat.gcd_eq_zero_iff.mp h).2
  have hn : ¬ lN (Nat.gcd a b) = 0 := lN_n0 (by omega) hg0
  refine ⟨(if x = 0 then lN a else lN b) / lN (Nat.gcd a b), fun Q hQ => lowC_L a ha b hb ?_, fun Q hQ => lowM_L b hb a ha ⟨hn, hQ⟩⟩
  rw [Nat.gcd_comm b a]
  refine ⟨fun h => ⟨hn, ?_⟩, fun h => ⟨hn, ?_⟩⟩
  · rw [if_pos h] at hQ
    exact hQ
  · rw [if_neg h] at hQ
    exact hQ
def wyF (x : Int32) : Nat → Nat
  | 0 => 1
  | j + 1 => wyF x j * (if bz x (nI j) = 0 then 10 else 1)
theorem wy_b (x : Int32) : ∀ j : Nat, 1 ≤ wyF x j ∧ wyF x j ≤ 10 ^ j := by
  intro j
  induction j with
  | zero => exact ⟨Nat.le_refl _, Nat.le_refl _⟩
  | succ j ih =>
    show 1 ≤ wyF x j * (if bz x (nI j) = 0 then 10 else 1) ∧ wyF x j * (if bz x (nI j) = 0 then 10 else 1) ≤ 10 ^ (j + 1)
    rw [Nat.pow_succ]
    by_cases c : bz x (nI j) = 0
    · rw [if_pos c]
      exact ⟨by omega, Nat.mul_le_mul ih.2 (Nat.le_refl _)⟩
    · rw [if_neg c]
      exact ⟨by omega, Nat.mul_le_mul ih.2 (by omega)⟩
theorem wy_s (x : Int32) (j : Nat) : lN (wyF x j) * (if bz x (nI j) = 0 then (10 : Int64) else (1 : Int64)) = lN (wyF x (j + 1)) := by
  show _ = lN (wyF x j * (if bz x (nI j) = 0 then 10 else 1))
  rw [← lN_mul]
  by_cases c : bz x (nI j) = 0
  · rw [if_pos c, if_pos c]
    rfl
  · rw [if_neg c, if_neg c]
    rfl
theorem wyC_L {B : Nat} (hB : B ≤ 8) {om : Nat → Int32} {k : Int64 → Prop} (hk : k (lN (wyF (hs om B) B))) : ∀ n j : Nat, j + n = B → C_findOdds_L17 (nI B) om k (n + 1) (lN (wyF (hs om B) j)) (nI j) := by
  intro n
  induction n with
  | zero =>
    intro j hj
    obtain rfl : j = B := by omega
    exact ⟨fun _ => hk, fun c => absurd (nI_le (Nat.le_refl _) (by omega)) c⟩
  | succ n ih =>
    intro j hj
    have h := ih (j + 1) (by omega)
    rw [nI_succ, ← wy_s] at h
    refine ⟨fun c => absurd c (nI_ge (by omega) (by omega)), fun _ => hung_y hB om ?_⟩
    rw [has_bz]
    exact h
theorem wyM_L {B : Nat} (hB : B ≤ 8) {x : Int32} {k : Int64 → Prop} (hk : k (lN (wyF x B))) : ∀ n j : Nat, j + n = B → M_byMagpies_L15 (nI B) x k (n + 1) (lN (wyF x j)) (nI j) := by
  intro n
  induction n with
  | zero =>
    intro j hj
    obtain rfl : j = B := by omega
    exact ⟨fun _ => hk, fun c => absurd (nI_le (Nat.le_refl _) (by omega)) c⟩
  | succ n ih =>
    intro j hj
    have h := ih (j + 1) (by omega)
    rw [nI_succ, ← wy_s] at h
    exact ⟨fun c => absurd c (nI_ge (by omega) (by omega)), fun _ => h⟩
def odF (x y : Int32) (c : Nat) : Nat → Nat
  | 0 => 1
  | j + 1 => odF x y c j * (if bz x (nI j) = 0 then (if bz y (nI j) = 0 then 10 - c else c) else 1)
theorem od_b (x y : Int32) {c : Nat} (hc : c ≤ 10) : ∀ j : Nat, odF x y c j ≤ 10 ^ j := by
  intro j
  induction j with
  | zero => exact Nat.le_refl _
  | succ j ih =>
    show odF x y c j * _ ≤ 10 ^ (j + 1)
    rw [Nat.pow_succ]
    refine Nat.mul_le_mul ih ?_
    by_cases c1 : bz x (nI j) = 0
    · rw [if_pos c1]
      by_cases c2 : bz y (nI j) = 0
      · rw [if_pos c2]; omega
      · rw [if_neg c2]; omega
    · rw [if_neg c1]; omega
theorem od_s (x y : Int32) {c : Nat} (hc : c ≤ 10) (j : Nat) : lN (odF x y c j) * (if bz x (nI j) = 0 then (if bz y (nI j) = 0 then (((10 : Int32) - nI c)).toInt64 else (nI c).toInt64) else (1 : Int64)) = lN (odF x y c (j + 1)) := by
  show _ = lN (odF x y c j * (if bz x (nI j) = 0 then (if bz y (nI j) = 0 then 10 - c else c) else 1))
  have e : (10 : Int32) - nI c = nI (10 - c) := pk_sub (a := 10) hc
  rw [← lN_mul, e, nI_l (by omega), nI_l (by omega)]
  by_cases c1 : bz x (nI j) = 0
  · rw [if_pos c1, if_pos c1]
    by_cases c2 : bz y (nI j) = 0
    · rw [if_pos c2, if_pos c2]
    · rw [if_neg c2, if_neg c2]
  · rw [if_neg c1, if_neg c1]
    rfl
theorem odC_L {B : Nat} (hB : B ≤ 8) {om : Nat → Int32} {y : Int32} {c : Nat} (hc : c ≤ 10) {k : Int64 → Prop} (hk : k (lN (odF (hs om B) y c B))) : ∀ n j : Nat, j + n = B → C_findOdds_L96 (nI B) om (nI c) y k (n + 1) (lN (odF (hs om B) y c j)) (nI j) := by
  intro n
  induction n with
  | zero =>
    intro j hj
    obtain rfl : j = B := by omega
    exact ⟨fun _ => hk, fun c => absurd (nI_le (Nat.le_refl _) (by omega)) c⟩
  | succ n ih =>
    intro j hj
    have h := ih (j + 1) (by omega)
    rw [nI_succ, ← od_s _ _ hc] at h
    refine ⟨fun c => absurd c (nI_ge (by omega) (by omega)), fun _ => hung_y hB om ?_⟩
    rw [has_bz, has_bz]
    exact h
theorem odM_L {B : Nat} (hB : B ≤ 8) {x y : Int32} {c : Nat} (hc : c ≤ 10) {k : Int64 → Prop} (hk : k (lN (odF x y c B))) : ∀ n j : Nat, j + n = B → M_byMagpies_L87 (nI B) (nI c) x y k (n + 1) (lN (odF x y c j)) (nI j) := by
  intro n
  induction n with
  | zero =>
    intro j hj
    obtain rfl : j = B := by omega
    exact ⟨fun _ => hk, fun c => absurd (nI_le (Nat.le_refl _) (by omega)) c⟩
  | succ n ih =>
    intro j hj
    have h := ih (j + 1) (by omega)
    rw [nI_succ, ← od_s _ _ hc] at h
    refine ⟨fun c => absurd c (nI_ge (by omega) (by omega)), fun _ => ?_⟩
    have e : (if (x >>> (nI j &&& 31)) &&& (1 : Int32) = (1 : Int32) then (1 : Int64) else (if (y >>> (nI j &&& 31)) &&& (1 : Int32) = (1 : Int32) then (nI c).toInt64 else (((10 : Int32) - nI c)).toInt64)) = (if bz x (nI j) = 0 then (if bz y (nI j) = 0 then (((10 : Int32) - nI c)).toInt64 else (nI c).toInt64) else (1 : Int64)) := by
      show (if bz x (nI j) = (1 : Int32) then (1 : Int64) else (if bz y (nI j) = (1 : Int32) then (nI c).toInt64 else (((10 : Int32) - nI c)).toInt64)) = _
      rcases bz_01 x (nI j) with c1 | c1
      · rw [c1, if_neg (by decide), if_pos rfl]
        rcases bz_01 y (nI j) with c2 | c2
        · rw [c2, if_neg (by decide), if_pos rfl]
        · rw [c2, if_pos rfl, if_neg (by decide)]
      · rw [c1, if_pos rfl, if_neg (by decide)]
    rw [e]
    exact h
theorem cs_b {B T : Nat} {om tr ho : Nat → Int32} (hb : bOK (nI B) (nI T) om tr) (hh : ∀ t : Nat, t < 4 → plB 120 (ho t)) : ∀ j : Nat, j ≤ 4 → ∃ c : Nat, c ≤ j * 1080 ∧ csF ho tr j = nI c := by
  intro j
  induction j with
  | zero => intro _; exact ⟨0, Nat.le_refl _, rfl⟩
  | succ j ih =>
    intro hj
    obtain ⟨c, hc, e⟩ := ih (by omega)
    have hw := (hb.2.2.2.2.2 j (by omega)).2.2.2
    have ew : tr (4 * j + 3) = nI (tr (4 * j + 3)).toInt.toNat := of_nn hw.1
    have hw9 : (tr (4 * j + 3)).toInt.toNat ≤ 9 := by omega
    obtain ⟨u, hu, eu⟩ : ∃ u : Nat, u ≤ 120 ∧ (if ho j = -4 then (120 : Int32) else ho j) = nI u := by
      rcases hh j (by omega) with h | ⟨n, hn, h⟩
      · rw [if_pos h]
        exact ⟨120, by omega, rfl⟩
      · rw [if_neg (by rw [h]; exact n4_ne (by omega))]
        exact ⟨n, by omega, h⟩
    have hm : u * (tr (4 * j + 3)).toInt.toNat ≤ 120 * 9 := Nat.mul_le_mul hu hw9
    refine ⟨c + u * (tr (4 * j + 3)).toInt.toNat, by omega, ?_⟩
    show csF ho tr j + (if ho j = -4 then (120 : Int32) else ho j) * tr (4 * j + 3) = _
    rw [e, eu, ew, pk_mul, nI_add, ← ew]
