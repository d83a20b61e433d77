set_option maxRecDepth 100000
/-! who else is in a block: the one program finds the first, the other the last; there is at most one -/
def otF (pl : Nat → Int32) (x : Int32) (s : Nat) : Nat → Int32
  | 0 => -4
  | j + 1 => if j = s then otF pl x s j else (if pl j = x then nI j else otF pl x s j)
theorem nI_ie {a b : Nat} (ha : a < 2 ^ 31) (hb : b < 2 ^ 31) {α : Type} (x y : α) : (if nI a = nI b then x else y) = (if a = b then x else y) := by
  by_cases h : a = b
  · rw [if_pos h, if_pos (by rw [h])]
  · rw [if_neg h, if_neg (fun h2 => h ((nI_eq ha hb).mp h2))]
theorem otM_L {T : Nat} (hT : T ≤ 4) {pl : Nat → Int32} {x : Int32} {s : Nat} (hs : s < 4) {k : Int32 → Prop} (hk : k (otF pl x s T)) : ∀ n j : Nat, j + n = T → M_otherIn_L6 (nI T) pl (nI s) x k (n + 1) (otF pl x s j) (nI j) := by
  intro n
  induction n with
  | zero =>
    intro j hj
    obtain rfl : j = T := by omega
    exact ⟨fun _ => hk, fun c => absurd (nI_le (Nat.le_refl _) (by omega)) c⟩
  | succ n ih =>
    intro j hj
    have h := ih (j + 1) (by omega)
    rw [nI_succ] at h
    refine ⟨fun c => absurd c (nI_ge (by omega) (by omega)), fun _ => ⟨fun _ => vp_in_nI (by omega) (by omega), ?_⟩⟩
    rw [nI_clamp (by omega), nI_ie (by omega) (by omega)]
    exact h
theorem otM_y {T : Nat} (hT : T ≤ 4) {pl : Nat → Int32} {x : Int32} {s : Nat} (hs : s < 4) {Q : Int32 → Prop} (hQ : Q (otF pl x s T)) : M_otherIn (nI T) pl (nI s) x Q := ⟨_, otM_L hT hs (k := fun r => Q r) hQ T 0 (Nat.zero_add _)⟩
theorem otF_n {pl : Nat → Int32} {x : Int32} {s : Nat} : ∀ T : Nat, (∀ t, t < T → t ≠ s → pl t ≠ x) → otF pl x s T = -4 := by
  intro T
  induction T with
  | zero => intro _; rfl
  | succ T ih =>
    intro h
    unfold otF
    by_cases e : T = s
    · rw [if_pos e]
      exact ih (fun t ht => h t (by omega))
    · rw [if_neg e, if_neg (h T (by omega) e)]
      exact ih (fun t ht => h t (by omega))
theorem otF_o {pl : Nat → Int32} {x : Int32} {s t : Nat} (hts : t ≠ s) (hx : pl t = x) : ∀ T : Nat, t < T → (∀ u, u < T → u ≠ s → u ≠ t → pl u ≠ x) → otF pl x s T = nI t := by
  intro T
  induction T with
  | zero => intro h; omega
  | succ T ih =>
    intro h h2
    unfold otF
    by_cases e : T = s
    · rw [if_pos e]
      exact ih (by omega) (fun u hu => h2 u (by omega))
    · rw [if_neg e]
      by_cases e2 : T = t
      · subst e2
        rw [if_pos hx]
      · rw [if_neg (h2 T (by omega) e e2)]
        exact ih (by omega) (fun u hu => h2 u (by omega))
theorem whC_L {T : Nat} (hT : T ≤ 4) {wh : Nat → Int32} {x : Int32} {s : Nat} (hs : s < 4) {k29 : Int32 → Prop} {k38 : Prop} (hn : (∀ t, t < T → t ≠ s → wh t ≠ x) → k38) (ho : ∀ t, t < T → t ≠ s → wh t = x → k29 (nI t)) : ∀ n j : Nat, j + n = T → (∀ t, t < j → t ≠ s → wh t ≠ x) → C_whoIn_L3 wh (nI T) x (nI s) k29 k38 (n + 1) (nI j) := by
  intro n
  induction n with
  | zero =>
    intro j hj h0
    obtain rfl : j = T := by omega
    exact ⟨fun _ => hn h0, fun c => absurd (nI_le (Nat.le_refl _) (by omega)) c⟩
  | succ n ih =>
    intro j hj h0
    have h : (j ≠ s → wh j ≠ x) → C_whoIn_L3 wh (nI T) x (nI s) k29 k38 (n + 1) (nI j + 1) := fun h1 => by
      rw [← nI_succ]
      refine ih (j + 1) (by omega) (fun t ht hts => ?_)
      by_cases e : t = j
      · rw [e] at hts ⊢
        exact h1 hts
      · exact h0 t (by omega) hts
    refine ⟨fun c => absurd c (nI_ge (by omega) (by omega)), fun _ => ⟨fun c => h (fun hjs => absurd ((nI_eq (by omega) (by omega)).mp c) hjs), fun c => ⟨vp_in_nI (by omega) (by omega), fun c2 => ?_, fun c2 => ?_⟩⟩⟩
    · rw [nI_clamp (by omega)] at c2
      exact ho j (by omega) (fun e => c (by rw [e])) c2
    · rw [nI_clamp (by omega)] at c2
      exact h (fun _ => c2)
theorem whC_y {T : Nat} (hT : T ≤ 4) {wh : Nat → Int32} {x : Int32} {s : Nat} (hs : s < 4) (hu : ∀ t u, t < T → u < T → t ≠ u → wh t = x → wh u ≠ x) {Q : Int32 → Prop} (hQ : Q (otF wh x s T)) : C_whoIn wh (nI T) x (nI s) Q := by
  refine ⟨_, whC_L hT hs ?_ ?_ T 0 (Nat.zero_add _) (fun t ht => absurd ht (Nat.not_lt_zero _))⟩
  · intro h
    rw [otF_n T h] at hQ
    exact hQ
  · intro t ht hts hx
    rw [otF_o hts hx T ht (fun u hu1 _ h2 => hu t u (by omega) (by omega) (fun e => h2 e.symm) hx)] at hQ
    exact hQ
theorem otF_eq {a b : Nat → Int32} (h : ∀ t, t < 4 → a t = b t) (x : Int32) (s : Nat) : ∀ T : Nat, T ≤ 4 → otF a x s T = otF b x s T := by
  intro T
  induction T with
  | zero => intro _; rfl
  | succ T ih =>
    intro hT
    unfold otF
    rw [ih (by omega), h T (by omega)]
theorem otF_s {a : Nat → Int32} {x : Int32} {s T : Nat} (h : otF a x s T = -4) : T ≤ 4 → ∀ t, t < T → t ≠ s → a t ≠ x := by
  induction T with
  | zero => intro _ t ht; omega
  | succ T ih =>
    intro hT t ht hts
    unfold otF at h
    by_cases e : T = s
    · rw [if_pos e] at h
      exact ih h (by omega) t (by omega) hts
    · rw [if_neg e] at h
      by_cases e2 : a T = x
      · rw [if_pos e2] at h
        exact absurd h (by
          intro h3
          have := nI_toInt (n := T) (by omega)
          rw [h3] at this
          revert this
          rw [show (-4 : Int32).toInt = -4 from by decide]
          omega)
      · rw [if_neg e2] at h
        by_cases e3 : t = T
        · rw [e3]; exact e2
        · exact ih h (by omega) t (by omega) hts
