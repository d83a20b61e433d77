set_option maxRecDepth 100000
/-! the set of hung blocks, as both programs gather it -/
theorem of_nn {x : Int32} (h : 0 ≤ x.toInt) : x = nI x.toInt.toNat := by
  have h2 := Int32.toInt_lt x
  rw [← Int32.toInt_inj, nI_toInt (by omega)]
  omega
def hs (om : Nat → Int32) : Nat → Int32
  | 0 => 0
  | b + 1 => hs om b ||| (if om b = 0 then (0 : Int32) else ((1 : Int32) <<< (nI b &&& 31)))
theorem hung_L {B : Nat} (hB : B ≤ 8) (om : Nat → Int32) {k : Int32 → Prop} (hk : k (hs om B)) : ∀ n j : Nat, j + n = B → B_hung_L4 (nI B) om k (n + 1) (hs om j) (nI j) := by
  intro n
  induction n with
  | zero =>
    intro j hj
    obtain rfl : j = B := by omega
    exact ⟨fun _ => hk, fun c => absurd (nI_le (Nat.le_refl _) (by omega)) c⟩
  | succ n ih =>
    intro j hj
    refine ⟨fun c => absurd c (nI_ge (by omega) (by omega)), fun _ => ⟨vp_in_nI (by omega) (by omega), ?_⟩⟩
    have h := ih (j + 1) (by omega)
    rw [nI_succ] at h
    rw [nI_clamp (by omega)]
    exact h
theorem hung_y {B : Nat} (hB : B ≤ 8) (om : Nat → Int32) {Q : Int32 → Prop} (hQ : Q (hs om B)) : B_hung (nI B) om Q := ⟨B + 1, hung_L hB om (k := fun x => Q x) hQ B 0 (by omega)⟩
theorem omens_L {B : Nat} (hB : B ≤ 8) {st om : Nat → Int32} (ho : ∀ b : Nat, b < 8 → st b = om b ∧ 0 ≤ (om b).toInt) {k : Int32 → Prop} (hk : k (hs om B)) : ∀ n j : Nat, j + n = B → M_omens_L4 (nI B) st k (n + 1) (hs om j) (nI j) := by
  intro n
  induction n with
  | zero =>
    intro j hj
    obtain rfl : j = B := by omega
    exact ⟨fun _ => hk, fun c => absurd (nI_le (Nat.le_refl _) (by omega)) c⟩
  | succ n ih =>
    intro j hj
    refine ⟨fun c => absurd c (nI_ge (by omega) (by omega)), fun _ => ⟨vp_in_nI (by omega) (by omega), ?_⟩⟩
    have h := ih (j + 1) (by omega)
    rw [nI_succ] at h
    rw [nI_clamp (by omega), (ho j (by omega)).1]
    have e : (if om j ≤ 0 then (0 : Int32) else ((1 : Int32) <<< (nI j &&& 31))) = (if om j = 0 then (0 : Int32) else ((1 : Int32) <<< (nI j &&& 31))) := by
      by_cases c : om j = 0
      · rw [if_pos c, if_pos (by rw [c]; decide)]
      · rw [if_neg c, if_neg (fun h2 => c (Int32.toInt_inj.mp (by have h3 := Int32.le_iff_toInt_le.mp h2; have h4 := (ho j (by omega)).2; rw [show (0 : Int32).toInt = 0 from by decide] at h3 ⊢; omega)))]
    rw [e]
    exact h
theorem omens_y {B : Nat} (hB : B ≤ 8) {st om : Nat → Int32} (ho : ∀ b : Nat, b < 8 → st b = om b ∧ 0 ≤ (om b).toInt) {Q : Int32 → Prop} (hQ : Q (hs om B)) : M_omens (nI B) st Q := ⟨B + 1, omens_L hB ho (k := fun x => Q x) hQ B 0 (by omega)⟩
