set_option maxRecDepth 100000
/-! how many bits, as both programs count them -/
def bsF (x : Int32) : Nat → Int32
  | 0 => 0
  | j + 1 => bsF x j + bz x (nI j)
theorem bc_ok : ∀ k : Nat, k < 256 → I_bitCount (nI k) (fun r => r = bsF (nI k) 8) := by
  unfold I_bitCount
  decide +kernel
theorem bits_L {x : Int32} {k : Int32 → Prop} (hk : k (bsF x 8)) : ∀ n j : Nat, j + n = 8 → M_bitsOf_L4 x k (n + 1) (bsF x j) (nI j) := by
  intro n
  induction n with
  | zero =>
    intro j hj
    obtain rfl : j = 8 := by omega
    exact ⟨fun _ => hk, fun c => absurd (show (8 : Int32) ≤ nI 8 by decide) c⟩
  | succ n ih =>
    intro j hj
    have h := ih (j + 1) (by omega)
    rw [nI_succ] at h
    exact ⟨fun c => absurd c (nI_ge (a := j) (b := 8) (by omega) (by omega)), fun _ => h⟩
theorem bits_y {x : Int32} {Q : Int32 → Prop} (hQ : Q (bsF x 8)) : M_bitsOf x Q := ⟨_, bits_L (k := fun r => Q r) hQ 8 0 rfl⟩
