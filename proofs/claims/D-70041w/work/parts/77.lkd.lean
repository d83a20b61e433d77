set_option maxRecDepth 100000
/-! the blocks locked with one, as both programs gather them -/
theorem nI_2 (j : Nat) : (2 : Int32) * nI j = nI (2 * j) := (Int32.ofNat_mul 2 j).symm
def lws (lk : Nat → Int32) (x : Int32) : Nat → Int32
  | 0 => 0
  | l + 1 => (lws lk x l ||| (if lk (2 * l) = x then ((1 : Int32) <<< (lk (2 * l + 1) &&& 31)) else (0 : Int32))) ||| (if lk (2 * l + 1) = x then ((1 : Int32) <<< (lk (2 * l) &&& 31)) else (0 : Int32))
theorem lws_eq {a b : Nat → Int32} (x : Int32) : ∀ L : Nat, (∀ l : Nat, l < 2 * L → a l = b l) → lws a x L = lws b x L := by
  intro L
  induction L with
  | zero => intro _; rfl
  | succ L ih =>
    intro h
    unfold lws
    rw [ih (fun l hl => h l (by omega)), h (2 * L) (by omega), h (2 * L + 1) (by omega)]
theorem lkC_L {L : Nat} (hL : L ≤ 4) {lk : Nat → Int32} {x : Int32} {k : Int32 → Prop} (hk : k (lws lk x L)) : ∀ n j : Nat, j + n = L → C_block_L27 (nI L) lk x k (n + 1) (lws lk x j) (nI j) := by
  intro n
  induction n with
  | zero =>
    intro j hj
    obtain rfl : j = L := by omega
    exact ⟨fun _ => hk, fun c => absurd (nI_le (Nat.le_refl _) (by omega)) c⟩
  | succ n ih =>
    intro j hj
    have v0 : vp_in (nI (2 * j)) 8 := vp_in_nI (by omega) (by omega)
    have v1 : vp_in (nI (2 * j + 1)) 8 := vp_in_nI (by omega) (by omega)
    have h := ih (j + 1) (by omega)
    rw [nI_succ] at h
    refine ⟨fun c => absurd c (nI_ge (by omega) (by omega)), fun _ => ?_⟩
    rw [nI_2, nI_1, nI_clamp (n := 2 * j) (by omega), nI_clamp (n := 2 * j + 1) (by omega)]
    exact ⟨v0, fun _ => v1, v1, fun _ => v0, h⟩

theorem lkM_L {L : Nat} (hL : L ≤ 4) {lk : Nat → Int32} {x : Int32} {k : Int32 → Prop} (hk : k (lws lk x L)) : ∀ n j : Nat, j + n = L → M_lockedWith_L4 (nI L) lk x k (n + 1) (lws lk x j) (nI j) := by
  intro n
  induction n with
  | zero =>
    intro j hj
    obtain rfl : j = L := by omega
    exact ⟨fun _ => hk, fun c => absurd (nI_le (Nat.le_refl _) (by omega)) c⟩
  | succ n ih =>
    intro j hj
    have v0 : vp_in (nI (2 * j)) 8 := vp_in_nI (by omega) (by omega)
    have v1 : vp_in (nI (2 * j + 1)) 8 := vp_in_nI (by omega) (by omega)
    have h := ih (j + 1) (by omega)
    rw [nI_succ] at h
    refine ⟨fun c => absurd c (nI_ge (by omega) (by omega)), fun _ => ?_⟩
    rw [nI_2, nI_1, nI_clamp (n := 2 * j) (by omega), nI_clamp (n := 2 * j + 1) (by omega)]
    exact ⟨v0, fun _ => v1, v1, fun _ => v0, h⟩

