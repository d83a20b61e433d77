set_option maxRecDepth 100000
theorem fits_b {x : Int32} (h1 : -128 ≤ x.toInt) (h2 : x.toInt ≤ 127) : fits .byte (.int x) = true := by
  have a : (-128 : Int32) ≤ x := Int32.le_iff_toInt_le.mpr (by rw [show (-128 : Int32).toInt = -128 from by decide]; exact h1)
  have b : x ≤ (127 : Int32) := Int32.le_iff_toInt_le.mpr (by rw [show (127 : Int32).toInt = 127 from by decide]; exact h2)
  simp [fits, a, b]
theorem pg_cg {st om tr om2 tr2 : Nat → Int32} {p : Nat} {G : Int32} (ho : ∀ b : Nat, b < 8 → om2 b = om b) (ht : ∀ i : Nat, i < 16 → tr2 i = tr i) (h : pgOK st p G om tr) : pgOK st p G om2 tr2 := ⟨fun b hb => (h.1 b hb).trans (ho b hb).symm, h.2.1, fun t h1 w h2 => (h.2.2 t h1 w h2).trans (ht _ (by omega)).symm⟩
theorem bo_cg {B T : Int32} {om tr om2 tr2 : Nat → Int32} (ho : ∀ b : Nat, b < 8 → om2 b = om b) (ht : ∀ i : Nat, i < 16 → tr2 i = tr i) (h : bOK B T om tr) : bOK B T om2 tr2 := by
  obtain ⟨h1, h2, h3, h4, h5, h6⟩ := h
  refine ⟨h1, h2, h3, h4, fun b hb => ?_, fun t h7 => ?_⟩
  · rw [ho b hb]
    exact h5 b hb
  · rw [ht (4 * t) (by omega), ht (4 * t + 1) (by omega), ht (4 * t + 2) (by omega), ht (4 * t + 3) (by omega)]
    exact h6 t h7
theorem pg_st {st st2 om tr : Nat → Int32} {p : Nat} {G : Int32} (he : ∀ i : Nat, p ≤ i → i < p + 25 → st2 i = st i) (h : pgOK st p G om tr) : pgOK st2 p G om tr := ⟨fun b hb => (he _ (by omega) (by omega)).trans (h.1 b hb), (he _ (by omega) (by omega)).trans h.2.1, fun t h1 w h2 => (he _ (by omega) (by omega)).trans (h.2.2 t h1 w h2)⟩
theorem im_st {k : Int32} {st st2 : Nat → Int32} {p : Nat} {B T L : Int32} {lk : Nat → Int32} {iB iG iT : Int32} {iom itr : Nat → Int32} (he : ∀ i : Nat, p ≤ i → i < p + 25 → st2 i = st i) (h : imOK k st p B T L lk iB iG iT iom itr) : imOK k st2 p B T L lk iB iG iT iom itr := fun hk => ⟨(h hk).1, (h hk).2.1, (h hk).2.2.1, pg_st he (h hk).2.2.2.1, (h hk).2.2.2.2⟩
theorem pg_G {st om tr : Nat → Int32} {G x : Int32} (h : pgOK st 0 G om tr) : pgOK (upd st 8 x) 0 x om tr := ⟨fun b hb => by rw [upd_ne _ _ (by omega)]; exact h.1 b hb, upd_eq _ _ _, fun t h1 w h2 => by rw [upd_ne _ _ (by omega)]; exact h.2.2 t h1 w h2⟩
theorem cp_in {f g : Nat → Int32} {n : Int32} {k N : Nat} (hn : n.toNatClampNeg = N) (h : k < N) : va_cpy f g (0 : Int32).toNatClampNeg (0 : Int32).toNatClampNeg n.toNatClampNeg k = f k := by
  unfold va_cpy
  rw [hn, show (0 : Int32).toNatClampNeg = 0 from by decide, if_pos ⟨Nat.zero_le _, by omega⟩, Nat.sub_zero, Nat.zero_add]
theorem as_y {B T : Int32} {om tr : Nat → Int32} (hb : bOK B T om tr) (G tB tG tT : Int32) (tO tR : Nat → Int32) : ∃ om2 tr2 : Nat → Int32, (∀ Q : Int32 → Int32 → Int32 → (Nat → Int32) → (Nat → Int32) → Prop, Q B G T om2 tr2 → B_as tB tG tT tO tR B G T om tr Q) ∧ (∀ b : Nat, b < 8 → om2 b = om b) ∧ (∀ i : Nat, i < 16 → tr2 i = tr i) := by
  refine ⟨_, _, fun Q hQ => ⟨fun i hi => ?_, fun i hi => ?_, hQ⟩, fun b h => cp_in (by decide) h, fun i h => cp_in (by decide) h⟩
  · have h := hb.2.2.2.2.1 i hi
    exact fits_b (by omega) (by omega)
  · have h := hb.2.2.2.2.2 (i / 4) (by omega)
    have e : i = 4 * (i / 4) ∨ i = 4 * (i / 4) + 1 ∨ i = 4 * (i / 4) + 2 ∨ i = 4 * (i / 4) + 3 := by omega
    rcases e with e | e | e | e <;> rw [e] <;> exact fits_b (by omega) (by omega)
theorem bc_y {k : Nat} (hk : k < 256) {Q : Int32 → Prop} (h : Q (bsF (nI k) 8)) : I_bitCount (nI k) Q := by
  have e := bc_ok k hk
  unfold I_bitCount at e ⊢
  rw [e]
  exact h
theorem bs_r : ∀ k : Nat, k < 256 → 0 ≤ (bsF (nI k) 8).toInt ∧ (bsF (nI k) 8).toInt ≤ 8 := by
  decide +kernel
theorem pw_B : ∀ B : Nat, B ≤ 8 → (1 : Int32) <<< (nI B &&& 31) = nI (2 ^ B) := by
  decide +kernel
theorem pw_le : ∀ B : Nat, B ≤ 8 → 2 ^ B ≤ 256 ∧ 0 < 2 ^ B := by
  decide +kernel
theorem pw_all : ∀ B : Nat, B ≤ 8 → ∀ n : Nat, n < B → ¬ C_has_e (nI (2 ^ B - 1)) (nI n) = 0 := by
  decide +kernel
