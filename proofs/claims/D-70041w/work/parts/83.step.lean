set_option maxRecDepth 100000
/-! one minute of one train -/
def plB (B : Nat) (w : Int32) : Prop := w = -4 ∨ ∃ n : Nat, n < B ∧ w = nI n
def RR (B T : Nat) (wh ho iS lf pl le hs hm : Nat → Int32) : Prop := (∀ t : Nat, t < 4 → wh t = pl t ∧ plB B (wh t)) ∧ (∀ t : Nat, t < 4 → ho t = hm t ∧ plB 120 (ho t)) ∧ (∀ t : Nat, t < 4 → iS t = hs t ∧ zb (iS t)) ∧ (∀ t : Nat, t < 4 → iS t = 1 → lf t = le t) ∧ ∀ t u : Nat, t < T → u < T → t ≠ u → wh t = wh u → wh t = -4
def RS (G : Int32) (B : Nat) (bm bb bt bi bo : Int32) : Prop := (bm ≠ -4 → bb = bi ∧ bt = bo) ∧ (bm = -4 → bi = -4 ∧ bo = -4) ∧ ((∀ n : Nat, n < B → ¬ C_has_e G (nI n) = 0) → bm = -4)
theorem n4_ne {n : Nat} (h : n < 2 ^ 31) : nI n ≠ -4 := by
  intro h2
  have h3 := nI_toInt h
  rw [h2, show (-4 : Int32).toInt = -4 from by decide] at h3
  omega
theorem nI_p (n : Nat) (h : 1 ≤ n) : nI n - 1 = nI (n - 1) := by
  obtain ⟨k, rfl⟩ : ∃ k, n = k + 1 := ⟨n - 1, by omega⟩
  exact nI_pred k
def nbT (B : Nat) (v : Int32) : Int32 := if (if v = 0 then (1 : Int32) else (0 : Int32)) = 0 then (0 : Int32) else nI B - (1 : Int32)
def nbE (B : Nat) (v w : Int32) : Int32 := if w = (-4 : Int32) then (if (if v = 0 then (1 : Int32) else (0 : Int32)) = 0 then (nI B - (1 : Int32)) else (0 : Int32)) else (if (if v = 0 then (1 : Int32) else (0 : Int32)) = 0 then (w - (1 : Int32)) else (w + (1 : Int32)))
def nbC (B : Nat) (v w : Int32) : Int32 := if w = (-4 : Int32) then (if (if v = 0 then (1 : Int32) else (0 : Int32)) = 0 then (nI B - (1 : Int32)) else (0 : Int32)) else (if (if v = 0 then (1 : Int32) else (0 : Int32)) = 0 then (if w = (0 : Int32) then (-4 : Int32) else (if (if v = 0 then (1 : Int32) else (0 : Int32)) = 0 then (w - (1 : Int32)) else (w + (1 : Int32)))) else (if w = (nI B - (1 : Int32)) then (-4 : Int32) else (if (if v = 0 then (1 : Int32) else (0 : Int32)) = 0 then (w - (1 : Int32)) else (w + (1 : Int32)))))
theorem nb_end {B : Nat} (h2 : 2 ≤ B) (h8 : B ≤ 8) {v w : Int32} (h : w = nbT B v) : nbC B v w = -4 := by
  have hw : w ≠ -4 := by
    rw [h]
    unfold nbT
    by_cases c : (if v = 0 then (1 : Int32) else (0 : Int32)) = 0
    · rw [if_pos c]
      decide
    · rw [if_neg c, nI_p B (by omega)]
      exact n4_ne (by omega)
  unfold nbC
  rw [if_neg hw]
  unfold nbT at h
  by_cases c : (if v = 0 then (1 : Int32) else (0 : Int32)) = 0
  · rw [if_pos c] at h ⊢
    rw [if_pos h]
  · rw [if_neg c] at h ⊢
    rw [if_pos h]
theorem nb_go {B : Nat} (h2 : 2 ≤ B) (h8 : B ≤ 8) {v w : Int32} (hp : plB B w) (h : w ≠ nbT B v) : nbC B v w = nbE B v w ∧ ∃ n : Nat, n < B ∧ nbE B v w = nI n := by
  unfold nbT at h
  unfold nbC nbE
  rcases hp with rfl | ⟨n, hn, rfl⟩
  · rw [if_pos rfl, if_pos rfl]
    refine ⟨rfl, ?_⟩
    by_cases c : (if v = 0 then (1 : Int32) else (0 : Int32)) = 0
    · rw [if_pos c]
      exact ⟨B - 1, by omega, nI_p B (by omega)⟩
    · rw [if_neg c]
      exact ⟨0, by omega, nI_0.symm⟩
  · rw [if_neg (n4_ne (by omega)), if_neg (n4_ne (by omega))]
    by_cases c : (if v = 0 then (1 : Int32) else (0 : Int32)) = 0
    · rw [if_pos c] at h
      simp only [if_pos c, if_neg h]
      have h0 : n ≠ 0 := fun e => h (by rw [e, nI_0])
      exact ⟨trivial, n - 1, by omega, nI_p n (by omega)⟩
    · rw [if_neg c] at h
      simp only [if_neg c, if_neg h]
      have h0 : n ≠ B - 1 := fun e => h (by rw [e, nI_p B (by omega)])
      exact ⟨trivial, n + 1, by omega, by rw [nI_succ]⟩
theorem pg_f {st om tr : Nat → Int32} {G : Int32} (h : pgOK st 0 G om tr) {t : Nat} (ht : t < 4) : st (9 + t) = tr (4 * t) ∧ st (13 + t) = tr (4 * t + 1) ∧ st (17 + t) = tr (4 * t + 2) ∧ st (21 + t) = tr (4 * t + 3) := by
  have h0 := h.2.2 t ht 0 (by omega)
  have h1 := h.2.2 t ht 1 (by omega)
  have h2 := h.2.2 t ht 2 (by omega)
  have h3 := h.2.2 t ht 3 (by omega)
  exact ⟨h0, h1, h2, h3⟩
theorem pg_b {st om tr : Nat → Int32} {G : Int32} (h : pgOK st 0 G om tr) {b : Nat} (hb : b < 8) : st b = om b := by
  have := h.1 b hb
  rwa [Nat.zero_add] at this
theorem ad_c {a t : Nat} (h : a + t < 2 ^ 31) : (nI a + nI t).toNatClampNeg = a + t := by rw [nI_add, nI_clamp h]
theorem ad_v {a t N : Nat} (h : a + t < N) (hN : N < 2 ^ 31) : vp_in (nI a + nI t) N := by
  rw [nI_add]
  exact vp_in_nI h hN
theorem of_c {t w : Nat} (ht : t < 4) (hw : w < 4) : (((4 : Int32) * nI t) + nI w).toNatClampNeg = 4 * t + w := by
  rw [show (4 : Int32) * nI t = nI (4 * t) from pk_mul 4 t]
  exact ad_c (by omega)
theorem of_v {t w : Nat} (ht : t < 4) (hw : w < 4) : vp_in (((4 : Int32) * nI t) + nI w) 16 := by
  rw [show (4 : Int32) * nI t = nI (4 * t) from pk_mul 4 t]
  exact ad_v (by omega) (by omega)
