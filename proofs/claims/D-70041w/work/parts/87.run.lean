set_option maxRecDepth 100000
def rsv (f : Nat → Int32) (v : Int32) : Nat → Nat → Int32
  | 0 => f
  | j + 1 => upd (rsv f v j) j v
theorem rsv_v (f : Nat → Int32) (v : Int32) : ∀ j t : Nat, t < j → rsv f v j t = v := by
  intro j
  induction j with
  | zero => intro t h; omega
  | succ j ih =>
    intro t h
    unfold rsv
    by_cases e : t = j
    · rw [e, upd_eq]
    · rw [upd_ne _ _ e]
      exact ih t (by omega)
theorem resC_L {wh ho iS : Nat → Int32} {k : (Nat → Int32) → (Nat → Int32) → (Nat → Int32) → Prop} (hk : k (rsv wh (-4) 4) (rsv ho (-4) 4) (rsv iS 0 4)) : ∀ d j : Nat, j + d = 4 → C_runs_L23 k (d + 1) (rsv wh (-4) j) (rsv ho (-4) j) (rsv iS 0 j) (nI j) := by
  intro d
  induction d with
  | zero =>
    intro j hj
    obtain rfl : j = 4 := by omega
    exact ⟨fun _ => hk, fun c => absurd (show (4 : Int32) ≤ nI 4 by decide) c⟩
  | succ d ih =>
    intro j hj
    have h := ih (j + 1) (by omega)
    rw [nI_succ] at h
    have hv : vp_in (nI j) 4 := vp_in_nI (by omega) (by omega)
    refine ⟨fun c => absurd c (nI_ge (b := 4) (by omega) (by omega)), fun _ => ⟨hv, hv, hv, ?_⟩⟩
    rw [nI_clamp (by omega)]
    exact h
theorem resM_L {pl le hs' hm : Nat → Int32} {k : (Nat → Int32) → (Nat → Int32) → (Nat → Int32) → (Nat → Int32) → Prop} (hk : k (rsv pl (-4) 4) (rsv le 0 4) (rsv hs' 0 4) (rsv hm (-4) 4)) : ∀ d j : Nat, j + d = 4 → M_run_L35 k (d + 1) (rsv pl (-4) j) (rsv le 0 j) (rsv hs' 0 j) (rsv hm (-4) j) (nI j) := by
  intro d
  induction d with
  | zero =>
    intro j hj
    obtain rfl : j = 4 := by omega
    exact ⟨fun _ => hk, fun c => absurd (show (4 : Int32) ≤ nI 4 by decide) c⟩
  | succ d ih =>
    intro j hj
    have h := ih (j + 1) (by omega)
    rw [nI_succ] at h
    have hv : vp_in (nI j) 4 := vp_in_nI (by omega) (by omega)
    refine ⟨fun c => absurd c (nI_ge (b := 4) (by omega) (by omega)), fun _ => ⟨hv, hv, hv, hv, ?_⟩⟩
    rw [nI_clamp (by omega)]
    exact h
/-- what the rest of the proof uses of a run -/
def RN (G : Int32) (B T : Nat) (bm bb bt bi bo : Int32) (ho we hm ps : Nat → Int32) : Prop := RS G B bm bb bt bi bo ∧ (∀ t : Nat, t < 4 → ho t = hm t ∧ plB 120 (ho t)) ∧ WR T 120 we ps
theorem run_y {B T : Nat} (hT : T ≤ 4) (hB2 : 2 ≤ B) (hB8 : B ≤ 8) {G : Int32} {st om tr : Nat → Int32} (hp : pgOK st 0 G om tr) (hb : bOK (nI B) (nI T) om tr) (bm0 bb0 bt0 wa0 ko0 us0 ba0 bi0 bo0 wb0 kb0 vi0 : Int32) (wh0 ho0 iS0 lf0 we0 pl0 le0 hs0 hm0 ps0 : Nat → Int32) :
    ∃ bm bb bt wa ko us wh ho iS lf we bi bo pl le hs hm ps,
      (∀ Q : K11, Q bm bb bt wa ko us wh ho iS lf we → C_runs bm0 bb0 bt0 wa0 ko0 us0 wh0 ho0 iS0 lf0 we0 (nI B) G (nI T) om tr Q) ∧
      (∀ Q : K11, Q bm bi bo wa ko us pl le hs hm ps → M_run (nI B) (nI T) ba0 bi0 bo0 wb0 kb0 vi0 st M0_waits pl0 le0 hs0 hm0 ps0 Q) ∧
      RN G B T bm bb bt bi bo ho we hm ps := by
  have hR : RR B T (rsv wh0 (-4) 4) (rsv ho0 (-4) 4) (rsv iS0 0 4) lf0 (rsv pl0 (-4) 4) (rsv le0 0 4) (rsv hs0 0 4) (rsv hm0 (-4) 4) := by
    refine ⟨fun t ht => ?_, fun t ht => ?_, fun t ht => ?_, fun t ht h => ?_, fun t u ht hu _ _ => ?_⟩
    · rw [rsv_v _ _ 4 t ht, rsv_v _ _ 4 t ht]
      exact ⟨rfl, Or.inl rfl⟩
    · rw [rsv_v _ _ 4 t ht, rsv_v _ _ 4 t ht]
      exact ⟨rfl, Or.inl rfl⟩
    · rw [rsv_v _ _ 4 t ht, rsv_v _ _ 4 t ht]
      exact ⟨rfl, zb_0⟩
    · rw [rsv_v _ _ 4 t ht] at h
      exact absurd h (by decide)
    · exact rsv_v _ _ 4 t (by omega)
  have hS : RS G B (-4) bb0 bt0 (-4) (-4) := ⟨fun h => absurd rfl h, fun _ => ⟨rfl, rfl⟩, fun _ => rfl⟩
  obtain ⟨bm2, bb2, bt2, wa2, ko2, us2, wh2, ho2, iS2, lf2, we2, bi2, bo2, pl2, le2, hs2, hm2, ps2, hC, hM, hS2, hR2, hW2⟩ := minutes_y hT hB2 hB8 hp hb 120 0 (Nat.zero_add _) (-4) bb0 bt0 0 0 0 (-4) (-4) _ _ _ lf0 we0 _ _ _ _ ps0 hR hS (fun i hi => absurd hi (Nat.not_lt_zero _))
  exact ⟨bm2, bb2, bt2, wa2, ko2, us2, wh2, ho2, iS2, lf2, we2, bi2, bo2, pl2, le2, hs2, hm2, ps2, fun Q hQ => ⟨5, resC_L (hC _ hQ) 4 0 rfl⟩, fun Q hQ => ⟨5, resM_L (hM _ hQ) 4 0 rfl⟩, hS2, hR2.2.1, hW2⟩
