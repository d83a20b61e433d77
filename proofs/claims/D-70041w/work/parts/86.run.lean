set_option maxRecDepth 100000
abbrev K10 := Int32 → Int32 → Int32 → Int32 → Int32 → Int32 → (Nat → Int32) → (Nat → Int32) → (Nat → Int32) → (Nat → Int32) → Prop
abbrev K11 := Int32 → Int32 → Int32 → Int32 → Int32 → Int32 → (Nat → Int32) → (Nat → Int32) → (Nat → Int32) → (Nat → Int32) → (Nat → Int32) → Prop
theorem skip_M {B T m : Nat} (hT : T ≤ 4) {bm bi bo wa ko us : Int32} {pl le hs' hm st : Nat → Int32} (hbm : bm ≠ -4) {k : K10} (hk : k bm bi bo wa ko us pl le hs' hm) : ∀ d j : Nat, j + d = T → M_run_L86 (nI B) (nI T) st M0_waits (nI m) k (d + 1) bm bi bo wa ko us pl le hs' hm (nI j) := by
  intro d
  induction d with
  | zero =>
    intro j hj
    obtain rfl : j = T := by omega
    exact ⟨fun _ => hk, fun c => absurd (nI_le (Nat.le_refl _) (by omega)) c⟩
  | succ d ih =>
    intro j hj
    have h := ih (j + 1) (by omega)
    rw [nI_succ] at h
    exact ⟨fun c => absurd c (nI_ge (by omega) (by omega)), fun _ => ⟨fun c => absurd c hbm, fun _ => h⟩⟩
theorem trains_y {B T m : Nat} (hT : T ≤ 4) (hB2 : 2 ≤ B) (hB8 : B ≤ 8) (hm1 : m < 120) {G : Int32} {st om tr : Nat → Int32} (hp : pgOK st 0 G om tr) (hb : bOK (nI B) (nI T) om tr) : ∀ d j : Nat, j + d = T → ∀ (bm bb bt wa ko us bi bo : Int32) (wh ho iS lf pl le hs' hm : Nat → Int32), RR B T wh ho iS lf pl le hs' hm → RS G B bm bb bt bi bo →
    ∃ bm2 bb2 bt2 wa2 ko2 us2 wh2 ho2 iS2 lf2 bi2 bo2 pl2 le2 hs2 hm2,
      (∀ k : K10, k bm2 bb2 bt2 wa2 ko2 us2 wh2 ho2 iS2 lf2 → ∃ n : Nat, C_runs_L67 (nI B) G (nI T) om tr (nI m) k n bm bb bt wa ko us wh ho iS lf (nI j)) ∧
      (∀ k : K10, k bm2 bi2 bo2 wa2 ko2 us2 pl2 le2 hs2 hm2 → ∃ n : Nat, M_run_L86 (nI B) (nI T) st M0_waits (nI m) k n bm bi bo wa ko us pl le hs' hm (nI j)) ∧
      RS G B bm2 bb2 bt2 bi2 bo2 ∧ RR B T wh2 ho2 iS2 lf2 pl2 le2 hs2 hm2 := by
  intro d
  induction d with
  | zero =>
    intro j hj bm bb bt wa ko us bi bo wh ho iS lf pl le hs' hm hR hS
    obtain rfl : j = T := by omega
    refine ⟨bm, bb, bt, wa, ko, us, wh, ho, iS, lf, bi, bo, pl, le, hs', hm, ?_, ?_, hS, hR⟩
    · intro k hk
      exact ⟨1, fun _ => hk, fun c => absurd (nI_le (Nat.le_refl _) (by omega)) c⟩
    · intro k hk
      exact ⟨1, fun _ => hk, fun c => absurd (nI_le (Nat.le_refl _) (by omega)) c⟩
  | succ d ih =>
    intro j hj bm bb bt wa ko us bi bo wh ho iS lf pl le hs' hm hR hS
    have hjT : j < T := by omega
    have hj4 : j < 4 := by omega
    have hg : ¬ nI T ≤ nI j := nI_ge (by omega) (by omega)
    by_cases hbm : bm = -4
    · have hv : vp_in (nI j) 4 := vp_in_nI (by omega) (by omega)
      have hc : (nI j).toNatClampNeg = j := nI_clamp (by omega)
      have f := pg_f hp hj4
      have eB : B_of_e tr (nI j) (2 : Int32) = tr (4 * j + 2) := of_e hj4 (w := 2) (by omega) tr
      have sB : B_of_s tr (nI j) (2 : Int32) := of_v hj4 (w := 2) (by omega)
      have c17 : ((17 : Int32) + nI j).toNatClampNeg = 17 + j := ad_c (a := 17) (by omega)
      have v17 : vp_in ((17 : Int32) + nI j) 125 := ad_v (a := 17) (by omega) (by omega)
      have hh := hR.2.1 j hj4
      by_cases c2 : ho j = -4
      · have c3 : hm j = -4 := hh.1.symm.trans c2
        by_cases c1 : nI m < tr (4 * j + 2)
        · obtain ⟨bm2, bb2, bt2, wa2, ko2, us2, wh2, ho2, iS2, lf2, bi2, bo2, pl2, le2, hs2, hm2, hC, hM, hS2, hR2⟩ := ih (j + 1) (by omega) bm bb bt wa ko us bi bo wh ho iS lf pl le hs' hm hR hS
          rw [nI_succ] at hC hM
          refine ⟨bm2, bb2, bt2, wa2, ko2, us2, wh2, ho2, iS2, lf2, bi2, bo2, pl2, le2, hs2, hm2, ?_, ?_, hS2, hR2⟩
          · intro k hk
            obtain ⟨n, hn⟩ := hC k hk
            refine ⟨n + 1, fun c => absurd c hg, fun _ => ⟨fun _ => ⟨sB, ?_⟩, fun c => absurd hbm c⟩⟩
            rw [eB]
            exact ⟨fun _ => hn, fun c => absurd c1 c⟩
          · intro k hk
            obtain ⟨n, hn⟩ := hM k hk
            refine ⟨n + 1, fun c => absurd c hg, fun _ => ⟨fun _ => ⟨hv, ?_⟩, fun c => absurd hbm c⟩⟩
            rw [hc, c17, f.2.2.1]
            exact ⟨fun _ => ⟨v17, fun _ => hn, fun c => absurd c1 c⟩, fun c => absurd c3 c⟩
        · obtain ⟨bm1, bb1, bt1, wa1, ko1, us1, wh1, ho1, iS1, lf1, bi1, bo1, pl1, le1, hs1, hmm1, hC1, hM1, hS1, hR1⟩ := steps_y hT hjT hB2 hB8 hm1 hp hb hR hS (wa := wa) (ko := ko) (us := us)
          obtain ⟨bm2, bb2, bt2, wa2, ko2, us2, wh2, ho2, iS2, lf2, bi2, bo2, pl2, le2, hs2, hm2, hC, hM, hS2, hR2⟩ := ih (j + 1) (by omega) bm1 bb1 bt1 wa1 ko1 us1 bi1 bo1 wh1 ho1 iS1 lf1 pl1 le1 hs1 hmm1 hR1 hS1
          rw [nI_succ] at hC hM
          refine ⟨bm2, bb2, bt2, wa2, ko2, us2, wh2, ho2, iS2, lf2, bi2, bo2, pl2, le2, hs2, hm2, ?_, ?_, hS2, hR2⟩
          · intro k hk
            obtain ⟨n, hn⟩ := hC k hk
            refine ⟨n + 1, fun c => absurd c hg, fun _ => ⟨fun _ => ⟨sB, ?_⟩, fun c => absurd hbm c⟩⟩
            rw [eB, hc]
            exact ⟨fun c => absurd c c1, fun _ => ⟨hv, fun _ => hC1 _ hn, fun c => absurd c2 c⟩⟩
          · intro k hk
            obtain ⟨n, hn⟩ := hM k hk
            refine ⟨n + 1, fun c => absurd c hg, fun _ => ⟨fun _ => ⟨hv, ?_⟩, fun c => absurd hbm c⟩⟩
            rw [hc, c17, f.2.2.1]
            exact ⟨fun _ => ⟨v17, fun c => absurd c c1, fun _ => hM1 _ hn⟩, fun c => absurd c3 c⟩
      · have c3 : ¬ hm j = -4 := fun h => c2 (hh.1.trans h)
        obtain ⟨bm2, bb2, bt2, wa2, ko2, us2, wh2, ho2, iS2, lf2, bi2, bo2, pl2, le2, hs2, hm2, hC, hM, hS2, hR2⟩ := ih (j + 1) (by omega) bm bb bt wa ko us bi bo wh ho iS lf pl le hs' hm hR hS
        rw [nI_succ] at hC hM
        refine ⟨bm2, bb2, bt2, wa2, ko2, us2, wh2, ho2, iS2, lf2, bi2, bo2, pl2, le2, hs2, hm2, ?_, ?_, hS2, hR2⟩
        · intro k hk
          obtain ⟨n, hn⟩ := hC k hk
          refine ⟨n + 1, fun c => absurd c hg, fun _ => ⟨fun _ => ⟨sB, fun _ => hn, fun _ => ⟨hv, ?_⟩⟩, fun c => absurd hbm c⟩⟩
          rw [hc]
          exact ⟨fun c => absurd c c2, fun _ => hn⟩
        · intro k hk
          obtain ⟨n, hn⟩ := hM k hk
          refine ⟨n + 1, fun c => absurd c hg, fun _ => ⟨fun _ => ⟨hv, ?_⟩, fun c => absurd hbm c⟩⟩
          rw [hc]
          exact ⟨fun c => absurd c c3, fun _ => hn⟩
    · refine ⟨bm, bb, bt, wa, ko, us, wh, ho, iS, lf, bi, bo, pl, le, hs', hm, ?_, ?_, hS, hR⟩
      · intro k hk
        exact ⟨1, fun c => absurd c hg, fun _ => ⟨fun c => absurd c hbm, fun _ => hk⟩⟩
      · intro k hk
        exact ⟨_, skip_M hT hbm hk (d + 1) j hj⟩
def WR (T m : Nat) (we ps : Nat → Int32) : Prop := ∀ i : Nat, i < m → ∀ t : Nat, t < T → we (4 * i + t) = ps (4 * i + t) ∧ plB 8 (we (4 * i + t))
theorem pl_nb {B : Nat} (hB8 : B ≤ 8) {w : Int32} (h : plB B w) : vp_nar .byte (w.toInt8.toInt32) = w ∧ plB 8 w := by
  rcases h with rfl | ⟨n, hn, rfl⟩
  · exact ⟨by decide, Or.inl rfl⟩
  · exact ⟨nb_id (by rw [nI_toInt (by omega)]; omega) (by rw [nI_toInt (by omega)]; omega), Or.inr ⟨n, by omega, rfl⟩⟩
theorem were_y {B T m : Nat} (hT : T ≤ 4) (hB8 : B ≤ 8) (hm1 : m < 120) {wh pl : Nat → Int32} (hw : ∀ t : Nat, t < 4 → wh t = pl t ∧ plB B (wh t)) : ∀ d j : Nat, j + d = T → ∀ we ps : Nat → Int32, WR T m we ps → (∀ t : Nat, t < j → we (4 * m + t) = ps (4 * m + t) ∧ plB 8 (we (4 * m + t))) →
    ∃ we2 ps2, (∀ k : (Nat → Int32) → Prop, k we2 → ∃ n : Nat, C_runs_L120 wh (nI T) (nI m) k n we (nI j)) ∧ (∀ k : (Nat → Int32) → Prop, k ps2 → ∃ n : Nat, M_run_L141 (nI T) pl (nI m) k n ps (nI j)) ∧ WR T (m + 1) we2 ps2 := by
  intro d
  induction d with
  | zero =>
    intro j hj we ps hW h0
    obtain rfl : j = T := by omega
    refine ⟨we, ps, ?_, ?_, ?_⟩
    · intro k hk
      exact ⟨1, fun _ => hk, fun c => absurd (nI_le (Nat.le_refl _) (by omega)) c⟩
    · intro k hk
      exact ⟨1, fun _ => hk, fun c => absurd (nI_le (Nat.le_refl _) (by omega)) c⟩
    · intro i hi t ht
      by_cases e : i = m
      · rw [e]
        exact h0 t ht
      · exact hW i (by omega) t ht
  | succ d ih =>
    intro j hj we ps hW h0
    have hg : ¬ nI T ≤ nI j := nI_ge (by omega) (by omega)
    have hv : vp_in (nI j) 4 := vp_in_nI (by omega) (by omega)
    have hc : (nI j).toNatClampNeg = j := nI_clamp (by omega)
    have e4 : (4 : Int32) * nI m = nI (4 * m) := pk_mul 4 m
    have c4 : (((4 : Int32) * nI m) + nI j).toNatClampNeg = 4 * m + j := by rw [e4]; exact ad_c (by omega)
    have v4 : vp_in (((4 : Int32) * nI m) + nI j) 480 := by rw [e4]; exact ad_v (by omega) (by omega)
    have hwj := hw j (by omega)
    have hn := pl_nb hB8 hwj.2
    have hW2 : WR T m (upd we (4 * m + j) (wh j)) (upd ps (4 * m + j) (pl j)) := by
      intro i hi t ht
      rw [upd_ne _ _ (by omega), upd_ne _ _ (by omega)]
      exact hW i hi t ht
    have h2 : ∀ t : Nat, t < j + 1 → upd we (4 * m + j) (wh j) (4 * m + t) = upd ps (4 * m + j) (pl j) (4 * m + t) ∧ plB 8 (upd we (4 * m + j) (wh j) (4 * m + t)) := by
      intro t ht
      by_cases e : t = j
      · rw [e, upd_eq, upd_eq]
        exact ⟨hwj.1, hn.2⟩
      · rw [upd_ne _ _ (by omega), upd_ne _ _ (by omega)]
        exact h0 t (by omega)
    obtain ⟨we2, ps2, hC, hM, hW3⟩ := ih (j + 1) (by omega) _ _ hW2 h2
    rw [nI_succ] at hC hM
    refine ⟨we2, ps2, ?_, ?_, hW3⟩
    · intro k hk
      obtain ⟨n, hn3⟩ := hC k hk
      refine ⟨n + 1, fun c => absurd c hg, fun _ => ⟨hv, v4, ?_⟩⟩
      rw [c4, hc, hn.1]
      exact hn3
    · intro k hk
      obtain ⟨n, hn3⟩ := hM k hk
      refine ⟨n + 1, fun c => absurd c hg, fun _ => ⟨hv, v4, ?_⟩⟩
      rw [c4, hc]
      exact hn3
theorem minutes_y {B T : Nat} (hT : T ≤ 4) (hB2 : 2 ≤ B) (hB8 : B ≤ 8) {G : Int32} {st om tr : Nat → Int32} (hp : pgOK st 0 G om tr) (hb : bOK (nI B) (nI T) om tr) : ∀ d m : Nat, m + d = 120 → ∀ (bm bb bt wa ko us bi bo : Int32) (wh ho iS lf we pl le hs' hm ps : Nat → Int32), RR B T wh ho iS lf pl le hs' hm → RS G B bm bb bt bi bo → WR T m we ps →
    ∃ bm2 bb2 bt2 wa2 ko2 us2 wh2 ho2 iS2 lf2 we2 bi2 bo2 pl2 le2 hs2 hm2 ps2,
      (∀ k : K11, k bm2 bb2 bt2 wa2 ko2 us2 wh2 ho2 iS2 lf2 we2 → ∃ n : Nat, C_runs_L59 (nI B) G (nI T) om tr k n bm bb bt wa ko us wh ho iS lf we (nI m)) ∧
      (∀ k : K11, k bm2 bi2 bo2 wa2 ko2 us2 pl2 le2 hs2 hm2 ps2 → ∃ n : Nat, M_run_L78 (nI B) (nI T) st M0_waits k n bm bi bo wa ko us pl le hs' hm ps (nI m)) ∧
      RS G B bm2 bb2 bt2 bi2 bo2 ∧ RR B T wh2 ho2 iS2 lf2 pl2 le2 hs2 hm2 ∧ WR T 120 we2 ps2 := by
  intro d
  induction d with
  | zero =>
    intro m hm0 bm bb bt wa ko us bi bo wh ho iS lf we pl le hs' hm ps hR hS hW
    obtain rfl : m = 120 := by omega
    refine ⟨bm, bb, bt, wa, ko, us, wh, ho, iS, lf, we, bi, bo, pl, le, hs', hm, ps, ?_, ?_, hS, hR, hW⟩
    · intro k hk
      exact ⟨1, fun _ => hk, fun c => absurd (show (120 : Int32) ≤ nI 120 by decide) c⟩
    · intro k hk
      exact ⟨1, fun _ => hk, fun c => absurd (show (119 : Int32) < nI 120 by decide) c⟩
  | succ d ih =>
    intro m hm0 bm bb bt wa ko us bi bo wh ho iS lf we pl le hs' hm ps hR hS hW
    have hg : ¬ (120 : Int32) ≤ nI m := nI_ge (b := 120) (by omega) (by omega)
    have hg2 : ¬ (119 : Int32) < nI m := nI_nlt (a := 119) (by omega) (by omega)
    obtain ⟨bm1, bb1, bt1, wa1, ko1, us1, wh1, ho1, iS1, lf1, bi1, bo1, pl1, le1, hs1, hmm1, hC1, hM1, hS1, hR1⟩ := trains_y hT hB2 hB8 (show m < 120 by omega) hp hb T 0 (Nat.zero_add _) bm bb bt wa ko us bi bo wh ho iS lf pl le hs' hm hR hS
    obtain ⟨we1, ps1, hC3, hM3, hW3⟩ := were_y hT hB8 (show m < 120 by omega) hR1.1 T 0 (Nat.zero_add _) we ps hW (fun t ht => absurd ht (Nat.not_lt_zero _))
    obtain ⟨bm2, bb2, bt2, wa2, ko2, us2, wh2, ho2, iS2, lf2, we2, bi2, bo2, pl2, le2, hs2, hm2, ps2, hC, hM, hS2, hR2, hW2⟩ := ih (m + 1) (by omega) bm1 bb1 bt1 wa1 ko1 us1 bi1 bo1 wh1 ho1 iS1 lf1 we1 pl1 le1 hs1 hmm1 ps1 hR1 hS1 hW3
    rw [nI_succ] at hC hM
    refine ⟨bm2, bb2, bt2, wa2, ko2, us2, wh2, ho2, iS2, lf2, we2, bi2, bo2, pl2, le2, hs2, hm2, ps2, ?_, ?_, hS2, hR2, hW2⟩
    · intro k hk
      obtain ⟨n, hn⟩ := hC k hk
      exact ⟨n + 1, fun c => absurd c hg, fun _ => hC1 _ (hC3 _ hn)⟩
    · intro k hk
      obtain ⟨n, hn⟩ := hM k hk
      exact ⟨n + 1, fun c => absurd c hg2, fun _ => hM1 _ (hM3 _ hn)⟩
