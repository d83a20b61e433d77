set_option maxRecDepth 100000
def mgF (j : Nat) (x : Int32) (om : Nat → Int32) (b : Nat) : Int32 := if b < j ∧ ¬ bz x (nI b) = 0 then (1 : Int32) else om b
theorem mg_s {j : Nat} {x : Int32} {om f : Nat → Int32} (h : ∀ b : Nat, b < 8 → f b = mgF j x om b) : ∀ b : Nat, b < 8 → upd f j (if bz x (nI j) = 0 then om j else (1 : Int32)) b = mgF (j + 1) x om b := by
  intro b hb
  unfold mgF
  by_cases e : b = j
  · rw [e, upd_eq]
    by_cases c : bz x (nI j) = 0
    · rw [if_pos c, if_neg (fun h2 => h2.2 c)]
    · rw [if_neg c, if_pos ⟨by omega, c⟩]
  · rw [upd_ne _ _ e, h b hb]
    unfold mgF
    by_cases c : b < j ∧ ¬ bz x (nI b) = 0
    · rw [if_pos c, if_pos ⟨by omega, c.2⟩]
    · rw [if_neg c, if_neg (fun h2 => c ⟨by omega, h2.2⟩)]
theorem fly_L {B : Nat} (hB8 : B ≤ 8) {x : Int32} {om : Nat → Int32} (hr : ∀ b : Nat, b < 8 → 0 ≤ (om b).toInt ∧ (om b).toInt ≤ 4) {st : Nat → Int32} (hs0 : ∀ b : Nat, b < 8 → st b = om b) : ∀ d j : Nat, j + d = B → ∀ f s : Nat → Int32, (∀ b : Nat, b < 8 → f b = mgF j x om b) → (∀ b : Nat, b < 8 → s b = mgF j x om b) → (∀ i : Nat, 8 ≤ i → s i = st i) →
    ∃ f2 s2 : Nat → Int32, (∀ k : (Nat → Int32) → Prop, k f2 → ∃ n : Nat, C_flies_L13 (nI B) om x k n f (nI j)) ∧ (∀ k : (Nat → Int32) → Prop, k s2 → ∃ n : Nat, M_magpiesIn_L2 (nI B) x k n s (nI j)) ∧ (∀ b : Nat, b < 8 → f2 b = mgF B x om b) ∧ (∀ b : Nat, b < 8 → s2 b = mgF B x om b) ∧ (∀ i : Nat, 8 ≤ i → s2 i = st i) := by
  intro d
  induction d with
  | zero =>
    intro j hj f s h1 h2 h3
    obtain rfl : j = B := by omega
    have e : nI j ≤ nI j := nI_le (Nat.le_refl _) (by omega)
    exact ⟨f, s, fun k hk => ⟨1, fun _ => hk, fun c => absurd e c⟩, fun k hk => ⟨1, fun _ => hk, fun c => absurd e c⟩, h1, h2, h3⟩
  | succ d ih =>
    intro j hj f s h1 h2 h3
    have hg : ¬ nI B ≤ nI j := nI_ge (by omega) (by omega)
    have c1 : (nI j).toNatClampNeg = j := nI_clamp (by omega)
    have v8 : vp_in (nI j) 8 := vp_in_nI (by omega) (by omega)
    have v125 : vp_in (nI j) 125 := vp_in_nI (by omega) (by omega)
    have hsj : s j = om j := by
      rw [h2 j (by omega)]
      unfold mgF
      rw [if_neg (fun h => absurd h.1 (Nat.lt_irrefl _))]
    obtain ⟨f2, s2, hC, hM, hr2⟩ := ih (j + 1) (by omega) _ _ (mg_s h1) (mg_s h2) (fun i hi => (upd_ne _ _ (by omega)).trans (h3 i hi))
    rw [nI_succ] at hC hM
    refine ⟨f2, s2, fun k hk => ?_, fun k hk => ?_, hr2⟩
    · obtain ⟨n, hn⟩ := hC k hk
      refine ⟨n + 1, fun c => absurd c hg, fun _ => ⟨fun _ => v8, v8, ?_⟩⟩
      rw [has_bz, c1]
      have en : vp_nar .byte (if bz x (nI j) = 0 then om j else (1 : Int32)) = (if bz x (nI j) = 0 then om j else (1 : Int32)) := by
        have := hr j (by omega)
        by_cases c : bz x (nI j) = 0
        · rw [if_pos c]
          exact nar_id (by omega) (by omega)
        · rw [if_neg c]
          decide
      rw [en]
      exact hn
    · obtain ⟨n, hn⟩ := hM k hk
      refine ⟨n + 1, fun c => absurd c hg, fun _ => ⟨fun _ => v125, v125, ?_⟩⟩
      have e : (if (x >>> (nI j &&& 31)) &&& (1 : Int32) = (1 : Int32) then (1 : Int32) else s (nI j).toNatClampNeg) = (if bz x (nI j) = 0 then om j else (1 : Int32)) := by
        rw [c1, hsj]
        rcases bz_01 x (nI j) with c | c
        · rw [if_pos c, if_neg (by rw [show (x >>> (nI j &&& 31)) &&& (1 : Int32) = 0 from c]; decide)]
        · rw [if_pos (show (x >>> (nI j &&& 31)) &&& (1 : Int32) = 1 from c), if_neg (show ¬ bz x (nI j) = 0 by rw [c]; decide)]
      rw [e, c1]
      exact hn
theorem fl_y {B T : Nat} (hT : T ≤ 4) (hB2 : 2 ≤ B) (hB8 : B ≤ 8) {G : Int32} {om tr : Nat → Int32} (x : Int32) (bm0 bb0 bt0 wa0 ko0 us0 uB0 uG0 uT0 : Int32) (uO0 uR0 wh0 ho0 iS0 lf0 we0 : Nat → Int32) (ba0 bi0 bo0 wb0 kb0 vi0 : Int32) (st0 pl0 le0 hz0 hm0 ps0 : Nat → Int32) (hp : pgOK st0 0 G om tr) (hb : bOK (nI B) (nI T) om tr) :
    ∃ bm bb bt wa ko us uO uR wh ho iS lf we bi bo st1 pl le hz hm ps,
      (∀ Q : K16, Q bm bb bt wa ko us (nI B) G (nI T) uO uR wh ho iS lf we → C_flies bm0 bb0 bt0 wa0 ko0 us0 (nI B) G (nI T) om tr uB0 uG0 uT0 uO0 uR0 wh0 ho0 iS0 lf0 we0 x Q) ∧
      (∀ Q : (Nat → Int32) → Prop, Q st1 → M_magpiesIn (nI B) st0 x Q) ∧
      (∀ Q : K11, Q bm bi bo wa ko us pl le hz hm ps → M_run (nI B) (nI T) ba0 bi0 bo0 wb0 kb0 vi0 st1 M0_waits pl0 le0 hz0 hm0 ps0 Q) ∧
      RN G B T bm bb bt bi bo ho we hm ps ∧ pgOK st1 0 G uO uR ∧ (∀ i : Nat, 25 ≤ i → st1 i = st0 i) ∧ bOK (nI B) (nI T) uO uR := by
  obtain ⟨om2, tr2, hA, ho2, ht2⟩ := as_y hb G uB0 uG0 uT0 uO0 uR0
  have hg0 : ∀ b : Nat, mgF 0 x om b = om b := fun b => if_neg (fun h => absurd h.1 (Nat.not_lt_zero _))
  obtain ⟨f2, s2, hC, hM, e1, e2, e3⟩ := fly_L hB8 (x := x) (fun b hb2 => ⟨(hb.2.2.2.2.1 b hb2).1, (hb.2.2.2.2.1 b hb2).2.1⟩) (fun b hb2 => pg_b hp hb2) B 0 (Nat.zero_add _) om2 st0 (fun b h => (ho2 b h).trans (hg0 b).symm) (fun b h => (pg_b hp h).trans (hg0 b).symm) (fun _ _ => rfl)
  have hp1 : pgOK s2 0 G f2 tr2 := by
    refine ⟨fun b h => ?_, (e3 8 (by omega)).trans hp.2.1, fun t h1 w h2 => ?_⟩
    · rw [Nat.zero_add]
      exact (e2 b h).trans (e1 b h).symm
    · exact (e3 _ (by omega)).trans ((hp.2.2 t h1 w h2).trans (ht2 _ (by omega)).symm)
  have hb1 : bOK (nI B) (nI T) f2 tr2 := by
    obtain ⟨g1, g2, g3, g4, g5, g6⟩ := bo_cg (om2 := om) (fun _ _ => rfl) ht2 hb
    refine ⟨g1, g2, g3, g4, fun b h => ?_, g6⟩
    rw [e1 b h]
    unfold mgF
    have tB := nI_toInt (n := B) (by omega)
    by_cases c : b < B ∧ ¬ bz x (nI b) = 0
    · rw [if_pos c]
      exact ⟨by decide, by decide, fun h2 => by omega⟩
    · rw [if_neg c]
      exact g5 b h
  obtain ⟨bm, bb, bt, wa, ko, us, wh, ho, iS, lf, we, bi, bo, pl, le, hz, hm, ps, hC1, hM1, hN⟩ := run_y hT hB2 hB8 hp1 hb1 bm0 bb0 bt0 wa0 ko0 us0 ba0 bi0 bo0 wb0 kb0 vi0 wh0 ho0 iS0 lf0 we0 pl0 le0 hz0 hm0 ps0
  exact ⟨bm, bb, bt, wa, ko, us, f2, tr2, wh, ho, iS, lf, we, bi, bo, s2, pl, le, hz, hm, ps, fun Q hQ => hA _ (hC _ (hC1 _ hQ)), fun Q hQ => hM (fun s => Q s) hQ, hM1, hN, hp1, fun i hi => e3 i (by omega), hb1⟩
