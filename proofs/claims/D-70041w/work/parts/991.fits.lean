set_option maxRecDepth 100000
/-! which faiths fit what was seen -/
def sfF (sa we : Nat → Int32) (x : Int32) : Nat → Int32
  | 0 => 1
  | k + 1 => if sfF sa we x k = 0 then (0 : Int32) else (if sa (3 * k) = x then (if we ((((4 : Int32) * sa (3 * k + 1)) + x).toNatClampNeg) = sa (3 * k + 2) then (1 : Int32) else (0 : Int32)) else (1 : Int32))
theorem sf_z (sa we : Nat → Int32) (x : Int32) : ∀ k : Nat, zb (sfF sa we x k) := by
  intro k
  induction k with
  | zero => exact zb_1
  | succ k ih => exact zb_I (fun _ => zb_0) (fun _ => zb_I (fun _ => zb_I (fun _ => zb_1) (fun _ => zb_0)) (fun _ => zb_1))
theorem and_z {a b : Int32} (ha : zb a) (hb : zb b) : a &&& b = if a = 0 then (0 : Int32) else b := by
  rcases ha with rfl | rfl
  · rw [if_pos rfl, Int32.zero_and]
  · rw [if_neg (by decide)]
    rcases hb with rfl | rfl <;> decide
theorem sn_ix {S B : Int32} {T k : Nat} {a b : Nat → Int32} (h : snOK S B (nI T) a b) (hT : T ≤ 4) (hk : (k : Int) < S.toInt) : ∃ i : Nat, i < 120 ∧ a (3 * k + 1) = nI i := by
  have h2 := (h.2.2 k hk).2.1
  exact ⟨(b (3 * k + 1)).toInt.toNat, by omega, h2.1.trans (of_nn h2.2.1)⟩
theorem sfC_L {S T t : Nat} {B : Int32} (hS : S ≤ 6) (hT : T ≤ 4) (ht : t < T) {sa sb we : Nat → Int32} (hs : snOK (nI S) B (nI T) sa sb) {k : Int32 → Prop} (hk : k (sfF sa we (nI t) S)) : ∀ n j : Nat, j + n = S → C_fitting_L87 (nI S) sa we (nI t) k (n + 1) (sfF sa we (nI t) j) (nI j) := by
  intro n
  induction n with
  | zero =>
    intro j hj
    obtain rfl : j = S := by omega
    exact ⟨fun _ => hk, fun c => absurd (nI_le (Nat.le_refl _) (by omega)) c⟩
  | succ n ih =>
    intro j hj
    have h := ih (j + 1) (by omega)
    rw [nI_succ] at h
    have tS := nI_toInt (n := S) (by omega)
    obtain ⟨i, hi, ei⟩ := sn_ix (k := j) hs hT (by omega)
    have e0 : (3 : Int32) * nI j = nI (3 * j) := pk_mul 3 j
    have e1 : nI (3 * j) + (1 : Int32) = nI (3 * j + 1) := nI_1 _
    have e2 : nI (3 * j) + (2 : Int32) = nI (3 * j + 2) := nI_add _ 2
    have e4 : (4 : Int32) * nI i = nI (4 * i) := pk_mul 4 i
    have v0 : vp_in (nI (3 * j)) 18 := vp_in_nI (by omega) (by omega)
    have v1 : vp_in (nI (3 * j + 1)) 18 := vp_in_nI (by omega) (by omega)
    have v2 : vp_in (nI (3 * j + 2)) 18 := vp_in_nI (by omega) (by omega)
    refine ⟨fun c => absurd c (nI_ge (by omega) (by omega)), fun _ => ?_⟩
    rw [e0, e1, e2, nI_clamp (n := 3 * j) (by omega), nI_clamp (n := 3 * j + 1) (by omega), nI_clamp (n := 3 * j + 2) (by omega)]
    refine ⟨v0, fun _ => v1, fun _ => ?_, fun _ => v2, ?_⟩
    · rw [ei, e4]
      exact ad_v (by omega) (by omega)
    · rw [and_z (sf_z _ _ _ _) (zb_I (fun _ => zb_I (fun _ => zb_1) (fun _ => zb_0)) (fun _ => zb_1))]
      exact h
theorem sfM_L {S T t : Nat} {B : Int32} (hS : S ≤ 6) (hT : T ≤ 4) (ht : t < T) {sa sb we ps : Nat → Int32} (hs : snOK (nI S) B (nI T) sa sb) (hW : WR T 120 we ps) {k : Int32 → Prop} (hk : k (sfF sa we (nI t) S)) : ∀ n j : Nat, j + n = S → M_faithsOf_L42 (nI S) ps sb (nI t) k (n + 1) (sfF sa we (nI t) j) (nI j) := by
  intro n
  induction n with
  | zero =>
    intro j hj
    obtain rfl : j = S := by omega
    exact ⟨fun _ => hk, fun c => absurd (nI_le (Nat.le_refl _) (by omega)) c⟩
  | succ n ih =>
    intro j hj
    have h := ih (j + 1) (by omega)
    rw [nI_succ] at h
    have tS := nI_toInt (n := S) (by omega)
    obtain ⟨i, hi, ei⟩ := sn_ix (k := j) hs hT (by omega)
    have h3 := hs.2.2 j (by omega)
    have e0 : (3 : Int32) * nI j = nI (3 * j) := pk_mul 3 j
    have e1 : nI (3 * j) + (1 : Int32) = nI (3 * j + 1) := nI_1 _
    have e2 : nI (3 * j) + (2 : Int32) = nI (3 * j + 2) := nI_add _ 2
    have e4 : (4 : Int32) * nI i = nI (4 * i) := pk_mul 4 i
    have v0 : vp_in (nI (3 * j)) 18 := vp_in_nI (by omega) (by omega)
    have v1 : vp_in (nI (3 * j + 1)) 18 := vp_in_nI (by omega) (by omega)
    have v2 : vp_in (nI (3 * j + 2)) 18 := vp_in_nI (by omega) (by omega)
    have hp : ps ((((4 : Int32) * sa (3 * j + 1)) + nI t).toNatClampNeg) = we ((((4 : Int32) * sa (3 * j + 1)) + nI t).toNatClampNeg) := by
      rw [ei, e4, ad_c (by omega)]
      exact (hW i hi t ht).1.symm
    refine ⟨fun c => absurd c (nI_ge (by omega) (by omega)), fun _ => ?_⟩
    rw [e0, e1, e2, nI_clamp (n := 3 * j) (by omega), nI_clamp (n := 3 * j + 1) (by omega), nI_clamp (n := 3 * j + 2) (by omega), ← h3.1.1, ← h3.2.1.1, ← h3.2.2, hp]
    refine ⟨fun _ => v0, fun _ _ => v1, fun _ _ => ?_, fun _ _ => v2, h⟩
    rw [ei, e4]
    exact ad_v (by omega) (by omega)
def WB (f : Nat) (a b : Nat → Int32) : Prop := ∀ m : Nat, m < 120 → ∀ g : Nat, g < f → a (4 * m + g) = b (4 * m + g)
theorem wb_L {T t f : Nat} (hT : T ≤ 4) (ht : t < T) (hf : f < 4) {we ps : Nat → Int32} (hW : WR T 120 we ps) : ∀ d m : Nat, m + d = 120 → ∀ wd wo : Nat → Int32, WB f wd wo → (∀ i : Nat, i < m → wd (4 * i + f) = wo (4 * i + f)) →
    ∃ wd2 wo2 : Nat → Int32, (∀ k : (Nat → Int32) → Prop, k wd2 → ∃ n : Nat, C_fitting_L49 we (nI t) (nI f) k n wd (nI m)) ∧ (∀ k : (Nat → Int32) → Prop, k wo2 → ∃ n : Nat, M_faithsOf_L119 ps (nI t) (nI f) k n wo (nI m)) ∧ WB (f + 1) wd2 wo2 := by
  intro d
  induction d with
  | zero =>
    intro m hm wd wo h1 h2
    obtain rfl : m = 120 := by omega
    refine ⟨wd, wo, fun k hk => ⟨1, fun _ => hk, fun c => absurd (show (120 : Int32) ≤ nI 120 by decide) c⟩, fun k hk => ⟨1, fun _ => hk, fun c => absurd (show (119 : Int32) < nI 120 by decide) c⟩, fun i hi g hg => ?_⟩
    by_cases e : g = f
    · rw [e]
      exact h2 i hi
    · exact h1 i hi g (by omega)
  | succ d ih =>
    intro m hm wd wo h1 h2
    have hg : ¬ (120 : Int32) ≤ nI m := nI_ge (b := 120) (by omega) (by omega)
    have hg2 : ¬ (119 : Int32) < nI m := nI_nlt (a := 119) (by omega) (by omega)
    have e4 : (4 : Int32) * nI m = nI (4 * m) := pk_mul 4 m
    have vt : vp_in (nI (4 * m) + nI t) 480 := ad_v (by omega) (by omega)
    have vf : vp_in (nI (4 * m) + nI f) 480 := ad_v (by omega) (by omega)
    have hw := hW m (by omega) t ht
    obtain ⟨wd2, wo2, hC, hM, hr⟩ := ih (m + 1) (by omega) (upd wd (4 * m + f) (we (4 * m + t))) (upd wo (4 * m + f) (ps (4 * m + t))) (fun i hi g hg => by
      by_cases e : i = m ∧ g = f
      · omega
      · rw [upd_ne _ _ (by omega), upd_ne _ _ (by omega)]
        exact h1 i hi g hg) (fun i hi => by
      by_cases e : i = m
      · rw [e, upd_eq, upd_eq]
        exact hw.1
      · rw [upd_ne _ _ (by omega), upd_ne _ _ (by omega)]
        exact h2 i (by omega))
    rw [nI_succ] at hC hM
    refine ⟨wd2, wo2, fun k hk => ?_, fun k hk => ?_, hr⟩
    · obtain ⟨n, hn⟩ := hC k hk
      refine ⟨n + 1, fun c => absurd c hg, fun _ => ?_⟩
      have en : vp_nar .byte (we (4 * m + t)) = we (4 * m + t) := by
        rcases hw.2 with h | ⟨x, hx, h⟩
        · rw [h]; decide
        · rw [h]
          exact nar_id (by rw [nI_toInt (by omega)]; omega) (by rw [nI_toInt (by omega)]; omega)
      rw [e4, ad_c (by omega), ad_c (by omega), en]
      exact ⟨vt, vf, hn⟩
    · obtain ⟨n, hn⟩ := hM k hk
      refine ⟨n + 1, fun c => absurd c hg2, fun _ => ?_⟩
      rw [e4, ad_c (by omega), ad_c (by omega)]
      exact ⟨vt, vf, hn⟩
abbrev KF := Int32 → Int32 → Int32 → Int32 → Int32 → Int32 → Int32 → Int32 → Int32 → (Nat → Int32) → (Nat → Int32) → (Nat → Int32) → (Nat → Int32) → (Nat → Int32) → (Nat → Int32) → (Nat → Int32) → (Nat → Int32) → Int32 → Prop
abbrev KG := Int32 → Int32 → Int32 → Int32 → Int32 → Int32 → (Nat → Int32) → (Nat → Int32) → (Nat → Int32) → (Nat → Int32) → (Nat → Int32) → (Nat → Int32) → (Nat → Int32) → Int32 → Prop
theorem fit_L {B T t S : Nat} (hT : T ≤ 4) (hB2 : 2 ≤ B) (hB8 : B ≤ 8) (ht : t < T) (hS : S ≤ 6) {G : Int32} {st om tr sa sb : Nat → Int32} (hp : pgOK st 0 G om tr) (hb : bOK (nI B) (nI T) om tr) (hs : snOK (nI S) (nI B) (nI T) sa sb) : ∀ d j : Nat, j + d = 4 → ∀ (bm0 bb0 bt0 wa0 ko0 us0 uB0 uG0 uT0 : Int32) (uO0 uR0 wh0 ho0 iS0 lf0 we0 : Nat → Int32) (wd : Nat → Int32) (x2 : Int32) (ba0 bi0 bo0 wb0 kb0 vi0 : Int32) (st0 pl0 le0 hz0 hm0 ps0 : Nat → Int32) (wo : Nat → Int32), (∀ i : Nat, i ≠ 9 + t → st0 i = st i) → WB j wd wo → (∃ q : Nat, q < 2 ^ j ∧ x2 = nI q) →
    ∃ bm bb bt wa ko us uB uG uT uO uR wh ho iS lf we wd2 z2 ba2 bi2 bo2 wb2 kb2 vi2 st2 pl2 le2 hz2 hm2 ps2 wo2,
      (∀ k : KF, k bm bb bt wa ko us uB uG uT uO uR wh ho iS lf we wd2 z2 → ∃ n : Nat, C_fitting_L4 (nI S) (nI B) G (nI T) om tr sa (nI t) k n bm0 bb0 bt0 wa0 ko0 us0 uB0 uG0 uT0 uO0 uR0 wh0 ho0 iS0 lf0 we0 wd x2 (nI j)) ∧
      (∀ k : KG, k ba2 bi2 bo2 wb2 kb2 vi2 st2 pl2 le2 hz2 hm2 ps2 wo2 z2 → ∃ n : Nat, M_faithsOf_L15 (nI B) (nI T) (nI S) M0_waits sb (nI t) k n ba0 bi0 bo0 wb0 kb0 vi0 st0 pl0 le0 hz0 hm0 ps0 wo x2 (nI j)) ∧
      (∀ i : Nat, i ≠ 9 + t → st2 i = st i) ∧ WB 4 wd2 wo2 ∧ ∃ q : Nat, q < 16 ∧ z2 = nI q := by
  intro d
  induction d with
  | zero =>
    intro j hj bm0 bb0 bt0 wa0 ko0 us0 uB0 uG0 uT0 uO0 uR0 wh0 ho0 iS0 lf0 we0 wd x2 ba0 bi0 bo0 wb0 kb0 vi0 st0 pl0 le0 hz0 hm0 ps0 wo hst hW hq
    obtain rfl : j = 4 := by omega
    have e : (4 : Int32) ≤ nI 4 := by decide
    exact ⟨bm0, bb0, bt0, wa0, ko0, us0, uB0, uG0, uT0, uO0, uR0, wh0, ho0, iS0, lf0, we0, wd, x2, ba0, bi0, bo0, wb0, kb0, vi0, st0, pl0, le0, hz0, hm0, ps0, wo, fun k hk => ⟨1, fun _ => hk, fun c => absurd e c⟩, fun k hk => ⟨1, fun _ => hk, fun c => absurd e c⟩, hst, hW, hq⟩
  | succ d ih =>
    intro j hj bm0 bb0 bt0 wa0 ko0 us0 uB0 uG0 uT0 uO0 uR0 wh0 ho0 iS0 lf0 we0 wd x2 ba0 bi0 bo0 wb0 kb0 vi0 st0 pl0 le0 hz0 hm0 ps0 wo hst hW hq
    have hg : ¬ (4 : Int32) ≤ nI j := nI_ge (b := 4) (by omega) (by omega)
    have hp0 : pgOK (upd st0 (9 + t) (nI j)) 0 G om (upd tr (4 * t) (nI j)) := by
      refine pg_st (p := 0) (fun i _ _ => ?_) (pg_f0 (v := nI j) (show t < 4 by omega) hp)
      by_cases e : i = 9 + t
      · rw [e, upd_eq, upd_eq]
      · rw [upd_ne _ _ e, upd_ne _ _ e]
        exact hst i e
    have tj := nI_toInt (n := j) (by omega)
    have hb0 : bOK (nI B) (nI T) om (upd tr (4 * t) (nI j)) := bo_f0 hb (by omega) (by omega)
    obtain ⟨uO, uR, hA, hO, hR⟩ := as_y hb G uB0 uG0 uT0 uO0 uR0
    have hR2 : ∀ i : Nat, i < 16 → upd uR (4 * t) (nI j) i = upd tr (4 * t) (nI j) i := by
      intro i hi
      by_cases e : i = 4 * t
      · rw [e, upd_eq, upd_eq]
      · rw [upd_ne _ _ e, upd_ne _ _ e]
        exact hR i hi
    have hp1 := pg_cg hO hR2 hp0
    obtain ⟨bm, bb, bt, wa, ko, us, wh, ho, iS, lf, we, bi, bo, pl, le, hz, hm, ps, hC1, hM1, hN⟩ := run_y hT hB2 hB8 hp1 (bo_cg hO hR2 hb0) bm0 bb0 bt0 wa0 ko0 us0 ba0 bi0 bo0 wb0 kb0 vi0 wh0 ho0 iS0 lf0 we0 pl0 le0 hz0 hm0 ps0
    have c9 : ((9 : Int32) + nI t).toNatClampNeg = 9 + t := ad_c (a := 9) (by omega)
    have v9 : vp_in ((9 : Int32) + nI t) 125 := ad_v (a := 9) (by omega) (by omega)
    have c4 : (((4 : Int32) * nI t) + (0 : Int32)).toNatClampNeg = 4 * t := of_c (w := 0) (by omega) (by omega)
    have v4 : vp_in (((4 : Int32) * nI t) + (0 : Int32)) 16 := of_v (w := 0) (by omega) (by omega)
    have hst1 : ∀ i : Nat, i ≠ 9 + t → upd st0 (9 + t) (nI j) i = st i := fun i hi => (upd_ne _ _ hi).trans (hst i hi)
    have en : vp_nar .byte ((nI j).toInt8.toInt32) = nI j := nb_id (by omega) (by omega)
    obtain ⟨wd1, wo1, hC2, hM2, hW1⟩ := wb_L hT ht (show j < 4 by omega) hN.2.2 120 0 rfl wd wo hW (fun i hi => absurd hi (Nat.not_lt_zero _))
    have hq1 : ∃ q : Nat, q < 2 ^ (j + 1) ∧ x2 ||| (if sfF sa we (nI t) S = 0 then (0 : Int32) else ((1 : Int32) <<< (nI j &&& 31))) = nI q := by
      obtain ⟨q, h1, h2⟩ := hq
      rw [h2, Nat.pow_succ]
      by_cases c : sfF sa we (nI t) S = 0
      · rw [if_pos c, Int32.or_zero]
        exact ⟨q, by omega, rfl⟩
      · rw [if_neg c, or_bit j (by omega) q h1]
        exact ⟨q + 2 ^ j, by omega, rfl⟩
    obtain ⟨bm5, bb5, bt5, wa5, ko5, us5, uB5, uG5, uT5, uO5, uR5, wh5, ho5, iS5, lf5, we5, wd2, z2, ba2, bi2, bo2, wb2, kb2, vi2, st2, pl2, le2, hz2, hm2, ps2, wo2, hC, hM, hr⟩ := ih (j + 1) (by omega) bm bb bt wa ko us (nI B) G (nI T) uO (upd uR (4 * t) (nI j)) wh ho iS lf we wd1 _ bm bi bo wa ko us (upd st0 (9 + t) (nI j)) pl le hz hm ps wo1 hst1 hW1 hq1
    rw [nI_succ] at hC hM
    refine ⟨bm5, bb5, bt5, wa5, ko5, us5, uB5, uG5, uT5, uO5, uR5, wh5, ho5, iS5, lf5, we5, wd2, z2, ba2, bi2, bo2, wb2, kb2, vi2, st2, pl2, le2, hz2, hm2, ps2, wo2, fun k hk => ?_, fun k hk => ?_, hr⟩
    · obtain ⟨n, hn⟩ := hC k hk
      refine ⟨n + 1, fun c => absurd c hg, fun _ => hA _ ⟨v4, ?_⟩⟩
      rw [c4, en]
      exact hC1 _ (hC2 _ ⟨_, sfC_L hS hT ht hs hn S 0 (Nat.zero_add _)⟩)
    · obtain ⟨n, hn⟩ := hM k hk
      refine ⟨n + 1, fun c => absurd c hg, fun _ => ⟨v9, ?_⟩⟩
      rw [c9]
      exact hM1 _ ⟨_, sfM_L hS hT ht hs hN.2.2 (hM2 _ hn) S 0 (Nat.zero_add _)⟩
theorem fit_y {B T t S : Nat} (hT : T ≤ 4) (hB2 : 2 ≤ B) (hB8 : B ≤ 8) (ht : t < T) (hS : S ≤ 6) {G : Int32} {om tr sa sb : Nat → Int32} (bm0 bb0 bt0 wa0 ko0 us0 uB0 uG0 uT0 : Int32) (uO0 uR0 wh0 ho0 iS0 lf0 we0 : Nat → Int32) (wd : Nat → Int32) (ba0 bi0 bo0 wb0 kb0 vi0 : Int32) (st0 pl0 le0 hz0 hm0 ps0 : Nat → Int32) (wo : Nat → Int32) (hp : pgOK st0 0 G om tr) (hb : bOK (nI B) (nI T) om tr) (hs : snOK (nI S) (nI B) (nI T) sa sb) :
    ∃ q bm bb bt wa ko us uB uG uT uO uR wh ho iS lf we wd2 ba2 bi2 bo2 wb2 kb2 vi2 st2 pl2 le2 hz2 hm2 ps2 wo2, q < 16 ∧
      (∀ Q : Int32 → Int32 → Int32 → Int32 → Int32 → Int32 → Int32 → Int32 → Int32 → Int32 → (Nat → Int32) → (Nat → Int32) → (Nat → Int32) → (Nat → Int32) → (Nat → Int32) → (Nat → Int32) → (Nat → Int32) → (Nat → Int32) → Prop, Q (nI q) bm bb bt wa ko us uB uG uT uO uR wh ho iS lf we wd2 → C_fitting (nI S) bm0 bb0 bt0 wa0 ko0 us0 (nI B) G (nI T) om tr uB0 uG0 uT0 uO0 uR0 sa wh0 ho0 iS0 lf0 we0 wd (nI t) Q) ∧
      (∀ Q : Int32 → Int32 → Int32 → Int32 → Int32 → Int32 → Int32 → (Nat → Int32) → (Nat → Int32) → (Nat → Int32) → (Nat → Int32) → (Nat → Int32) → (Nat → Int32) → (Nat → Int32) → Prop, Q (nI q) ba2 bi2 bo2 wb2 kb2 vi2 st2 pl2 le2 hz2 hm2 ps2 wo2 → M_faithsOf (nI B) (nI T) ba0 bi0 bo0 wb0 kb0 vi0 (nI S) st0 M0_waits pl0 le0 hz0 hm0 ps0 sb wo (nI t) Q) ∧
      (∀ i : Nat, st2 i = st0 i) ∧ WB 4 wd2 wo2 := by
  obtain ⟨bm, bb, bt, wa, ko, us, uB, uG, uT, uO, uR, wh, ho, iS, lf, we, wd2, z2, ba2, bi2, bo2, wb2, kb2, vi2, st2, pl2, le2, hz2, hm2, ps2, wo2, hC, hM, hst2, hW2, q, hq, rfl⟩ := fit_L hT hB2 hB8 ht hS hp hb hs 4 0 rfl bm0 bb0 bt0 wa0 ko0 us0 uB0 uG0 uT0 uO0 uR0 wh0 ho0 iS0 lf0 we0 wd 0 ba0 bi0 bo0 wb0 kb0 vi0 st0 pl0 le0 hz0 hm0 ps0 wo (fun _ _ => rfl) (fun _ _ g hg => absurd hg (Nat.not_lt_zero _)) ⟨0, by decide, rfl⟩
  have c9 : ((9 : Int32) + nI t).toNatClampNeg = 9 + t := ad_c (a := 9) (by omega)
  have v9 : vp_in ((9 : Int32) + nI t) 125 := ad_v (a := 9) (by omega) (by omega)
  refine ⟨q, bm, bb, bt, wa, ko, us, uB, uG, uT, uO, uR, wh, ho, iS, lf, we, wd2, ba2, bi2, bo2, wb2, kb2, vi2, upd st2 (9 + t) (st0 (9 + t)), pl2, le2, hz2, hm2, ps2, wo2, hq, fun Q hQ => hC _ hQ, fun Q hQ => ⟨v9, hM _ ⟨v9, ?_⟩⟩, fun i => ?_, hW2⟩
  · rw [c9]
    exact hQ
  · by_cases e : i = 9 + t
    · rw [e, upd_eq]
    · rw [upd_ne _ _ e]
      exact hst2 i e
