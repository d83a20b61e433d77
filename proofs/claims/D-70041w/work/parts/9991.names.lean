set_option maxRecDepth 100000
/-! the names: one program goes by a table of letters, the other by strings -/
def cuN (n : Nat) : Nat := (M0_cuts n).toInt.toNat
def lnW (n : Nat) : Nat := cuN (n + 1) - cuN n
def chW (n c : Nat) : Int32 := M0_letters (cuN n + c)
def ixW (k : Nat) : Nat := if k < 4 then k + 4 else if k < 8 then k - 4 else k
def rkW (k : Nat) : Nat := if k < 4 then k + 9 else k - 4
theorem cu_e : ∀ n : Nat, n < 14 → M0_cuts n = nI (cuN n) ∧ cuN n ≤ 66 := by decide +kernel
theorem cu_m : ∀ n : Nat, n < 13 → cuN n ≤ cuN (n + 1) := by decide +kernel
theorem ln_J : ∀ k : Nat, k < 13 → rkW k < 13 ∧ ixW k < 13 ∧ lenJ.getD (rkW k) 0 = lnW (ixW k) ∧ lnW (ixW k) ≤ 7 := by decide +kernel
theorem ch_J : ∀ k : Nat, k < 13 → ∀ c : Nat, c < 7 → c < lnW (ixW k) → chJ (rkW k) (nI c) = chW (ixW k) c := by decide +kernel
theorem wd_ne : ∀ n : Nat, n < 13 → ∀ m : Nat, m < 13 → n ≠ m → lnW n = lnW m → ∃ c : Nat, c < 7 ∧ (c < lnW n ∧ chW n c ≠ chW m c) := by decide +kernel
theorem ln_7 : ∀ n : Nat, n < 13 → lnW n ≤ 7 := by decide +kernel
theorem name_k {k : Nat} (hk : k < 13) {Q : Nat → Prop} (hQ : Q (rkW k)) : R_name (nI k) Q := by
  have : k = 0 ∨ k = 1 ∨ k = 2 ∨ k = 3 ∨ k = 4 ∨ k = 5 ∨ k = 6 ∨ k = 7 ∨ k = 8 ∨ k = 9 ∨ k = 10 ∨ k = 11 ∨ k = 12 := by omega
  rcases this with rfl | rfl | rfl | rfl | rfl | rfl | rfl | rfl | rfl | rfl | rfl | rfl | rfl
  all_goals
    refine ⟨fun h => ?_, fun h => ?_, fun h => ?_, fun h => ?_, fun h => ?_, fun h => ?_, fun h => ?_, fun h => ?_, fun h => ?_, fun h => ?_⟩
    all_goals first
      | exact hQ
      | exact absurd h (by decide)
      | (refine ⟨fun h => ?_, fun h => ?_, fun h => ?_, fun h => ?_⟩
         all_goals first
           | exact hQ
           | exact absurd h (by decide))
def mtW (a : Nat → Int32) (f q n : Nat) : Prop := q - f = lnW n ∧ ∀ c : Nat, c < lnW n → a (f + c) = chW n c
theorem mt_u {a : Nat → Int32} {f q n m : Nat} (hn : n < 13) (hm : m < 13) (h1 : mtW a f q n) (h2 : mtW a f q m) : n = m := by
  refine Classical.byContradiction (fun h => ?_)
  have hl := h1.1.symm.trans h2.1
  obtain ⟨c, _, hc, hne⟩ := wd_ne n hn m hm h hl
  exact hne ((h1.2 c hc).symm.trans (h2.2 c (by omega)))
theorem isC_L {f r W : Nat} {a : Nat → Int32} {ch : Nat → Int32} (hr : r < 13) (hW : lenJ.getD r 0 = W) (hf : f + W ≤ 160) (hch : ∀ c : Nat, c < W → chJ r (nI c) = ch c) {k : Int32 → Prop} (h1 : (∀ c : Nat, c < W → a (f + c) = ch c) → k 1) (h0 : (¬ ∀ c : Nat, c < W → a (f + c) = ch c) → k 0) : ∀ d j : Nat, j + d = W → (∀ c : Nat, c < j → a (f + c) = ch c) → ∃ n : Nat, R_is_L39 (nI f) a r k n 1 (nI j) := by
  intro d
  induction d with
  | zero =>
    intro j hj hm
    obtain rfl : j = W := by omega
    refine ⟨1, fun c => absurd c (by decide), fun _ => ⟨hr, fun _ => h1 hm, fun c => ?_⟩⟩
    rw [hW] at c
    exact absurd (nI_le (Nat.le_refl _) (by omega)) c
  | succ d ih =>
    intro j hj hm
    have ca : (nI f + nI j).toNatClampNeg = f + j := ad_c (by omega)
    have va : vp_in (nI f + nI j) 160 := ad_v (by omega) (by omega)
    have hg : ¬ nI W ≤ nI j := nI_ge (by omega) (by omega)
    by_cases e : a (f + j) = ch j
    · obtain ⟨n, hn⟩ := ih (j + 1) (by omega) (fun c hc => by
        by_cases e2 : c = j
        · rw [e2]; exact e
        · exact hm c (by omega))
      refine ⟨n + 1, fun c => absurd c (by decide), fun _ => ⟨hr, ?_⟩⟩
      rw [hW, ca, hch j (by omega), if_pos e]
      rw [nI_succ] at hn
      exact ⟨fun c => absurd c hg, fun _ => ⟨va, hr, vp_in_nI (by omega) (by omega), hn⟩⟩
    · refine ⟨2, fun c => absurd c (by decide), fun _ => ⟨hr, ?_⟩⟩
      rw [hW, ca, hch j (by omega), if_neg e]
      exact ⟨fun c => absurd c hg, fun _ => ⟨va, hr, vp_in_nI (by omega) (by omega), ⟨fun _ => h0 (fun h => e (h j (by omega))), fun c => absurd rfl c⟩⟩⟩
theorem is_y {N f q k : Nat} (hN : N ≤ 160) (hfq : f ≤ q) (hq : q ≤ N) (hk : k < 13) {s : Int32} {a : Nat → Int32} {Q : Int32 → Prop} (h1 : s = 1 → mtW a f q (ixW k) → Q 1) (h0 : (¬ (s = 1 ∧ mtW a f q (ixW k))) → Q 0) : R_is (nI q) (nI f) s a (nI k) Q := by
  obtain ⟨j1, j2, j3, j4⟩ := ln_J k hk
  refine name_k hk ⟨fun _ => j1, ?_⟩
  by_cases c1 : s = 1
  · rw [if_pos c1]
    have hd : nI q - nI f = nI (q - f) := pk_sub hfq
    by_cases c2 : q - f = lnW (ixW k)
    · rw [if_pos (by rw [hd, j3, c2])]
      refine isC_L j1 j3 (by omega) (fun c hc => ch_J k hk c (by omega) hc) (fun h => ⟨zb_1, h1 c1 ⟨c2, h⟩⟩) (fun h => ⟨zb_0, h0 (fun h2 => h h2.2.2)⟩) (lnW (ixW k)) 0 (Nat.zero_add _) (fun c hc => absurd hc (Nat.not_lt_zero _))
    · rw [if_neg (fun h => c2 (by rw [hd, j3] at h; exact (nI_eq (by omega) (by omega)).mp h))]
      exact ⟨1, fun _ => ⟨zb_0, h0 (fun h2 => c2 h2.2.1)⟩, fun c => absurd rfl c⟩
  · rw [if_neg c1]
    exact ⟨1, fun _ => ⟨zb_0, h0 (fun h2 => c1 h2.1)⟩, fun c => absurd rfl c⟩
theorem wch_L {N f q lo hi : Nat} (hN : N ≤ 160) (hfq : f ≤ q) (hq : q ≤ N) (hhi : hi < 13) {s : Int32} {a : Nat → Int32} {Q : Int32 → Prop} {X : KX} (h1 : ∀ k : Nat, lo ≤ k → k ≤ hi → s = 1 → mtW a f q (ixW k) → Q (nI k)) (h0 : (∀ k : Nat, lo ≤ k → k ≤ hi → ¬ (s = 1 ∧ mtW a f q (ixW k))) → X 2 (nI f)) : ∀ d j : Nat, j + d = hi + 1 → lo ≤ j → (∀ k : Nat, lo ≤ k → k < j → ¬ (s = 1 ∧ mtW a f q (ixW k))) → ∃ n : Nat, R_which_L2 (nI q) (nI f) s a (nI hi) (fun x3 => R_which_J21 (nI f) (nI hi) x3 Q X) X n (nI j) := by
  intro d
  induction d with
  | zero =>
    intro j hj hlo hm
    obtain rfl : j = hi + 1 := by omega
    have e : nI hi < nI (hi + 1) := nI_lt (by omega) (by omega)
    refine ⟨1, fun _ => ⟨fun _ => h0 (fun k k1 k2 => hm k k1 (by omega)), fun c => ?_⟩, fun c => absurd e c⟩
    rw [if_pos e] at c
    exact absurd rfl c
  | succ d ih =>
    intro j hj hlo hm
    have e : ¬ nI hi < nI j := nI_nlt (by omega) (by omega)
    have hk : R_which_J21 (nI f) (nI hi) (nI j) Q X ∨ ¬ (s = 1 ∧ mtW a f q (ixW j)) := by
      by_cases c : s = 1 ∧ mtW a f q (ixW j)
      · left
        refine ⟨fun c2 => ?_, fun _ => h1 j hlo (by omega) c.1 c.2⟩
        rw [if_neg e] at c2
        exact absurd c2 (by decide)
      · exact Or.inr c
    rcases hk with hk | hk
    · by_cases c : s = 1 ∧ mtW a f q (ixW j)
      · exact ⟨1, fun c2 => absurd c2 e, fun _ => is_y hN hfq hq (by omega) (fun _ _ => ⟨fun c2 => absurd c2 (by decide), fun _ => hk⟩) (fun c2 => absurd c c2)⟩
      · obtain ⟨n, hn⟩ := ih (j + 1) (by omega) (by omega) (fun k k1 k2 => by
          by_cases e2 : k = j
          · rw [e2]; exact c
          · exact hm k k1 (by omega))
        rw [nI_succ] at hn
        exact ⟨n + 1, fun c2 => absurd c2 e, fun _ => is_y hN hfq hq (by omega) (fun g1 g2 => absurd ⟨g1, g2⟩ c) (fun _ => ⟨fun _ => hn, fun c2 => absurd rfl c2⟩)⟩
    · obtain ⟨n, hn⟩ := ih (j + 1) (by omega) (by omega) (fun k k1 k2 => by
        by_cases e2 : k = j
        · rw [e2]; exact hk
        · exact hm k k1 (by omega))
      rw [nI_succ] at hn
      exact ⟨n + 1, fun c2 => absurd c2 e, fun _ => is_y hN hfq hq (by omega) (fun g1 g2 => absurd ⟨g1, g2⟩ hk) (fun _ => ⟨fun _ => hn, fun c2 => absurd rfl c2⟩)⟩
/-! the table's side -/
theorem nmI_L {N f q n : Nat} (hN : N ≤ 160) (hfq : f ≤ q) (hq : q ≤ N) (hn : n < 13) (hW : q - f = lnW n) {a b : Nat → Int32} (tp : TP N a b) {k : Int32 → Prop} (h1 : (∀ c : Nat, c < lnW n → a (f + c) = chW n c) → k 1) (h0 : (¬ ∀ c : Nat, c < lnW n → a (f + c) = chW n c) → k 0) : ∀ d j : Nat, j + d = lnW n → (∀ c : Nat, c < j → a (f + c) = chW n c) → ∃ m : Nat, M_nameHere_L51 (nI N) (nI q) (nI f) b M0_cuts M0_letters (nI n) k m 1 (nI j) := by
  have hd : nI q - nI f = nI (lnW n) := by rw [pk_sub hfq, hW]
  have l7 := ln_7 n hn
  obtain ⟨cu1, cu2⟩ := cu_e n (by omega)
  have cu3 := (cu_e (n + 1) (by omega)).2
  have cu4 := cu_m n hn
  intro d
  induction d with
  | zero =>
    intro j hj hm
    obtain rfl : j = lnW n := by omega
    refine ⟨1, fun c => absurd c (by decide), fun _ => ⟨fun _ => h1 hm, fun c => ?_⟩⟩
    rw [hd] at c
    exact absurd (nI_le (Nat.le_refl _) (by omega)) c
  | succ d ih =>
    intro j hj hm
    have hg : ¬ nI (lnW n) ≤ nI j := nI_ge (by omega) (by omega)
    have hfj : f + j < N := by omega
    have hbm := byM hN (show f + j ≤ N by omega) b
    have eb : M_byteAt_e (nI N) b (nI f + nI j) = a (f + j) := by rw [nI_add, hbm.2, if_pos hfj, (tp _ hfj).1]
    have sb : M_byteAt_s (nI N) b (nI f + nI j) := by rw [nI_add]; exact hbm.1
    have cn : (nI n).toNatClampNeg = n := nI_clamp (by omega)
    have hu : cuN n + j < 66 := by
      have : lnW n = cuN (n + 1) - cuN n := rfl
      omega
    have el : M0_letters (nI (cuN n) + nI j).toNatClampNeg = chW n j := by
      rw [ad_c (by omega)]
      rfl
    have v14 : vp_in (nI n) 14 := vp_in_nI (by omega) (by omega)
    have v66 : vp_in (nI (cuN n) + nI j) 66 := ad_v hu (by omega)
    by_cases e : a (f + j) = chW n j
    · obtain ⟨m, hm2⟩ := ih (j + 1) (by omega) (fun c hc => by
        by_cases e2 : c = j
        · rw [e2]; exact e
        · exact hm c (by omega))
      rw [nI_succ] at hm2
      refine ⟨m + 1, fun c => absurd c (by decide), fun _ => ?_⟩
      rw [hd, cn, cu1, eb, el, if_pos e]
      exact ⟨fun c => absurd c hg, fun _ => ⟨sb, v14, v66, hm2⟩⟩
    · refine ⟨2, fun c => absurd c (by decide), fun _ => ?_⟩
      rw [hd, cn, cu1, eb, el, if_neg e]
      exact ⟨fun c => absurd c hg, fun _ => ⟨sb, v14, v66, ⟨fun _ => h0 (fun h => e (h j (by omega))), fun c => absurd rfl c⟩⟩⟩
theorem nmO_L {N f q : Nat} (hN : N ≤ 160) (hfq : f ≤ q) (hq : q ≤ N) {s : Int32} {a b : Nat → Int32} (tp : TP N a b) {Q : Int32 → Prop} (h1 : ∀ n : Nat, n < 13 → s = 1 → mtW a f q n → Q (nI n)) (h0 : (∀ n : Nat, n < 13 → ¬ (s = 1 ∧ mtW a f q n)) → Q (-4)) : ∀ d j : Nat, j + d = 13 → (∀ n : Nat, n < j → ¬ (s = 1 ∧ mtW a f q n)) → ∃ m : Nat, M_nameHere_L2 (nI N) (nI q) (nI f) s b M0_cuts M0_letters (fun x1 => Q x1) (Q (-4 : Int32)) m (nI j) := by
  intro d
  induction d with
  | zero =>
    intro j hj hm
    obtain rfl : j = 13 := by omega
    have e : (13 : Int32) ≤ nI 13 := by decide
    exact ⟨1, fun _ => h0 hm, fun c => absurd e c⟩
  | succ d ih =>
    intro j hj hm
    have e : ¬ (13 : Int32) ≤ nI j := nI_ge (b := 13) (by omega) (by omega)
    by_cases c1 : s = 1
    · have cj : (nI j).toNatClampNeg = j := nI_clamp (by omega)
      have cj1 : (nI j + (1 : Int32)).toNatClampNeg = j + 1 := by rw [nI_1, nI_clamp (by omega)]
      have v1 : vp_in (nI j + (1 : Int32)) 14 := by rw [nI_1]; exact vp_in_nI (by omega) (by omega)
      have v0 : vp_in (nI j) 14 := vp_in_nI (by omega) (by omega)
      have hd : nI q - nI f = nI (q - f) := pk_sub hfq
      have hcu : M0_cuts (j + 1) - M0_cuts j = nI (lnW j) := by
        rw [(cu_e (j + 1) (by omega)).1, (cu_e j (by omega)).1]
        exact pk_sub (cu_m j (by omega))
      have l7 := ln_7 j (by omega)
      have hi : (nI q - nI f = M0_cuts (j + 1) - M0_cuts j) ↔ q - f = lnW j := by
        rw [hd, hcu]
        exact nI_eq (by omega) (by omega)
      by_cases c3 : mtW a f q j
      · refine ⟨1, fun c => absurd c e, fun _ => ⟨fun _ => ⟨v1, v0, ?_⟩, fun c => absurd c1 c⟩⟩
        rw [cj, cj1, if_pos (hi.mpr c3.1)]
        exact nmI_L hN hfq hq (by omega) c3.1 tp (fun _ => ⟨fun c => absurd c (by decide), fun _ => h1 j (by omega) c1 c3⟩) (fun h => absurd c3.2 h) (lnW j) 0 (Nat.zero_add _) (fun c hc => absurd hc (Nat.not_lt_zero _))
      · obtain ⟨m, hm2⟩ := ih (j + 1) (by omega) (fun n hn => by
          by_cases e2 : n = j
          · rw [e2]
            exact fun h => c3 h.2
          · exact hm n (by omega))
        rw [nI_succ] at hm2
        refine ⟨m + 1, fun c => absurd c e, fun _ => ⟨fun _ => ⟨v1, v0, ?_⟩, fun c => absurd c1 c⟩⟩
        rw [cj, cj1]
        by_cases c4 : q - f = lnW j
        · rw [if_pos (hi.mpr c4)]
          exact nmI_L hN hfq hq (by omega) c4 tp (fun h => absurd ⟨c4, h⟩ c3) (fun _ => ⟨fun _ => hm2, fun c => absurd rfl c⟩) (lnW j) 0 (Nat.zero_add _) (fun c hc => absurd hc (Nat.not_lt_zero _))
        · rw [if_neg (fun h => c4 (hi.mp h))]
          exact ⟨1, fun _ => ⟨fun _ => hm2, fun c => absurd rfl c⟩, fun c => absurd rfl c⟩
    · exact ⟨1, fun c => absurd c e, fun _ => ⟨fun c => absurd c c1, fun _ => h0 (fun n _ h => c1 h.1)⟩⟩
theorem which_y {N f q lo hi : Nat} (hN : N ≤ 160) (hfq : f ≤ q) (hq : q ≤ N) (hhi : hi < 13) (hin : ∀ k : Nat, lo ≤ k → k ≤ hi → lo ≤ ixW k ∧ ixW k ≤ hi) (hsu : ∀ n : Nat, lo ≤ n → n ≤ hi → ∃ k : Nat, lo ≤ k ∧ k ≤ hi ∧ ixW k = n) (hlo : lo ≤ hi + 1) {s : Int32} {a b : Nat → Int32} (tp : TP N a b) :
    (∃ k : Nat, lo ≤ k ∧ k ≤ hi ∧ (∀ (Q : Int32 → Prop) (X : KX), Q (nI k) → R_which (nI q) (nI f) s a (nI lo) (nI hi) Q X) ∧ (∀ Q : Int32 → Prop, Q (nI (ixW k)) → M_nameHere (nI N) (nI q) (nI f) s b M0_cuts M0_letters Q)) ∨
    ((∀ (Q : Int32 → Prop) (X : KX), X 2 (nI f) → R_which (nI q) (nI f) s a (nI lo) (nI hi) Q X) ∧ ∃ r : Int32, (r = -4 ∨ ∃ n : Nat, n < 13 ∧ (n < lo ∨ hi < n) ∧ r = nI n) ∧ (∀ Q : Int32 → Prop, Q r → M_nameHere (nI N) (nI q) (nI f) s b M0_cuts M0_letters Q)) := by
  have hC : ∀ (Q : Int32 → Prop) (X : KX), (∀ k : Nat, lo ≤ k → k ≤ hi → s = 1 → mtW a f q (ixW k) → Q (nI k)) → ((∀ k : Nat, lo ≤ k → k ≤ hi → ¬ (s = 1 ∧ mtW a f q (ixW k))) → X 2 (nI f)) → R_which (nI q) (nI f) s a (nI lo) (nI hi) Q X := fun Q X h1 h0 => wch_L hN hfq hq hhi h1 h0 (hi + 1 - lo) lo (by omega) (Nat.le_refl _) (fun k k1 k2 => by omega)
  have hM : ∀ Q : Int32 → Prop, (∀ n : Nat, n < 13 → s = 1 → mtW a f q n → Q (nI n)) → ((∀ n : Nat, n < 13 → ¬ (s = 1 ∧ mtW a f q n)) → Q (-4)) → M_nameHere (nI N) (nI q) (nI f) s b M0_cuts M0_letters Q := fun Q h1 h0 => nmO_L hN hfq hq tp h1 h0 13 0 rfl (fun n hn => absurd hn (Nat.not_lt_zero _))
  by_cases c : ∃ n : Nat, n < 13 ∧ s = 1 ∧ mtW a f q n
  · obtain ⟨n, hn, hs, hm⟩ := c
    have hMn : ∀ Q : Int32 → Prop, Q (nI n) → M_nameHere (nI N) (nI q) (nI f) s b M0_cuts M0_letters Q := fun Q hQ => hM Q (fun m h1 _ h2 => by rw [mt_u h1 hn h2 hm]; exact hQ) (fun h => absurd ⟨hs, hm⟩ (h n hn))
    by_cases c2 : lo ≤ n ∧ n ≤ hi
    · obtain ⟨k, k1, k2, k3⟩ := hsu n c2.1 c2.2
      refine Or.inl ⟨k, k1, k2, fun Q X hQ => hC Q X (fun i i1 i2 _ h2 => ?_) (fun h => absurd ⟨hs, by rw [k3]; exact hm⟩ (h k k1 k2)), by rw [k3]; exact hMn⟩
      have e := mt_u (show ixW i < 13 by have := (hin i i1 i2).2; omega) hn h2 hm
      have e2 : i = k := by
        rw [← k3] at e
        unfold ixW at e
        split at e <;> split at e <;> (try split at e) <;> (try split at e) <;> omega
      rw [e2]
      exact hQ
    · refine Or.inr ⟨fun Q X hX => hC Q X (fun i i1 i2 _ h2 => ?_) (fun _ => hX), nI n, Or.inr ⟨n, hn, by omega, rfl⟩, hMn⟩
      have g := hin i i1 i2
      have e := mt_u (show ixW i < 13 by omega) hn h2 hm
      omega
  · have hnone : ∀ n : Nat, n < 13 → ¬ (s = 1 ∧ mtW a f q n) := fun n hn h => c ⟨n, hn, h⟩
    exact Or.inr ⟨fun Q X hX => hC Q X (fun i i1 i2 g1 g2 => absurd ⟨g1, g2⟩ (hnone _ (by have := (hin i i1 i2).2; omega))) (fun _ => hX), -4, Or.inl rfl, fun Q hQ => hM Q (fun n hn g1 g2 => absurd ⟨g1, g2⟩ (hnone n hn)) (fun _ => hQ)⟩
