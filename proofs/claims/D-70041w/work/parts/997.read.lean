set_option maxRecDepth 100000
/-- a hanging with any block and any omen -/
theorem hang_z {B T L : Nat} (hB2 : 2 ≤ B) (hB8 : B ≤ 8) (hL4 : L ≤ 4) {om tr st lk lk2 : Nat → Int32} {G : Int32} (bok : bOK (nI B) (nI T) om tr) (pok : pgOK st 0 G om tr) (lok : lkOK (nI L) (nI B) lk) (aok : alOK (nI L) lk om) (he : ∀ l : Nat, l < 2 * L → lk2 l = lk l) (x y : Int32) :
    ∃ r : Int32, ∃ om2 st2 : Nat → Int32, (∀ Q : Int32 → (Nat → Int32) → Prop, Q r om2 → C_hang (nI L) (nI B) om lk x y Q) ∧ (∀ Q : Int32 → (Nat → Int32) → Prop, Q r st2 → M_hangs (nI B) (nI L) st lk2 x y Q) ∧
      bOK (nI B) (nI T) om2 tr ∧ pgOK st2 0 G om2 tr ∧ alOK (nI L) lk om2 ∧ (∀ i : Nat, 25 ≤ i → st2 i = st i) := by
  have eb : M_isBlock_e (nI B) x = C_isBlock_e (nI B) x := rfl
  have tB := nI_toInt (n := B) (by omega)
  by_cases c : C_isBlock_e (nI B) x = 0
  · refine ⟨-1, om, st, fun Q hQ => ⟨fun _ => hQ, fun c2 => absurd c c2⟩, fun Q hQ => ⟨fun _ => hQ, fun c2 => absurd c c2⟩, bok, pok, aok, fun _ _ => rfl⟩
  by_cases c2 : C_in_e y.toInt64 (0 : Int64) (4 : Int64) = 0
  · refine ⟨-1, om, st, fun Q hQ => ⟨fun c3 => absurd c3 c, fun _ => ⟨fun _ => hQ, fun c3 => absurd c2 c3⟩⟩, fun Q hQ => ⟨fun c3 => absurd c3 c, fun _ => ⟨fun _ => hQ, fun c3 => absurd c2 c3⟩⟩, bok, pok, aok, fun _ _ => rfl⟩
  have h1 := bl_in bok.2.1 bok.1 c
  obtain ⟨b, hb0, rfl⟩ : ∃ b : Nat, b < B ∧ x = nI b := ⟨x.toInt.toNat, by omega, of_nn h1.1⟩
  obtain ⟨v, -, hv4, rfl⟩ := in_ix (a := 0) (b := 4) (by decide) (by decide) c2
  have tv := nI_toInt (n := v) (by omega)
  have cb : (nI b).toNatClampNeg = b := nI_clamp (by omega)
  have v8 : vp_in (nI b) 8 := vp_in_nI (by omega) (by omega)
  have v125 : vp_in (nI b) 125 := vp_in_nI (by omega) (by omega)
  have en : vp_nar .byte ((nI v).toInt8.toInt32) = nI v := nb_id (by omega) (by omega)
  have hho : ∀ Q : Int32 → Prop, Q (hs om B) → B_hung (nI B) om Q := fun Q hQ => hung_y hB8 om hQ
  have hmo : ∀ Q : Int32 → Prop, Q (hs om B) → M_omens (nI B) st Q := fun Q hQ => omens_y hB8 (fun b hb => ⟨pg_b pok hb, (bok.2.2.2.2.1 b hb).1⟩) hQ
  have hx2 : nI v ≤ 0 ↔ nI v = 0 := by
    constructor
    · intro h
      have := (nI_leI (a := v) (b := 0) (by omega) (by omega)).mp h
      rw [show v = 0 by omega]
      rfl
    · intro h
      rw [h]
      decide
  have hi := hang_iff hB8 hL4 hb0 lok aok
  have ob := pg_b pok (show b < 8 by omega)
  -- the two that hang
  have hyes : (v = 0 ∨ ¬ alF lk (hs om B ||| ((1 : Int32) <<< (nI b &&& 31))) L = 0) → ∃ r : Int32, ∃ om2 st2 : Nat → Int32, (∀ Q : Int32 → (Nat → Int32) → Prop, Q r om2 → C_hang (nI L) (nI B) om lk (nI b) (nI v) Q) ∧ (∀ Q : Int32 → (Nat → Int32) → Prop, Q r st2 → M_hangs (nI B) (nI L) st lk2 (nI b) (nI v) Q) ∧
      bOK (nI B) (nI T) om2 tr ∧ pgOK st2 0 G om2 tr ∧ alOK (nI L) lk om2 ∧ (∀ i : Nat, 25 ≤ i → st2 i = st i) := by
    intro hor
    obtain ⟨f2, f3, f4⟩ := hang_fin hB8 hL4 hb0 hv4 bok pok lok aok hor
    refine ⟨om b, upd om b (nI v), upd st b (nI v), fun Q hQ => ⟨fun c3 => absurd c3 c, fun _ => ⟨fun c3 => absurd c3 c2, fun _ => ?_⟩⟩, fun Q hQ => ⟨fun c3 => absurd c3 c, fun _ => ⟨fun c3 => absurd c3 c2, fun _ => ?_⟩⟩, f2, f3, f4, fun i hi => upd_ne _ _ (by omega)⟩
    · have h1 : ∀ r : Int32, ¬ r = 0 → ((r = 0 → Q (-2 : Int32) om) ∧ (¬ r = 0 → vp_in (nI b) 8 ∧ (vp_in (nI b) 8 ∧ Q (om (nI b).toNatClampNeg) (upd om (nI b).toNatClampNeg (vp_nar .byte ((nI v).toInt8.toInt32)))))) := fun r hr => by
        rw [cb, en]
        exact ⟨fun c3 => absurd c3 hr, fun _ => ⟨v8, v8, hQ⟩⟩
      refine ⟨fun _ => h1 1 (by decide), fun c3 => hho _ (alC_y hL4 ?_)⟩
      have hn : ¬ alF lk (hs om B ||| ((1 : Int32) <<< (nI b &&& 31))) L = 0 := by
        rcases hor with h | h
        · exact absurd (by rw [h]; rfl) c3
        · exact h
      rw [if_neg hn]
      exact h1 1 (by decide)
    · have h2 : M_hangs_J42 st (nI b) (nI v) Q := by
        refine ⟨v125, v125, ?_⟩
        rw [cb, ob]
        exact hQ
      refine ⟨fun _ => h2, fun c3 => lwM_y hL4 he (hmo _ ⟨fun _ => h2, fun c4 => ?_⟩)⟩
      rcases hor with h | h
      · exact absurd (by rw [h]; decide) c3
      · exact absurd (hi.mpr h) c4
  by_cases hv0 : v = 0
  · exact hyes (Or.inl hv0)
  by_cases c5 : alF lk (hs om B ||| ((1 : Int32) <<< (nI b &&& 31))) L = 0
  · have hn0 : ¬ nI v = 0 := nI_ne0 (by omega) (by omega)
    refine ⟨-2, om, st, fun Q hQ => ⟨fun c3 => absurd c3 c, fun _ => ⟨fun c3 => absurd c3 c2, fun _ => ⟨fun c3 => absurd c3 hn0, fun _ => hho _ (alC_y hL4 ?_)⟩⟩⟩, fun Q hQ => ⟨fun c3 => absurd c3 c, fun _ => ⟨fun c3 => absurd c3 c2, fun _ => ⟨fun c3 => absurd (hx2.mp c3) hn0, fun _ => lwM_y hL4 he (hmo _ ⟨fun c4 => absurd c5 (hi.mp c4), fun _ => hQ⟩)⟩⟩⟩, bok, pok, aok, fun _ _ => rfl⟩
    rw [if_pos c5]
    exact ⟨fun _ => hQ, fun c3 => absurd rfl c3⟩
  · exact hyes (Or.inr c5)
def cdM (ln le : Int32) (x2 x3 x7 : Int32) : Int32 := if ln = (-4 : Int32) then (1 : Int32) else (if ln = x2 then (if M_in_e ((x3.toInt64) + (x7.toInt64)) (0 : Int64) ((le - (1 : Int32)).toInt64) = 0 then (2 : Int32) else (0 : Int32)) else (3 : Int32))
theorem ln_la {t w : Nat} (ht : t = 2 ∨ t = 3 ∨ t = 0) (hw : w ≤ 2) : t = laneT (nI w) ↔ lnN t = nI w := by
  have : w = 0 ∨ w = 1 ∨ w = 2 := by omega
  rcases ht with rfl | rfl | rfl <;> rcases this with rfl | rfl | rfl <;> decide
theorem ix_in {n j : Nat} (hn : n ≤ 40) (hj : j ≤ 100) (x : Int32) : M_in_e ((x.toInt64) + ((nI j).toInt64)) (0 : Int64) ((nI n - (1 : Int32)).toInt64) = 0 ↔ ¬ vp_in (x + nI j) n := by
  have tj := nI_toInt (n := j) (by omega)
  have h1 := Int32.le_toInt x
  have h2 := Int32.toInt_lt x
  rw [Min_C, in_iff, vp_in_iff, Int64.toInt_add, Int32.toInt_toInt64, Int32.toInt_toInt64, Int32.toInt_toInt64, z64, sub_i (by rw [nI_toInt (by omega), i1]; omega) (by rw [nI_toInt (by omega), i1]; omega), Int32.toInt_add, nI_toInt (n := n) (by omega), tj, i1, Int.bmod_def, Int.bmod_def]
  omega
theorem cd_eq {sh : Sh} {ln le ce : Nat → Int32} (h : shOK sh ln le ce) {k w j : Nat} (hk : k < 4) (hw : w ≤ 2) (hj : j ≤ 100) (x3 : Int32) : takeW sh k (nI w) (x3 + nI j) = cdM (ln k) (le k) (nI w) x3 (nI j) := by
  have h0 := h k hk
  unfold cdM
  cases hs : sh k with
  | none =>
    rw [hs] at h0
    rw [takeW_none hs, if_pos h0]
  | some y =>
    obtain ⟨t, n, f⟩ := y
    rw [hs] at h0
    rw [takeW_some hs, h0.2.2.1, if_neg lnN_n]
    by_cases c1 : t = laneT (nI w)
    · rw [if_pos c1, if_pos ((ln_la h0.1 hw).mp c1), h0.2.2.2.1]
      by_cases c2 : vp_in (x3 + nI j) n
      · rw [if_neg c2, if_neg (fun c => (ix_in h0.2.1 hj x3).mp c c2)]
      · rw [if_pos (Classical.not_not.mp c2), if_pos ((ix_in h0.2.1 hj x3).mpr c2)]
    · rw [if_neg c1, if_neg (fun c => c1 ((ln_la h0.1 hw).mpr c))]
/-- what is taken: the entry and its place among the cells -/
theorem cd_v {sh : Sh} {ln le ce : Nat → Int32} (h : shOK sh ln le ce) {k w j : Nat} (hk : k < 4) (x3 : Int32) (h0 : takeW sh k (nI w) (x3 + nI j) = 0) : ∃ m : Nat, m < 40 ∧ x3 + nI j = nI m ∧ takeV sh k (x3 + nI j) = ce (40 * k + m) := by
  have hk0 := h k hk
  cases hs : sh k with
  | none =>
    rw [takeW_none hs] at h0
    exact absurd h0 (by decide)
  | some y =>
    obtain ⟨t, n, f⟩ := y
    rw [hs] at hk0
    rw [takeW_some hs] at h0
    by_cases c1 : t = laneT (nI w)
    · rw [if_pos c1] at h0
      by_cases c2 : x3 + nI j < 0 ∨ n ≤ (x3 + nI j).toNatClampNeg
      · rw [if_pos c2] at h0
        exact absurd h0 (by decide)
      · have hn := hk0.2.1
        obtain ⟨m, hm, em⟩ := vp_in_of (x := x3 + nI j) (n := n) c2 (by omega)
        refine ⟨m, by omega, em, ?_⟩
        rw [takeV_some hs, em, nI_clamp (by omega)]
        exact (hk0.2.2.2.2 m hm).symm
    · rw [if_neg c1] at h0
      exact absurd h0 (by decide)
