set_option maxRecDepth 100000
theorem cop_L {a b : Nat} (ha : a + 25 ≤ 125) (hb : b + 25 ≤ 125) (hd : a + 25 ≤ b ∨ b + 25 ≤ a) (st : Nat → Int32) : ∀ d j : Nat, j + d = 25 → ∀ st1 : Nat → Int32, (∀ i : Nat, i < j → st1 (b + i) = st (a + i)) → (∀ i : Nat, i < b ∨ b + j ≤ i → st1 i = st i) →
    ∃ st2 : Nat → Int32, (∀ k : (Nat → Int32) → Prop, k st2 → ∃ n : Nat, M_copies_L2 (nI a) (nI b) k n st1 (nI j)) ∧ (∀ i : Nat, i < 25 → st2 (b + i) = st (a + i)) ∧ (∀ i : Nat, i < b ∨ b + 25 ≤ i → st2 i = st i) := by
  intro d
  induction d with
  | zero =>
    intro j hj st1 h1 h2
    obtain rfl : j = 25 := by omega
    exact ⟨st1, fun k hk => ⟨1, fun _ => hk, fun c => absurd (show (25 : Int32) ≤ nI 25 by decide) c⟩, h1, h2⟩
  | succ d ih =>
    intro j hj st1 h1 h2
    have hg : ¬ (25 : Int32) ≤ nI j := nI_ge (b := 25) (by omega) (by omega)
    obtain ⟨st2, hM, h3, h4⟩ := ih (j + 1) (by omega) (upd st1 (b + j) (st1 (a + j))) (fun i hi => by
      by_cases e : i = j
      · rw [e, upd_eq]
        exact h2 (a + j) (by omega)
      · rw [upd_ne _ _ (by omega)]
        exact h1 i (by omega)) (fun i hi => by
      rw [upd_ne _ _ (by omega)]
      exact h2 i (by omega))
    rw [nI_succ] at hM
    refine ⟨st2, fun k hk => ?_, h3, h4⟩
    obtain ⟨n, hn⟩ := hM k hk
    refine ⟨n + 1, fun c => absurd c hg, fun _ => ⟨ad_v (by omega) (by omega), ad_v (by omega) (by omega), ?_⟩⟩
    rw [ad_c (by omega), ad_c (by omega)]
    exact hn
theorem copies_y {a b : Nat} (ha : a + 25 ≤ 125) (hb : b + 25 ≤ 125) (hd : a + 25 ≤ b ∨ b + 25 ≤ a) (st : Nat → Int32) :
    ∃ st2 : Nat → Int32, (∀ Q : (Nat → Int32) → Prop, Q st2 → M_copies st (nI a) (nI b) Q) ∧ (∀ i : Nat, i < 25 → st2 (b + i) = st (a + i)) ∧ (∀ i : Nat, i < b ∨ b + 25 ≤ i → st2 i = st i) := by
  obtain ⟨st2, h1, h2, h3⟩ := cop_L ha hb hd st 25 0 (Nat.zero_add _) st (fun i hi => absurd hi (Nat.not_lt_zero _)) (fun _ _ => rfl)
  exact ⟨st2, fun Q hQ => h1 (fun s => Q s) hQ, h2, h3⟩
theorem pg_mv {st st2 om tr : Nat → Int32} {a b : Nat} {G : Int32} (he : ∀ i : Nat, i < 25 → st2 (b + i) = st (a + i)) (h : pgOK st a G om tr) : pgOK st2 b G om tr := ⟨fun x hx => (he x (by omega)).trans (h.1 x hx), (he 8 (by omega)).trans h.2.1, fun t h1 w h2 => by
  have e := he (9 + 4 * w + t) (by omega)
  rw [show b + (9 + 4 * w + t) = b + 9 + 4 * w + t by omega, show a + (9 + 4 * w + t) = a + 9 + 4 * w + t by omega] at e
  exact e.trans (h.2.2 t h1 w h2)⟩
theorem pg_s {st om tr : Nat → Int32} {G v : Int32} {t : Nat} (ht : t < 4) (h : pgOK st 0 G om tr) : pgOK (upd st (17 + t) v) 0 G om (upd tr (4 * t + 2) v) := by
  refine ⟨fun b hb => ?_, ?_, fun u hu w hw => ?_⟩
  · rw [upd_ne _ _ (by omega)]
    exact h.1 b hb
  · rw [upd_ne _ _ (by omega)]
    exact h.2.1
  · by_cases e : u = t ∧ w = 2
    · rw [e.1, e.2, show 0 + 9 + 4 * 2 + t = 17 + t by omega, upd_eq, upd_eq]
    · rw [upd_ne _ _ (by omega), upd_ne _ _ (by omega)]
      exact h.2.2 u hu w hw
theorem bo_s {B T : Int32} {om tr : Nat → Int32} {v : Int32} {t : Nat} (h : bOK B T om tr) (h0 : 0 ≤ v.toInt) (h9 : v.toInt ≤ 9) : bOK B T om (upd tr (4 * t + 2) v) := by
  obtain ⟨h1, h2, h3, h4, h5, h6⟩ := h
  refine ⟨h1, h2, h3, h4, h5, fun u hu => ?_⟩
  rw [upd_ne _ _ (by omega), upd_ne _ _ (show 4 * u + 1 ≠ 4 * t + 2 by omega), upd_ne _ _ (show 4 * u + 3 ≠ 4 * t + 2 by omega)]
  refine ⟨(h6 u hu).1, (h6 u hu).2.1, ?_, (h6 u hu).2.2.2⟩
  by_cases e : u = t
  · rw [e, upd_eq]
    exact ⟨h0, h9⟩
  · rw [upd_ne _ _ (by omega)]
    exact (h6 u hu).2.2.1
/-- alike but for the first trains' starts -/
def DX (c : Nat) (a b : Nat → Int32) : Prop := ∀ i : Nat, i < 16 → (∃ t : Nat, t < c ∧ i = 4 * t + 2) ∨ a i = b i
theorem lay_L {B T : Nat} {G : Int32} {uO : Nat → Int32} : ∀ c : Nat, c ≤ 4 → ∀ (X : Nat) (st tA uR : Nat → Int32), X < 2 ^ 31 → pgOK st 0 G uO tA → DX c tA uR → bOK (nI B) (nI T) uO uR →
    ∃ st2 uR2 : Nat → Int32, (∀ k : (Nat → Int32) → Prop, k uR2 → ∃ n : Nat, C_startsBy_L23 k n uR (nI X) (nI c - 1)) ∧ (∀ k : (Nat → Int32) → Prop, k st2 → ∃ n : Nat, M_laysStarts_L9 k n st (nI X) (nI c - 1)) ∧
      pgOK st2 0 G uO uR2 ∧ bOK (nI B) (nI T) uO uR2 ∧ DX c uR2 uR ∧ (∀ i : Nat, 25 ≤ i → st2 i = st i) := by
  intro c
  induction c with
  | zero =>
    intro hc X st tA uR hX hp hD hb
    have h0 : nI 0 - 1 < 0 := by decide
    refine ⟨st, uR, fun k hk => ⟨1, fun _ => hk, fun c => absurd h0 c⟩, fun k hk => ⟨1, fun _ => hk, fun c => absurd h0 c⟩, pg_cg (fun _ _ => rfl) (fun i hi => ?_) hp, hb, fun _ _ => Or.inr rfl, fun _ _ => rfl⟩
    rcases hD i hi with ⟨t, ht, _⟩ | h
    · omega
    · exact h.symm
  | succ c ih =>
    intro hc X st tA uR hX hp hD hb
    have e1 : nI (c + 1) - 1 = nI c := nI_pred c
    have h0 : ¬ nI c < 0 := nI_pos (by omega)
    have e2 : nI X / (4 : Int32) = nI (X / 4) := pk_div (d := 4) hX (by omega) (by omega)
    have e3 : nI X - nI X / (4 : Int32) * (4 : Int32) = nI (X % 4) := pk_rem (d := 4) hX (by omega) (by omega)
    have e4 : nI c + (-1 : Int32) = nI c - 1 := (Int32.sub_eq_add_neg _ _).symm
    have t4 := nI_toInt (n := X % 4) (by omega)
    obtain ⟨st2, uR2, hC, hM, hp2, hb2, hD2, hr2⟩ := ih (by omega) (X / 4) (upd st (17 + c) (nI (X % 4))) (upd tA (4 * c + 2) (nI (X % 4))) (upd uR (4 * c + 2) (nI (X % 4))) (by omega) (pg_s (by omega) hp) (fun i hi => by
      by_cases e : i = 4 * c + 2
      · right
        rw [e, upd_eq, upd_eq]
      · rw [upd_ne _ _ e, upd_ne _ _ e]
        rcases hD i hi with ⟨t, ht, h⟩ | h
        · exact Or.inl ⟨t, by omega, h⟩
        · exact Or.inr h) (bo_s hb (by omega) (by omega))
    refine ⟨st2, uR2, fun k hk => ?_, fun k hk => ?_, hp2, hb2, fun i hi => ?_, fun i hi => (hr2 i hi).trans (upd_ne _ _ (by omega))⟩
    · obtain ⟨n, hn⟩ := hC k hk
      refine ⟨n + 1, ?_⟩
      rw [e1]
      refine ⟨fun c => absurd c h0, fun _ => ⟨of_v (w := 2) (by omega) (by omega), ?_⟩⟩
      have c2 : (((4 : Int32) * nI c) + (2 : Int32)).toNatClampNeg = 4 * c + 2 := of_c (w := 2) (by omega) (by omega)
      rw [c2, e3, e2, e4, nb_id (by omega) (by omega)]
      exact hn
    · obtain ⟨n, hn⟩ := hM k hk
      refine ⟨n + 1, ?_⟩
      rw [e1]
      refine ⟨fun c => absurd c h0, fun _ => ⟨ad_v (a := 17) (by omega) (by omega), ?_⟩⟩
      have c2 : ((17 : Int32) + nI c).toNatClampNeg = 17 + c := ad_c (a := 17) (by omega)
      rw [c2, e3, e2, e4]
      exact hn
    · rcases hD2 i hi with ⟨t, ht, h⟩ | h
      · exact Or.inl ⟨t, by omega, h⟩
      · by_cases e : i = 4 * c + 2
        · exact Or.inl ⟨c, by omega, e⟩
        · rw [upd_ne _ _ e] at h
          exact Or.inr h
theorem by_y {B T X : Nat} (hT : T ≤ 4) (hX : X < 2 ^ 31) {G G1 : Int32} {st om tr tA : Nat → Int32} (hp : pgOK st 0 G om tA) (hD : DX T tA tr) (hb : bOK (nI B) (nI T) om tr) (tB tG tT : Int32) (tO tR : Nat → Int32) :
    ∃ uO uR st2 : Nat → Int32, (∀ Q : Int32 → Int32 → Int32 → (Nat → Int32) → (Nat → Int32) → Prop, Q (nI B) G1 (nI T) uO uR → C_startsBy (nI B) G1 (nI T) om tr tB tG tT tO tR (nI X) Q) ∧ (∀ Q : (Nat → Int32) → Prop, Q st2 → M_laysStarts (nI T) st (nI X) Q) ∧
      pgOK st2 0 G uO uR ∧ bOK (nI B) (nI T) uO uR ∧ (∀ b : Nat, b < 8 → uO b = om b) ∧ DX T uR tr ∧ (∀ i : Nat, 25 ≤ i → st2 i = st i) := by
  obtain ⟨om2, tr2, hA, ho2, ht2⟩ := as_y hb G1 tB tG tT tO tR
  obtain ⟨st2, uR2, hC, hM, hp2, hb2, hD2, hr2⟩ := lay_L (B := B) (T := T) T hT X st tA tr2 hX (pg_cg ho2 (fun _ _ => rfl) hp) (fun i hi => by
    rw [ht2 i hi]
    exact hD i hi) (bo_cg ho2 ht2 hb)
  refine ⟨om2, uR2, st2, fun Q hQ => hA _ (hC _ hQ), fun Q hQ => hM (fun s => Q s) hQ, hp2, hb2, ho2, fun i hi => ?_, hr2⟩
  rw [← ht2 i hi]
  exact hD2 i hi
