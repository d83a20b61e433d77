set_option maxRecDepth 100000
/-! THE PURE PART: what holds between the two programs' states between two calls -/
def bOK (B T : Int32) (om tr : Nat → Int32) : Prop := 2 ≤ B.toInt ∧ B.toInt ≤ 8 ∧ 0 ≤ T.toInt ∧ T.toInt ≤ 4 ∧ (∀ b : Nat, b < 8 → 0 ≤ (om b).toInt ∧ (om b).toInt ≤ 4 ∧ (B.toInt ≤ b → om b = 0)) ∧ ∀ t : Nat, t < 4 → (0 ≤ (tr (4 * t)).toInt ∧ (tr (4 * t)).toInt ≤ 3) ∧ (0 ≤ (tr (4 * t + 1)).toInt ∧ (tr (4 * t + 1)).toInt ≤ 1) ∧ (0 ≤ (tr (4 * t + 2)).toInt ∧ (tr (4 * t + 2)).toInt ≤ 9) ∧ (0 ≤ (tr (4 * t + 3)).toInt ∧ (tr (4 * t + 3)).toInt ≤ 9)
def pgOK (st : Nat → Int32) (p : Nat) (G : Int32) (om tr : Nat → Int32) : Prop := (∀ b : Nat, b < 8 → st (p + b) = om b) ∧ st (p + 8) = G ∧ ∀ t : Nat, t < 4 → ∀ w : Nat, w < 4 → st (p + 9 + 4 * w + t) = tr (4 * t + w)
def lkOK (L B : Int32) (lk : Nat → Int32) : Prop := 0 ≤ L.toInt ∧ L.toInt ≤ 4 ∧ (∀ l : Nat, l < 8 → 0 ≤ (lk l).toInt ∧ (lk l).toInt < 8) ∧ ∀ l : Nat, (l : Int) < L.toInt → (lk (2 * l)).toInt < B.toInt ∧ (lk (2 * l + 1)).toInt < B.toInt ∧ lk (2 * l) ≠ lk (2 * l + 1)
/-- no lock has both of its blocks hung -/
def alOK (L : Int32) (lk om : Nat → Int32) : Prop := ∀ l : Nat, (l : Int) < L.toInt → om (lk (2 * l)).toNatClampNeg = 0 ∨ om (lk (2 * l + 1)).toNatClampNeg = 0
def imOK (k : Int32) (st : Nat → Int32) (p : Nat) (B T : Int32) (L : Int32) (lk : Nat → Int32) (iB iG iT : Int32) (iom itr : Nat → Int32) : Prop := k = 1 → iB = B ∧ iT = T ∧ bOK B T iom itr ∧ pgOK st p iG iom itr ∧ alOK L lk iom
def tpOK (n : Int32) (a b : Nat → Int32) : Prop := 0 ≤ n.toInt ∧ n.toInt ≤ 160 ∧ ∀ i : Nat, (i : Int) < n.toInt → a i = b i ∧ 0 ≤ (b i).toInt ∧ (b i).toInt ≤ 127
def snOK (n B T : Int32) (a b : Nat → Int32) : Prop := 0 ≤ n.toInt ∧ n.toInt ≤ 6 ∧ ∀ k : Nat, (k : Int) < n.toInt → (a (3 * k) = b (3 * k) ∧ 0 ≤ (b (3 * k)).toInt ∧ (b (3 * k)).toInt < T.toInt) ∧ (a (3 * k + 1) = b (3 * k + 1) ∧ 0 ≤ (b (3 * k + 1)).toInt ∧ (b (3 * k + 1)).toInt < 120) ∧ a (3 * k + 2) = b (3 * k + 2)
def lnN (t : Nat) : Int32 := if t = 2 then 0 else if t = 3 then 1 else 2
def shOK (sh : Sh) (ln le ce : Nat → Int32) : Prop := ∀ k : Nat, k < 4 → match sh k with
  | none => ln k = -4
  | some (t, n, f) => (t = 2 ∨ t = 3 ∨ t = 0) ∧ n ≤ 40 ∧ ln k = lnN t ∧ le k = nI n ∧ ∀ i : Nat, i < n → ce (40 * k + i) = f i
def Inv (kept : Int32) (locks : Int32) (seenMany : Int32) (taped : Int32) (fault : Int32) (torn : Int32) (n_blocks : Int32) (n_guarded : Int32) (n_trains : Int32) (n_omen : Nat → Int32) (n_train : Nat → Int32) (i0_blocks : Int32) (i0_guarded : Int32) (i0_trains : Int32) (i0_omen : Nat → Int32) (i0_train : Nat → Int32) (i1_blocks : Int32) (i1_guarded : Int32) (i1_trains : Int32) (i1_omen : Nat → Int32) (i1_train : Nat → Int32) (lockA : Nat → Int32) (seenA : Nat → Int32) (tape : Nat → Int32) (sh : Sh) (m_blocks : Int32) (m_trainMany : Int32) (m_lockMany : Int32) (m_taped : Int32) (m_fault : Int32) (m_seenMany : Int32) (m_torn : Int32) (m_state : Nat → Int32) (m_locks : Nat → Int32) (m_waits : Nat → Int32) (m_tape : Nat → Int32) (m_cuts : Nat → Int32) (m_letters : Nat → Int32) (m_seen : Nat → Int32) (m_isKept : Nat → Int32) (m_lanes : Nat → Int32) (m_lengths : Nat → Int32) (m_cells : Nat → Int32) : Prop := m_blocks = n_blocks ∧ m_trainMany = n_trains ∧ m_lockMany = locks ∧ m_taped = taped ∧ m_fault = fault ∧ m_seenMany = seenMany ∧ m_torn = torn ∧ m_waits = M0_waits ∧ m_cuts = M0_cuts ∧ m_letters = M0_letters ∧ (∀ l : Nat, (l : Int) < 2 * locks.toInt → m_locks l = lockA l) ∧ bOK n_blocks n_trains n_omen n_train ∧ pgOK m_state 0 n_guarded n_omen n_train ∧ lkOK locks n_blocks lockA ∧ alOK locks lockA n_omen ∧ imOK (m_isKept 0) m_state 25 n_blocks n_trains locks lockA i0_blocks i0_guarded i0_trains i0_omen i0_train ∧ imOK (m_isKept 1) m_state 50 n_blocks n_trains locks lockA i1_blocks i1_guarded i1_trains i1_omen i1_train ∧ (zb (m_isKept 0) ∧ zb (m_isKept 1) ∧ kept = m_isKept 0 + 2 * m_isKept 1) ∧ tpOK taped tape m_tape ∧ snOK seenMany n_blocks n_trains seenA m_seen ∧ shOK sh m_lanes m_lengths m_cells
theorem Min_C (a b c : Int64) : M_in_e a b c = C_in_e a b c := rfl
theorem in_ok {a l h : Int64} (c : ¬ C_in_e a l h = 0) : l.toInt ≤ a.toInt ∧ a.toInt ≤ h.toInt := by
  unfold C_in_e at c
  by_cases c1 : lg_cmp a l < 0
  · rw [if_pos c1] at c
    exact absurd rfl c
  · rw [if_neg c1] at c
    by_cases c2 : 0 < lg_cmp a h
    · rw [if_pos c2] at c
      exact absurd rfl c
    · have h1 := (lg_cmp_ge a l).mp (Int32.not_lt.mp c1)
      have h2 : a ≤ h := by
        refine Int64.not_lt.mp (fun h3 => c2 ?_)
        unfold lg_cmp
        rw [if_pos (show a > h from h3)]
        decide
      exact ⟨Int64.le_iff_toInt_le.mp h1, Int64.le_iff_toInt_le.mp h2⟩
theorem in_no {a l h : Int64} (c : C_in_e a l h = 0) : a.toInt < l.toInt ∨ h.toInt < a.toInt := by
  refine Classical.byContradiction (fun hn => ?_)
  have h1 : l.toInt ≤ a.toInt ∧ a.toInt ≤ h.toInt := by omega
  unfold C_in_e at c
  have c1 : ¬ lg_cmp a l < 0 := Int32.not_lt.mpr ((lg_cmp_ge a l).mpr (Int64.le_iff_toInt_le.mpr h1.1))
  rw [if_neg c1] at c
  have c2 : ¬ 0 < lg_cmp a h := by
    unfold lg_cmp
    have h3 : ¬ a > h := fun h4 => by have := Int64.lt_iff_toInt_lt.mp h4; omega
    rw [if_neg h3]
    split <;> decide
  rw [if_neg c2] at c
  exact absurd c (by decide)
theorem in32 {x y : Int32} {l : Int64} (c : ¬ C_in_e x.toInt64 l y.toInt64 = 0) : l.toInt ≤ x.toInt ∧ x.toInt ≤ y.toInt := by
  have h := in_ok c
  rw [Int32.toInt_toInt64, Int32.toInt_toInt64] at h
  exact h
theorem in32n {x y : Int32} {l : Int64} (c : C_in_e x.toInt64 l y.toInt64 = 0) : x.toInt < l.toInt ∨ y.toInt < x.toInt := by
  have h := in_no c
  rw [Int32.toInt_toInt64, Int32.toInt_toInt64] at h
  exact h
theorem in32c {x : Int32} {l h : Int64} (c : ¬ C_in_e x.toInt64 l h = 0) : l.toInt ≤ x.toInt ∧ x.toInt ≤ h.toInt := by
  have h := in_ok c
  rw [Int32.toInt_toInt64] at h
  exact h
theorem z64 : (0 : Int64).toInt = 0 := by decide
theorem vp_of {x : Int32} {n : Nat} (h1 : 0 ≤ x.toInt) (h2 : x.toInt < n) : vp_in x n := vp_in_iff.mpr ⟨h1, h2⟩
theorem cl_of {x : Int32} : x.toNatClampNeg = x.toInt.toNat := rfl
theorem sok_fault : SOK_fault Inv := by
  intro kept locks seenMany bumpMinute bumpBlock bumpTrains waited keptOut used taped fault costSum safeSum allWays torn n_blocks n_guarded n_trains n_omen n_train t_blocks t_guarded t_trains t_omen t_train i0_blocks i0_guarded i0_trains i0_omen i0_train i1_blocks i1_guarded i1_trains i1_omen i1_train lockA seenA whr homes isSeen leftA were tape would m_blocks m_trainMany m_lockMany m_readBlocks m_readTrains m_readLockMany m_blocksTold m_omensTold m_highBlock m_taped m_fault m_broken m_brokenAt m_spot m_here m_token m_value m_bumpAt m_bumpIn m_bumpOf m_waited m_keptOut m_visited m_seenMany m_drawn m_torn m_state m_locks m_waits m_readPage m_readLocks m_tape m_cuts m_letters m_place m_left m_hasSeen m_homeAt m_places m_seen m_wouldBe m_isKept m_lanes m_lengths m_cells sh  hI
  obtain ⟨hB, hT, hL, htp, hft, hsm, htr, hw, hcu, hle, hlk, bok, pok, lok, aok, im0, im1, kok, tok, sok, hsh⟩ := hI
  subst hB hT hL htp hft hsm htr
  exact ⟨rfl, ⟨rfl, rfl, rfl, rfl, rfl, rfl, rfl, hw, hcu, hle, hlk, bok, pok, lok, aok, im0, im1, kok, tok, sok, hsh⟩⟩
theorem sok_torn : SOK_torn Inv := by
  intro kept locks seenMany bumpMinute bumpBlock bumpTrains waited keptOut used taped fault costSum safeSum allWays torn n_blocks n_guarded n_trains n_omen n_train t_blocks t_guarded t_trains t_omen t_train i0_blocks i0_guarded i0_trains i0_omen i0_train i1_blocks i1_guarded i1_trains i1_omen i1_train lockA seenA whr homes isSeen leftA were tape would m_blocks m_trainMany m_lockMany m_readBlocks m_readTrains m_readLockMany m_blocksTold m_omensTold m_highBlock m_taped m_fault m_broken m_brokenAt m_spot m_here m_token m_value m_bumpAt m_bumpIn m_bumpOf m_waited m_keptOut m_visited m_seenMany m_drawn m_torn m_state m_locks m_waits m_readPage m_readLocks m_tape m_cuts m_letters m_place m_left m_hasSeen m_homeAt m_places m_seen m_wouldBe m_isKept m_lanes m_lengths m_cells sh  hI
  obtain ⟨hB, hT, hL, htp, hft, hsm, htr, hw, hcu, hle, hlk, bok, pok, lok, aok, im0, im1, kok, tok, sok, hsh⟩ := hI
  subst hB hT hL htp hft hsm htr
  exact ⟨rfl, ⟨rfl, rfl, rfl, rfl, rfl, rfl, rfl, hw, hcu, hle, hlk, bok, pok, lok, aok, im0, im1, kok, tok, sok, hsh⟩⟩
