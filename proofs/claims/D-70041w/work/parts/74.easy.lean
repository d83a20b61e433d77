set_option maxRecDepth 100000
theorem pg_g {st om tr : Nat → Int32} {G v : Int32} (h : pgOK st 0 G om tr) : pgOK (upd st 8 v) 0 v om tr := ⟨fun b hb => by rw [upd_ne _ _ (by omega)]; exact h.1 b hb, upd_eq _ _ _, fun t ht w hw => by rw [upd_ne _ _ (by omega)]; exact h.2.2 t ht w hw⟩
theorem i119 : (119 : Int64).toInt = 119 := by decide
theorem mul3_i {x : Int32} (h1 : 0 ≤ x.toInt) (h2 : x.toInt ≤ 6) : ((3 : Int32) * x).toInt = 3 * x.toInt := by rw [mul_i (by rw [i3]; omega) (by rw [i3]; omega), i3]
theorem sn_put {n B T a1 b1 c1 : Int32} {a b : Nat → Int32} {k : Nat} (hk : n.toInt = k) (h6 : k < 6) (h : snOK n B T a b) (h1 : 0 ≤ a1.toInt ∧ a1.toInt < T.toInt) (h2 : 0 ≤ b1.toInt ∧ b1.toInt < 120) : snOK (n + (1 : Int32)) B T (upd (upd (upd a (3 * k) a1) (3 * k + 1) b1) (3 * k + 2) c1) (upd (upd (upd b (3 * k) a1) (3 * k + 1) b1) (3 * k + 2) c1) := by
  have h7 : (n + (1 : Int32)).toInt = n.toInt + 1 := by rw [add_i (by rw [i1]; omega) (by rw [i1]; omega), i1]
  refine ⟨by omega, by omega, fun j hj => ?_⟩
  by_cases e : j = k
  · subst e
    simp only [upd_eq, upd_ne _ _ (show 3 * j ≠ 3 * j + 2 by omega), upd_ne _ _ (show 3 * j ≠ 3 * j + 1 by omega), upd_ne _ _ (show 3 * j + 1 ≠ 3 * j + 2 by omega)]
    exact ⟨⟨trivial, h1⟩, ⟨trivial, h2⟩, trivial⟩
  · have h8 := h.2.2 j (by omega)
    simp only [upd_ne _ _ (show 3 * j ≠ 3 * k + 2 by omega), upd_ne _ _ (show 3 * j ≠ 3 * k + 1 by omega), upd_ne _ _ (show 3 * j ≠ 3 * k by omega), upd_ne _ _ (show 3 * j + 1 ≠ 3 * k + 2 by omega), upd_ne _ _ (show 3 * j + 1 ≠ 3 * k + 1 by omega), upd_ne _ _ (show 3 * j + 1 ≠ 3 * k by omega), upd_ne _ _ (show 3 * j + 2 ≠ 3 * k + 2 by omega), upd_ne _ _ (show 3 * j + 2 ≠ 3 * k + 1 by omega), upd_ne _ _ (show 3 * j + 2 ≠ 3 * k by omega)]
    exact h8
theorem or_andn (a b : Int32) : (a ||| b) = (a &&& (b ^^^ (-1 : Int32))) ||| b := by
  have h : ∀ x y : BitVec 32, (x ||| y) = (x &&& (y ^^^ (-1#32))) ||| y := fun x y => by
    rw [show (-1#32 : BitVec 32) = BitVec.allOnes 32 from by decide]
    ext i hi
    simp only [BitVec.getElem_or, BitVec.getElem_and, BitVec.getElem_xor, BitVec.getElem_allOnes]
    cases x[i] <;> cases y[i] <;> rfl
  have h2 := h a.toBitVec b.toBitVec
  exact Int32.toBitVec_inj.mp h2
theorem sok_guard : SOK_guard Inv := by
  intro kept locks seenMany bumpMinute bumpBlock bumpTrains waited keptOut used taped fault costSum safeSum allWays torn n_blocks n_guarded n_trains n_omen n_train t_blocks t_guarded t_trains t_omen t_train i0_blocks i0_guarded i0_trains i0_omen i0_train i1_blocks i1_guarded i1_trains i1_omen i1_train lockA seenA whr homes isSeen leftA were tape would m_blocks m_trainMany m_lockMany m_readBlocks m_readTrains m_readLockMany m_blocksTold m_omensTold m_highBlock m_taped m_fault m_broken m_brokenAt m_spot m_here m_token m_value m_bumpAt m_bumpIn m_bumpOf m_waited m_keptOut m_visited m_seenMany m_drawn m_torn m_state m_locks m_waits m_readPage m_readLocks m_tape m_cuts m_letters m_place m_left m_hasSeen m_homeAt m_places m_seen m_wouldBe m_isKept m_lanes m_lengths m_cells sh x1 x2 hI hz2
  obtain ⟨hB, hT, hL, htp, hft, hsm, htr, hw, hcu, hle, hlk, bok, pok, lok, aok, im0, im1, kok, tok, sok, hsh⟩ := hI
  subst hB hT hL htp hft hsm htr
  unfold C_guard M_guard
  have hg : m_state (8 : Int32).toNatClampNeg = n_guarded := pok.2.1
  rw [show M_isBlock_e m_blocks x1 = C_isBlock_e m_blocks x1 from rfl, hg]
  refine ⟨fun c => ⟨fun _ => ⟨rfl, ⟨rfl, rfl, rfl, rfl, rfl, rfl, rfl, hw, hcu, hle, hlk, bok, pok, lok, aok, im0, im1, kok, tok, sok, hsh⟩⟩, fun c2 => absurd c c2⟩, fun c => ⟨fun c2 => absurd c2 c, fun _ => ⟨rfl, ?_⟩⟩⟩
  have hv : (if x2 = 0 then (n_guarded &&& (((1 : Int32) <<< (x1 &&& 31)) ^^^ (-1 : Int32))) else (n_guarded ||| ((1 : Int32) <<< (x1 &&& 31)))) = (n_guarded &&& (((1 : Int32) <<< (x1 &&& 31)) ^^^ (-1 : Int32))) ||| (if x2 = 0 then (0 : Int32) else ((1 : Int32) <<< (x1 &&& 31))) := by
    by_cases c0 : x2 = 0
    · rw [if_pos c0, if_pos c0, Int32.or_zero]
    · rw [if_neg c0, if_neg c0]
      exact or_andn _ _
  rw [hv]
  exact ⟨rfl, rfl, rfl, rfl, rfl, rfl, rfl, hw, hcu, hle, hlk, bok, pg_g pok, lok, aok, im_out (by decide) im0, im_out (by decide) im1, kok, tok, sok, hsh⟩
theorem see_J {n : Int32} {a : Nat → Int32} {x1 x2 x3 : Int32} {P R : Int32 → Int32 → (Nat → Int32) → Prop} (h : C_see_J31 n a x1 x2 x3 P) (hPR : ∀ {r m b}, P r m b → R r m b) : C_see_J31 n a x1 x2 x3 R := ⟨fun c => hPR (h.1 c), fun c => ⟨(h.2 c).1, (h.2 c).2.1, (h.2 c).2.2.1, hPR (h.2 c).2.2.2⟩⟩
theorem sok_see : SOK_see Inv := by
  intro kept locks seenMany bumpMinute bumpBlock bumpTrains waited keptOut used taped fault costSum safeSum allWays torn n_blocks n_guarded n_trains n_omen n_train t_blocks t_guarded t_trains t_omen t_train i0_blocks i0_guarded i0_trains i0_omen i0_train i1_blocks i1_guarded i1_trains i1_omen i1_train lockA seenA whr homes isSeen leftA were tape would m_blocks m_trainMany m_lockMany m_readBlocks m_readTrains m_readLockMany m_blocksTold m_omensTold m_highBlock m_taped m_fault m_broken m_brokenAt m_spot m_here m_token m_value m_bumpAt m_bumpIn m_bumpOf m_waited m_keptOut m_visited m_seenMany m_drawn m_torn m_state m_locks m_waits m_readPage m_readLocks m_tape m_cuts m_letters m_place m_left m_hasSeen m_homeAt m_places m_seen m_wouldBe m_isKept m_lanes m_lengths m_cells sh x1 x2 x3 hI
  obtain ⟨hB, hT, hL, htp, hft, hsm, htr, hw, hcu, hle, hlk, bok, pok, lok, aok, im0, im1, kok, tok, sok, hsh⟩ := hI
  subst hB hT hL htp hft hsm htr
  have hJ : 0 ≤ x1.toInt ∧ x1.toInt < m_trainMany.toInt → 0 ≤ x2.toInt ∧ x2.toInt ≤ 119 → (x3 = (-4 : Int32) ∨ (0 ≤ x3.toInt ∧ x3.toInt < m_blocks.toInt)) → ∀ (Q : Int32 → Int32 → (Nat → Int32) → Int32 → Int32 → (Nat → Int32) → Prop), (Q (-3) m_seenMany seenA (-3) m_seenMany m_seen) → (∀ (a b : Nat → Int32) (n : Int32), snOK n m_blocks m_trainMany a b → Q n n a n n b) → C_see_J31 m_seenMany seenA x1 x2 x3 (fun ro n a => M_see_J36 m_seenMany m_seen x1 x2 x3 (fun rm n2 b => Q ro n a rm n2 b)) := by
    intro h1 h2 h3 Q q1 q2
    have h4 := sok.1
    have h5 := sok.2.1
    have h6 := bok.2.2.2.1
    have h7 := bok.2.1
    have h8 := mul3_i h4 h5
    unfold C_see_J31 M_see_J36
    refine ⟨fun c => ⟨fun _ => q1, fun c2 => absurd c c2⟩, fun c => ?_⟩
    have h9 : m_seenMany.toInt ≠ 6 := fun h => c (Int32.toInt_inj.mp (by rw [h]; decide))
    have e1 : ((3 : Int32) * m_seenMany + (1 : Int32)).toInt = 3 * m_seenMany.toInt + 1 := by rw [add_i (by rw [h8, i1]; omega) (by rw [h8, i1]; omega), h8, i1]
    have e2 : ((3 : Int32) * m_seenMany + (2 : Int32)).toInt = 3 * m_seenMany.toInt + 2 := by rw [add_i (by rw [h8, i2]; omega) (by rw [h8, i2]; omega), h8, i2]
    have v0 : vp_in ((3 : Int32) * m_seenMany) 18 := vp_of (by omega) (by omega)
    have v1 : vp_in ((3 : Int32) * m_seenMany + (1 : Int32)) 18 := vp_of (by omega) (by omega)
    have v2 : vp_in ((3 : Int32) * m_seenMany + (2 : Int32)) 18 := vp_of (by omega) (by omega)
    refine ⟨v0, v1, v2, fun c2 => absurd c2 c, fun _ => ⟨v0, v1, v2, ?_⟩⟩
    have n0 : ((3 : Int32) * m_seenMany).toNatClampNeg = 3 * m_seenMany.toInt.toNat := by rw [cl_of, h8]; omega
    have n1 : ((3 : Int32) * m_seenMany + (1 : Int32)).toNatClampNeg = 3 * m_seenMany.toInt.toNat + 1 := by rw [cl_of, e1]; omega
    have n2 : ((3 : Int32) * m_seenMany + (2 : Int32)).toNatClampNeg = 3 * m_seenMany.toInt.toNat + 2 := by rw [cl_of, e2]; omega
    have h10 : -128 ≤ x3.toInt ∧ x3.toInt ≤ 127 := by
      rcases h3 with rfl | h3
      · decide
      · omega
    rw [nb_id (by omega) (by omega), nb_id (by omega) (by omega), nb_id h10.1 h10.2, n0, n1, n2]
    exact q2 _ _ _ (sn_put (by omega) (by omega) sok h1 ⟨h2.1, by omega⟩)
  unfold C_see M_see
  rw [show M_isTrain_e m_trainMany x1 = C_isTrain_e m_trainMany x1 from rfl, show M_isBlock_e m_blocks x3 = C_isBlock_e m_blocks x3 from rfl, Min_C, show C_isMinute_e x2 = C_in_e x2.toInt64 (0 : Int64) (119 : Int64) from rfl]
  refine ⟨fun c => ⟨fun _ => ⟨rfl, ⟨rfl, rfl, rfl, rfl, rfl, rfl, rfl, hw, hcu, hle, hlk, bok, pok, lok, aok, im0, im1, kok, tok, sok, hsh⟩⟩, fun c2 => absurd c c2⟩, fun c => ⟨fun c2 => ⟨fun c3 => absurd c3 c, fun _ => ⟨fun _ => ⟨rfl, ⟨rfl, rfl, rfl, rfl, rfl, rfl, rfl, hw, hcu, hle, hlk, bok, pok, lok, aok, im0, im1, kok, tok, sok, hsh⟩⟩, fun c3 => absurd c2 c3⟩⟩, fun c2 => ?_⟩⟩
  have h1 := tr_in bok.2.2.2.1 bok.2.2.1 c
  have h2 := in32c c2
  rw [z64, i119] at h2
  refine ⟨fun c3 => ?_, fun c3 => ⟨fun c4 => ⟨fun c5 => absurd c5 c, fun _ => ⟨fun c5 => absurd c5 c2, fun _ => ⟨fun c5 => absurd c5 c3, fun _ => ⟨fun _ => ⟨rfl, ⟨rfl, rfl, rfl, rfl, rfl, rfl, rfl, hw, hcu, hle, hlk, bok, pok, lok, aok, im0, im1, kok, tok, sok, hsh⟩⟩, fun c5 => absurd c4 c5⟩⟩⟩⟩, fun c4 => ?_⟩⟩
  · refine see_J (hJ h1 h2 (Or.inl c3) (fun ro n a rm n2 b => ro = rm ∧ Inv kept m_lockMany n m_taped m_fault m_torn m_blocks n_guarded m_trainMany n_omen n_train i0_blocks i0_guarded i0_trains i0_omen i0_train i1_blocks i1_guarded i1_trains i1_omen i1_train lockA a tape sh m_blocks m_trainMany m_lockMany m_taped m_fault n2 m_torn m_state m_locks m_waits m_tape m_cuts m_letters b m_isKept m_lanes m_lengths m_cells) ⟨rfl, ⟨rfl, rfl, rfl, rfl, rfl, rfl, rfl, hw, hcu, hle, hlk, bok, pok, lok, aok, im0, im1, kok, tok, sok, hsh⟩⟩ (fun a b n h => ⟨rfl, ⟨rfl, rfl, rfl, rfl, rfl, rfl, rfl, hw, hcu, hle, hlk, bok, pok, lok, aok, im0, im1, kok, tok, h, hsh⟩⟩)) (fun q => ⟨fun c5 => absurd c5 c, fun _ => ⟨fun c5 => absurd c5 c2, fun _ => ⟨fun _ => q, fun c5 => absurd c3 c5⟩⟩⟩)
  · refine see_J (hJ h1 h2 (Or.inr (bl_in bok.2.1 bok.1 c4)) (fun ro n a rm n2 b => ro = rm ∧ Inv kept m_lockMany n m_taped m_fault m_torn m_blocks n_guarded m_trainMany n_omen n_train i0_blocks i0_guarded i0_trains i0_omen i0_train i1_blocks i1_guarded i1_trains i1_omen i1_train lockA a tape sh m_blocks m_trainMany m_lockMany m_taped m_fault n2 m_torn m_state m_locks m_waits m_tape m_cuts m_letters b m_isKept m_lanes m_lengths m_cells) ⟨rfl, ⟨rfl, rfl, rfl, rfl, rfl, rfl, rfl, hw, hcu, hle, hlk, bok, pok, lok, aok, im0, im1, kok, tok, sok, hsh⟩⟩ (fun a b n h => ⟨rfl, ⟨rfl, rfl, rfl, rfl, rfl, rfl, rfl, hw, hcu, hle, hlk, bok, pok, lok, aok, im0, im1, kok, tok, h, hsh⟩⟩)) (fun q => ⟨fun c5 => absurd c5 c, fun _ => ⟨fun c5 => absurd c5 c2, fun _ => ⟨fun c5 => absurd c5 c3, fun _ => ⟨fun c5 => absurd c5 c4, fun _ => q⟩⟩⟩⟩)
