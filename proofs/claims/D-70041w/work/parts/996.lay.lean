set_option maxRecDepth 100000
theorem ti_c (x : Int32) : x.toInt = if 2 * x.toBitVec.toNat < 2 ^ 32 then (x.toBitVec.toNat : Int) else (x.toBitVec.toNat : Int) - (2 ^ 32 : Nat) := BitVec.toInt_eq_toNat_cond _
theorem sh_8 (x : Int32) : (x <<< ((24 : Int32) &&& 31)) >>> ((24 : Int32) &&& 31) = x.toInt8.toInt32 := by
  rw [← Int32.toInt_inj, pk_shr _ ((24 : Int32) &&& 31) 24 (by decide), Int8.toInt_toInt32, Int32.toInt_toInt8, Int.shiftRight_eq_div_pow]
  have h1 := pk_shl x ((24 : Int32) &&& 31) 24 (by decide)
  have h2 := ti_c (x <<< ((24 : Int32) &&& 31))
  have h3 := ti_c x
  rw [h1] at h2
  rw [h2, h3, Int.bmod_def]
  have hl := x.toBitVec.isLt
  clear h1 h2 h3
  generalize x.toBitVec.toNat = X at *
  have e : X * 2 ^ 24 % 2 ^ 32 = X % 256 * 16777216 := by omega
  rw [e]
  by_cases a : 2 * (X % 256 * 16777216) < 2 ^ 32
  · rw [if_pos a]
    by_cases b : 2 * X < 2 ^ 32
    · rw [if_pos b]
      omega
    · rw [if_neg b]
      omega
  · rw [if_neg a]
    by_cases b : 2 * X < 2 ^ 32
    · rw [if_pos b]
      omega
    · rw [if_neg b]
      omega
theorem sh_16 (x : Int32) : (x <<< ((16 : Int32) &&& 31)) >>> ((16 : Int32) &&& 31) = x.toInt16.toInt32 := by
  rw [← Int32.toInt_inj, pk_shr _ ((16 : Int32) &&& 31) 16 (by decide), Int16.toInt_toInt32, Int32.toInt_toInt16, Int.shiftRight_eq_div_pow]
  have h1 := pk_shl x ((16 : Int32) &&& 31) 16 (by decide)
  have h2 := ti_c (x <<< ((16 : Int32) &&& 31))
  have h3 := ti_c x
  rw [h1] at h2
  rw [h2, h3, Int.bmod_def]
  have hl := x.toBitVec.isLt
  clear h1 h2 h3
  generalize x.toBitVec.toNat = X at *
  have e : X * 2 ^ 16 % 2 ^ 32 = X % 65536 * 65536 := by omega
  rw [e]
  by_cases a : 2 * (X % 65536 * 65536) < 2 ^ 32
  · rw [if_pos a]
    by_cases b : 2 * X < 2 ^ 32
    · rw [if_pos b]
      omega
    · rw [if_neg b]
      omega
  · rw [if_neg a]
    by_cases b : 2 * X < 2 ^ 32
    · rw [if_pos b]
      omega
    · rw [if_neg b]
      omega
theorem lay_v {t : Nat} (ht : t = 2 ∨ t = 3 ∨ t = 0) (x : Int32) : (if t = 2 then vp_nar .byte (x.toInt8.toInt32) else if t = 3 then vp_nar .short (x.toInt16.toInt32) else x) = (if lnN t = 0 then ((x <<< ((24 : Int32) &&& 31)) >>> ((24 : Int32) &&& 31)) else (if lnN t = (1 : Int32) then ((x <<< ((16 : Int32) &&& 31)) >>> ((16 : Int32) &&& 31)) else x)) := by
  rw [sh_8, sh_16]
  have e1 : vp_nar .byte (x.toInt8.toInt32) = x.toInt8.toInt32 := pk_vb x
  have e2 : vp_nar .short (x.toInt16.toInt32) = x.toInt16.toInt32 := pk_vs x
  rw [e1, e2]
  rcases ht with rfl | rfl | rfl
  · rfl
  · rfl
  · rfl
theorem ln_in {n : Nat} (hn : n ≤ 40) (x : Int32) : C_in_e x.toInt64 (0 : Int64) ((nI n - (1 : Int32))).toInt64 = 0 ↔ ¬ vp_in x n := by
  rw [in_iff, vp_in_iff, Int32.toInt_toInt64, Int32.toInt_toInt64, z64, sub_i (by rw [nI_toInt (by omega), i1]; omega) (by rw [nI_toInt (by omega), i1]; omega), nI_toInt (by omega), i1]
  omega
theorem sok_lay : SOK_lay Inv := by
  intro kept locks seenMany bumpMinute bumpBlock bumpTrains waited keptOut used taped fault costSum safeSum allWays torn n_blocks n_guarded n_trains n_omen n_train t_blocks t_guarded t_trains t_omen t_train i0_blocks i0_guarded i0_trains i0_omen i0_train i1_blocks i1_guarded i1_trains i1_omen i1_train lockA seenA whr homes isSeen leftA were tape would m_blocks m_trainMany m_lockMany m_readBlocks m_readTrains m_readLockMany m_blocksTold m_omensTold m_highBlock m_taped m_fault m_broken m_brokenAt m_spot m_here m_token m_value m_bumpAt m_bumpIn m_bumpOf m_waited m_keptOut m_visited m_seenMany m_drawn m_torn m_state m_locks m_waits m_readPage m_readLocks m_tape m_cuts m_letters m_place m_left m_hasSeen m_homeAt m_places m_seen m_wouldBe m_isKept m_lanes m_lengths m_cells sh x1 x2 x3 hI
  obtain ⟨hB, hT, hL, htp, hft, hsm, htr, hw, hcu, hle, hlk, bok, pok, lok, aok, im0, im1, kok, tok, sok, hsh⟩ := hI
  subst hB hT hL htp hft hsm htr
  unfold C_lay M_lay
  rw [Min_C]
  refine ⟨fun c => ⟨fun _ => ⟨rfl, ⟨rfl, rfl, rfl, rfl, rfl, rfl, rfl, hw, hcu, hle, hlk, bok, pok, lok, aok, im0, im1, kok, tok, sok, hsh⟩⟩, fun c2 => absurd c c2⟩, fun c => ?_⟩
  obtain ⟨k, -, hk3, rfl⟩ := in_ix (a := 0) (b := 3) (by decide) (by decide) c
  have v4 : vp_in (nI k) 4 := vp_in_nI (by omega) (by omega)
  have cc : (nI k).toNatClampNeg = k := nI_clamp (by omega)
  have h0 := hsh k (by omega)
  rw [cc]
  refine ⟨v4, fun t n f hs => ?_, fun hs => ?_⟩
  · rw [hs] at h0
    obtain ⟨ht, hn, hl, hlen, hce⟩ := h0
    have e4 : (40 : Int32) * nI k = nI (40 * k) := pk_mul 40 k
    rw [hl, hlen, Min_C]
    refine ⟨fun hv => ⟨fun c2 => absurd c2 c, fun _ => ⟨v4, fun c2 => absurd c2 lnN_n, fun _ => ⟨v4, fun c2 => absurd hv ((ln_in hn x2).mp c2), fun _ => ⟨v4, fun _ => v4, ?_⟩⟩⟩⟩, fun hv => ⟨fun c2 => absurd c2 c, fun _ => ⟨v4, fun c2 => absurd c2 lnN_n, fun _ => ⟨v4, fun _ => ⟨rfl, ⟨rfl, rfl, rfl, rfl, rfl, rfl, rfl, hw, hcu, hle, hlk, bok, pok, lok, aok, im0, im1, kok, tok, sok, hsh⟩⟩, fun c2 => absurd ((ln_in hn x2).mpr hv) c2⟩⟩⟩⟩
    obtain ⟨i, hi, rfl⟩ := vp_in_of hv (by omega)
    rw [e4, ad_c (by omega), nI_clamp (n := i) (by omega), lay_v ht x3]
    refine ⟨ad_v (by omega) (by omega), rfl, ?_⟩
    generalize (if lnN t = 0 then ((x3 <<< ((24 : Int32) &&& 31)) >>> ((24 : Int32) &&& 31)) else (if lnN t = (1 : Int32) then ((x3 <<< ((16 : Int32) &&& 31)) >>> ((16 : Int32) &&& 31)) else x3)) = v
    have hsh2 : shOK (shSet sh k (some (t, n, upd f i v))) m_lanes m_lengths (upd m_cells (40 * k + i) v) := by
      intro j hj
      by_cases e : j = k
      · rw [e]
        have e1 : shSet sh k (some (t, n, upd f i v)) k = some (t, n, upd f i v) := if_pos rfl
        rw [e1]
        refine ⟨ht, hn, hl, hlen, fun x hx => ?_⟩
        by_cases e2 : x = i
        · rw [e2, upd_eq, upd_eq]
        · rw [upd_ne _ _ e2, upd_ne _ _ (by omega)]
          exact hce x hx
      · have e1 : shSet sh k (some (t, n, upd f i v)) j = sh j := if_neg e
        rw [e1]
        have h1 := hsh j hj
        cases hs1 : sh j with
        | none =>
          rw [hs1] at h1
          exact h1
        | some y =>
          obtain ⟨t1, n1, f1⟩ := y
          rw [hs1] at h1
          refine ⟨h1.1, h1.2.1, h1.2.2.1, h1.2.2.2.1, fun x hx => ?_⟩
          have hn1 := h1.2.1
          rw [upd_ne _ _ (by omega)]
          exact h1.2.2.2.2 x hx
    exact ⟨rfl, rfl, rfl, rfl, rfl, rfl, rfl, hw, hcu, hle, hlk, bok, pok, lok, aok, im0, im1, kok, tok, sok, hsh2⟩
  · rw [hs] at h0
    exact ⟨fun c2 => absurd c2 c, fun _ => ⟨v4, fun _ => ⟨rfl, ⟨rfl, rfl, rfl, rfl, rfl, rfl, rfl, hw, hcu, hle, hlk, bok, pok, lok, aok, im0, im1, kok, tok, sok, hsh⟩⟩, fun c2 => absurd h0 c2⟩⟩
