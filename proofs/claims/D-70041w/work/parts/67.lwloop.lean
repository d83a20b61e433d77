set_option maxRecDepth 100000
def R_law : String := "OmenLineLaw"
def lw_P (b : Addr) (xs : List Int32) (args : Array Value) (s : State) : Prop := args = #[.ref b] ∧ s.IntsAt b xs ∧ xs.length ≤ 320 ∧ (Jvm.Cond.and given_1 narrow_1).before args s = true ∧ modulesRight_1 s = true
def lw_Q (_ : Array Value) (s : State) (o : Outcome) (t : State) : Prop := o = .returned (some (.int 1)) ∧ Framed s o t [] 603072 7262314
def lw_Z (below : List Frame) (a : Array Value) (s : State) : State → Prop := fun t => ∃ o, t.status = .running ∧ Ended t below o ∧ lw_Q a s o t
/-- the law's own end, with 1 on the stack, nothing written that was there before, its room as the claim has it -/
theorem lw_ret {p : Program} {l : Launch} {e : Env} {s : State} {m : MethodId} {below : List Frame} {meth : Method} {c : Code} {b : Nat} (hx : p.tables.exec = Jvm.exec) (hb : c.code = code) (hr : meth.sig.returnType = ret) (hlocks : meth.locks = false) {pc : Nat} {H : Heap} {ls : Array Slot} (hdg : decode code pc = .ok (.ireturn, 1)) : W p l e room_1 s m #[Value.ref b] below meth c H [] 603072 7262314 (lw_Z below #[Value.ref b] s) (F0 m pc ls [.int 1]) := by
  intro T hT X
  obtain ⟨fs, hret, hrun, hended, hW, hframe⟩ := X.leave (v := some (.int 1)) (hlocks := hlocks) (fun h => by rw [hr] at h; cases h)
  have hmeth' : T.vm.method? m = some meth := X.method'
  refine ⟨T.setFrames fs, ?_, .returned (some (.int 1)), hrun, hended, rfl, ⟨_, rfl⟩, hW, hframe⟩
  jvm_step X.here [X.here.top, hx, hb, hdg, hmeth', hr, ret, narrow_b1]
  (try refine ⟨rfl, ?_⟩); (try refine ⟨rfl, ?_⟩)
  first | (intro acts; rw [hret _ acts rfl rfl rfl]) | rw [hret _ _ rfl rfl rfl]
  exact Steps.refl _
/-- what holds at the law's entry: the machine, the code, the tables' words (any of lw_tbl by 'hts w (by decide +kernel)'), the script of L ints xs at the cell b, what the Statement gives of the start (any of its parts by flat_of_before), and the start's premise that stands beside rest_1's words -/
def lw_At (p : Program) (s : State) (m : MethodId) (meth : Method) (c : Code) (b L : Nat) (xs : Nat → Int32) : Prop :=
  p.tables.exec = Jvm.exec ∧ c.code = code ∧ meth.sig.returnType = ret ∧ c.maxLocals = 4 ∧ s.vm.findClass R_law = some m.cls ∧ (∀ w ∈ lw_tbl, w.before #[Value.ref b] s = true) ∧ va_X b L xs s s.heap ∧ b < s.heap.size ∧ meth.locks = false ∧ (Jvm.Cond.and given_1 narrow_1).before #[Value.ref b] s = true ∧ modulesRight_1 s = true
/-! the loop (own) -/
theorem sw_35 (x : Int32) : x = 0 ∨ x = 1 ∨ x = 2 ∨ x = 3 ∨ x = 4 ∨ x = 5 ∨ x = 6 ∨ x = 7 ∨ x = 8 ∨ x = 9 ∨ x = 10 ∨ x = 11 ∨ x = 12 ∨ x = 13 ∨ x = 14 ∨ x = 15 ∨ x = 16 ∨ x = 17 ∨ x = 18 ∨ x = 19 ∨ x = 20 ∨ x = 21 ∨ x = 22 ∨ x = 23 ∨ x = 24 ∨ x = 25 ∨ x = 26 ∨ x = 27 ∨ x = 28 ∨ x = 29 ∨ x = 30 ∨ x = 31 ∨ x = 32 ∨ x = 33 ∨ x = 34 ∨ x = 35 ∨ (x.toInt < 0 ∨ 35 < x.toInt) := by
  rcases sw_i x 35 (by decide) with h | ⟨j, hj, rfl⟩
  · refine Or.inr (Or.inr (Or.inr (Or.inr (Or.inr (Or.inr (Or.inr (Or.inr (Or.inr (Or.inr (Or.inr (Or.inr (Or.inr (Or.inr (Or.inr (Or.inr (Or.inr (Or.inr (Or.inr (Or.inr (Or.inr (Or.inr (Or.inr (Or.inr (Or.inr (Or.inr (Or.inr (Or.inr (Or.inr (Or.inr (Or.inr (Or.inr (Or.inr (Or.inr (Or.inr (Or.inr (?_)))))))))))))))))))))))))))))))))))); omega
  · have : j = 0 ∨ j = 1 ∨ j = 2 ∨ j = 3 ∨ j = 4 ∨ j = 5 ∨ j = 6 ∨ j = 7 ∨ j = 8 ∨ j = 9 ∨ j = 10 ∨ j = 11 ∨ j = 12 ∨ j = 13 ∨ j = 14 ∨ j = 15 ∨ j = 16 ∨ j = 17 ∨ j = 18 ∨ j = 19 ∨ j = 20 ∨ j = 21 ∨ j = 22 ∨ j = 23 ∨ j = 24 ∨ j = 25 ∨ j = 26 ∨ j = 27 ∨ j = 28 ∨ j = 29 ∨ j = 30 ∨ j = 31 ∨ j = 32 ∨ j = 33 ∨ j = 34 ∨ j = 35 := by omega
    rcases this with rfl | rfl | rfl | rfl | rfl | rfl | rfl | rfl | rfl | rfl | rfl | rfl | rfl | rfl | rfl | rfl | rfl | rfl | rfl | rfl | rfl | rfl | rfl | rfl | rfl | rfl | rfl | rfl | rfl | rfl | rfl | rfl | rfl | rfl | rfl | rfl <;> decide
theorem lw_more {j L : Nat} (hL : L ≤ 320) (hj : j ≤ 64) (c : ¬ (Int32.ofNat L - (5 : Int32)) < nI (5 * j)) : 5 * j + 5 ≤ L := by
  have h1 : (Int32.ofNat L).toInt = (L : Int) := nI_toInt (n := L) (by omega)
  have h2 : (nI (5 * j)).toInt = ((5 * j : Nat) : Int) := nI_toInt (by omega)
  rw [Int32.lt_iff_toInt_lt, Int32.toInt_sub, h1, h2, show (5 : Int32).toInt = 5 from by decide, Int.bmod_def] at c
  omega
theorem lw_ix {j L k : Nat} (hL : L ≤ 320) (h : 5 * j + 5 ≤ L) (hk : k < 5) : vp_in (nI (5 * j) + nI k) L := by
  rw [nI_add]
  exact vp_in_nI (by omega) (by omega)
def SOK (Inv : Int32 → Int32 → Int32 → Int32 → Int32 → Int32 → Int32 → Int32 → Int32 → (Nat → Int32) → (Nat → Int32) → Int32 → Int32 → Int32 → (Nat → Int32) → (Nat → Int32) → Int32 → Int32 → Int32 → (Nat → Int32) → (Nat → Int32) → (Nat → Int32) → (Nat → Int32) → (Nat → Int32) → Sh → Int32 → Int32 → Int32 → Int32 → Int32 → Int32 → Int32 → (Nat → Int32) → (Nat → Int32) → (Nat → Int32) → (Nat → Int32) → (Nat → Int32) → (Nat → Int32) → (Nat → Int32) → (Nat → Int32) → (Nat → Int32) → (Nat → Int32) → (Nat → Int32) → Prop) : Prop := SOK_feed Inv ∧ SOK_end Inv ∧ SOK_text Inv ∧ SOK_fault Inv ∧ SOK_rule Inv ∧ SOK_block Inv ∧ SOK_lock Inv ∧ SOK_train Inv ∧ SOK_waits Inv ∧ SOK_hang Inv ∧ SOK_guard Inv ∧ SOK_set Inv ∧ SOK_home Inv ∧ SOK_at Inv ∧ SOK_bump Inv ∧ SOK_sum Inv ∧ SOK_fewest Inv ∧ SOK_guards Inv ∧ SOK_magpies Inv ∧ SOK_starts Inv ∧ SOK_allowed Inv ∧ SOK_convert Inv ∧ SOK_mean Inv ∧ SOK_luck Inv ∧ SOK_see Inv ∧ SOK_forget Inv ∧ SOK_fits Inv ∧ SOK_look Inv ∧ SOK_drift Inv ∧ SOK_keep Inv ∧ SOK_back Inv ∧ SOK_sheet Inv ∧ SOK_lay Inv ∧ SOK_read Inv ∧ SOK_torn Inv ∧ SOK_count Inv
set_option maxHeartbeats 4000000 in
theorem law_loop {p : Program} {l : Launch} {e : Env} {s : State} {m : MethodId} {below : List Frame} {meth : Method} {c : Code} {D : va_G} {ca : Nat → ClassId} {A : Nat → Prop} {sk sv : Nat → Nat} {b L : Nat} {xs : Nat → Int32} {ad um : Nat → Nat} {Inv : Int32 → Int32 → Int32 → Int32 → Int32 → Int32 → Int32 → Int32 → Int32 → (Nat → Int32) → (Nat → Int32) → Int32 → Int32 → Int32 → (Nat → Int32) → (Nat → Int32) → Int32 → Int32 → Int32 → (Nat → Int32) → (Nat → Int32) → (Nat → Int32) → (Nat → Int32) → (Nat → Int32) → Sh → Int32 → Int32 → Int32 → Int32 → Int32 → Int32 → Int32 → (Nat → Int32) → (Nat → Int32) → (Nat → Int32) → (Nat → Int32) → (Nat → Int32) → (Nat → Int32) → (Nat → Int32) → (Nat → Int32) → (Nat → Int32) → (Nat → Int32) → (Nat → Int32) → Prop} (hst : l.stackTraces = false) (C : cx cL_law 4 ret "OmenLineLaw" D vwCl (tyL ca) A p c meth s m #[Value.ref b]) (hE : env sk sv A s s.heap) (hNC : ncE s) (hX : va_X b L xs s s.heap) (hbl : b < s.heap.size) (hbA : ¬ A b) (hL : L ≤ 320) (hA2 : ∀ q, A q → s.heap.size ≤ q) (hG : SOK Inv) : ∀ (n j : Nat), j + n = 64 → ∀ {kept : Int32} {locks : Int32} {seenMany : Int32} {bumpMinute : Int32} {bumpBlock : Int32} {bumpTrains : Int32} {waited : Int32} {keptOut : Int32} {used : Int32} {taped : Int32} {fault : Int32} {costSum : Int64} {safeSum : Int64} {allWays : Int64} {torn : Int32} {n_blocks : Int32} {n_guarded : Int32} {n_trains : Int32} {n_omen : Nat → Int32} {n_train : Nat → Int32} {t_blocks : Int32} {t_guarded : Int32} {t_trains : Int32} {t_omen : Nat → Int32} {t_train : Nat → Int32} {i0_blocks : Int32} {i0_guarded : Int32} {i0_trains : Int32} {i0_omen : Nat → Int32} {i0_train : Nat → Int32} {i1_blocks : Int32} {i1_guarded : Int32} {i1_trains : Int32} {i1_omen : Nat → Int32} {i1_train : Nat → Int32} {lockA : Nat → Int32} {seenA : Nat → Int32} {whr : Nat → Int32} {homes : Nat → Int32} {isSeen : Nat → Int32} {leftA : Nat → Int32} {were : Nat → Int32} {tape : Nat → Int32} {would : Nat → Int32} {m_blocks : Int32} {m_trainMany : Int32} {m_lockMany : Int32} {m_readBlocks : Int32} {m_readTrains : Int32} {m_readLockMany : Int32} {m_blocksTold : Int32} {m_omensTold : Int32} {m_highBlock : Int32} {m_taped : Int32} {m_fault : Int32} {m_broken : Int32} {m_brokenAt : Int32} {m_spot : Int32} {m_here : Int32} {m_token : Int32} {m_value : Int32} {m_bumpAt : Int32} {m_bumpIn : Int32} {m_bumpOf : Int32} {m_waited : Int32} {m_keptOut : Int32} {m_visited : Int32} {m_seenMany : Int32} {m_drawn : Int32} {m_torn : Int32} {m_state : Nat → Int32} {m_locks : Nat → Int32} {m_waits : Nat → Int32} {m_readPage : Nat → Int32} {m_readLocks : Nat → Int32} {m_tape : Nat → Int32} {m_cuts : Nat → Int32} {m_letters : Nat → Int32} {m_place : Nat → Int32} {m_left : Nat → Int32} {m_hasSeen : Nat → Int32} {m_homeAt : Nat → Int32} {m_places : Nat → Int32} {m_seen : Nat → Int32} {m_wouldBe : Nat → Int32} {m_isKept : Nat → Int32} {m_lanes : Nat → Int32} {m_lengths : Nat → Int32} {m_cells : Nat → Int32} {rw : Nat → Option Nat} {pl : va_W} {sh : Sh} {H : Heap} {locs : List Loc}, Inv kept locks seenMany taped fault torn n_blocks n_guarded n_trains n_omen n_train i0_blocks i0_guarded i0_trains i0_omen i0_train i1_blocks i1_guarded i1_trains i1_omen i1_train lockA seenA tape sh m_blocks m_trainMany m_lockMany m_taped m_fault m_seenMany m_torn m_state m_locks m_waits m_tape m_cuts m_letters m_seen m_isKept m_lanes m_lengths m_cells → RowsOK ca pl rw sh → va_P D vwCl ((mW um ca m_blocks m_trainMany m_lockMany m_readBlocks m_readTrains m_readLockMany m_blocksTold m_omensTold m_highBlock m_taped m_fault m_broken m_brokenAt m_spot m_here m_token m_value m_bumpAt m_bumpIn m_bumpOf m_waited m_keptOut m_visited m_seenMany m_drawn m_torn m_state m_locks m_waits m_readPage m_readLocks m_tape m_cuts m_letters m_place m_left m_hasSeen m_homeAt m_places m_seen m_wouldBe m_isKept m_lanes m_lengths m_cells) ++ ((oW ad ca kept locks seenMany bumpMinute bumpBlock bumpTrains waited keptOut used taped fault costSum safeSum allWays torn n_blocks n_guarded n_trains n_omen n_train t_blocks t_guarded t_trains t_omen t_train i0_blocks i0_guarded i0_trains i0_omen i0_train i1_blocks i1_guarded i1_trains i1_omen i1_train lockA seenA whr homes isSeen leftA were tape would (rw 0) (rw 1) (rw 2) (rw 3)) ++ pl)) H → va_D A ((mW um ca m_blocks m_trainMany m_lockMany m_readBlocks m_readTrains m_readLockMany m_blocksTold m_omensTold m_highBlock m_taped m_fault m_broken m_brokenAt m_spot m_here m_token m_value m_bumpAt m_bumpIn m_bumpOf m_waited m_keptOut m_visited m_seenMany m_drawn m_torn m_state m_locks m_waits m_readPage m_readLocks m_tape m_cuts m_letters m_place m_left m_hasSeen m_homeAt m_places m_seen m_wouldBe m_isKept m_lanes m_lengths m_cells) ++ ((oW ad ca kept locks seenMany bumpMinute bumpBlock bumpTrains waited keptOut used taped fault costSum safeSum allWays torn n_blocks n_guarded n_trains n_omen n_train t_blocks t_guarded t_trains t_omen t_train i0_blocks i0_guarded i0_trains i0_omen i0_train i1_blocks i1_guarded i1_trains i1_omen i1_train lockA seenA whr homes isSeen leftA were tape would (rw 0) (rw 1) (rw 2) (rw 3)) ++ pl)) → va_S A s.heap H locs → ∀ ls : Array Slot, lv_has ls 4 [(0, .ref b), (1, .ref (ad 0)), (2, .ref (um 0)), (3, .int (nI (5 * j)))] → W p l e room_1 s m #[Value.ref b] below meth c H locs (60 + 6 * j) (3000 + 1010 * j) (lw_Z below #[Value.ref b] s) (F0 m 18 ls []) := by
  have hx := C.1; have hb := C.2.1; have hr := C.2.2.1; have hlocks := C.2.2.2.1; have hml := C.2.2.2.2.1; have hown := C.2.2.2.2.2.1; have hts := C.2.2.2.2.2.2.1; have hn := C.2.2.2.2.2.2.2.1; have hK := C.2.2.2.2.2.2.2.2.1; have hA := C.2.2.2.2.2.2.2.2.2
  intro n
  induction n with
  | zero =>
    intro j hjn kept locks seenMany bumpMinute bumpBlock bumpTrains waited keptOut used taped fault costSum safeSum allWays torn n_blocks n_guarded n_trains n_omen n_train t_blocks t_guarded t_trains t_omen t_train i0_blocks i0_guarded i0_trains i0_omen i0_train i1_blocks i1_guarded i1_trains i1_omen i1_train lockA seenA whr homes isSeen leftA were tape would m_blocks m_trainMany m_lockMany m_readBlocks m_readTrains m_readLockMany m_blocksTold m_omensTold m_highBlock m_taped m_fault m_broken m_brokenAt m_spot m_here m_token m_value m_bumpAt m_bumpIn m_bumpOf m_waited m_keptOut m_visited m_seenMany m_drawn m_torn m_state m_locks m_waits m_readPage m_readLocks m_tape m_cuts m_letters m_place m_left m_hasSeen m_homeAt m_places m_seen m_wouldBe m_isKept m_lanes m_lengths m_cells rw pl sh H locs hI hR hP hD hS ls hl
    have hj : j ≤ 64 := by omega
    refine lv_iload_n hx hb dL_law_18 rfl (lv_at hl 3 rfl) ?_
    refine lv_aload_n hx hb dL_law_19 rfl (lv_at hl 0 rfl) ?_
    refine va_slen hx hb hX hbl hbA hS dL_law_20 ?_
    refine lv_iconst (v := 5) hx hb dL_law_21 (by decide) ?_
    refine lv_isub hx hb dL_law_22 ?_
    refine lv_icmp_gt (tgt := 1244) hx hb dL_law_23 (by decide) (fun cz => ?_) (fun cz => ?_)
    · refine lv_iconst (v := 1) hx hb dL_law_1244 (by decide) ?_
      refine va_forget (fun q hq => hA2 _ (hS.2.2 q hq)) ?_
      refine W.widen (k := 603072) (n := 7262314) (by omega) (by omega) ?_
      exact lw_ret hx hb hr hlocks dL_law_1245
    · exact absurd (lw_more hL hj cz) (by omega)
  | succ n ih =>
    intro j hjn kept locks seenMany bumpMinute bumpBlock bumpTrains waited keptOut used taped fault costSum safeSum allWays torn n_blocks n_guarded n_trains n_omen n_train t_blocks t_guarded t_trains t_omen t_train i0_blocks i0_guarded i0_trains i0_omen i0_train i1_blocks i1_guarded i1_trains i1_omen i1_train lockA seenA whr homes isSeen leftA were tape would m_blocks m_trainMany m_lockMany m_readBlocks m_readTrains m_readLockMany m_blocksTold m_omensTold m_highBlock m_taped m_fault m_broken m_brokenAt m_spot m_here m_token m_value m_bumpAt m_bumpIn m_bumpOf m_waited m_keptOut m_visited m_seenMany m_drawn m_torn m_state m_locks m_waits m_readPage m_readLocks m_tape m_cuts m_letters m_place m_left m_hasSeen m_homeAt m_places m_seen m_wouldBe m_isKept m_lanes m_lengths m_cells rw pl sh H locs hI hR hP hD hS ls hl
    have hj : j ≤ 64 := by omega
    refine lv_iload_n hx hb dL_law_18 rfl (lv_at hl 3 rfl) ?_
    refine lv_aload_n hx hb dL_law_19 rfl (lv_at hl 0 rfl) ?_
    refine va_slen hx hb hX hbl hbA hS dL_law_20 ?_
    refine lv_iconst (v := 5) hx hb dL_law_21 (by decide) ?_
    refine lv_isub hx hb dL_law_22 ?_
    refine lv_icmp_gt (tgt := 1244) hx hb dL_law_23 (by decide) (fun cz => ?_) (fun cz => ?_)
    · refine lv_iconst (v := 1) hx hb dL_law_1244 (by decide) ?_
      refine va_forget (fun q hq => hA2 _ (hS.2.2 q hq)) ?_
      refine W.widen (k := 603072) (n := 7262314) (by omega) (by omega) ?_
      exact lw_ret hx hb hr hlocks dL_law_1245
    · have hm := lw_more hL hj cz
      have hi : vp_in (nI (5 * j) + (1 : Int32)) L ∧ vp_in (nI (5 * j) + (2 : Int32)) L ∧ vp_in (nI (5 * j) + (3 : Int32)) L ∧ vp_in (nI (5 * j) + (4 : Int32)) L := ⟨lw_ix (k := 1) hL hm (by decide), lw_ix (k := 2) hL hm (by decide), lw_ix (k := 3) hL hm (by decide), lw_ix (k := 4) hL hm (by decide)⟩
      have K : ∀ {kept : Int32} {locks : Int32} {seenMany : Int32} {bumpMinute : Int32} {bumpBlock : Int32} {bumpTrains : Int32} {waited : Int32} {keptOut : Int32} {used : Int32} {taped : Int32} {fault : Int32} {costSum : Int64} {safeSum : Int64} {allWays : Int64} {torn : Int32} {n_blocks : Int32} {n_guarded : Int32} {n_trains : Int32} {n_omen : Nat → Int32} {n_train : Nat → Int32} {t_blocks : Int32} {t_guarded : Int32} {t_trains : Int32} {t_omen : Nat → Int32} {t_train : Nat → Int32} {i0_blocks : Int32} {i0_guarded : Int32} {i0_trains : Int32} {i0_omen : Nat → Int32} {i0_train : Nat → Int32} {i1_blocks : Int32} {i1_guarded : Int32} {i1_trains : Int32} {i1_omen : Nat → Int32} {i1_train : Nat → Int32} {lockA : Nat → Int32} {seenA : Nat → Int32} {whr : Nat → Int32} {homes : Nat → Int32} {isSeen : Nat → Int32} {leftA : Nat → Int32} {were : Nat → Int32} {tape : Nat → Int32} {would : Nat → Int32} {m_blocks : Int32} {m_trainMany : Int32} {m_lockMany : Int32} {m_readBlocks : Int32} {m_readTrains : Int32} {m_readLockMany : Int32} {m_blocksTold : Int32} {m_omensTold : Int32} {m_highBlock : Int32} {m_taped : Int32} {m_fault : Int32} {m_broken : Int32} {m_brokenAt : Int32} {m_spot : Int32} {m_here : Int32} {m_token : Int32} {m_value : Int32} {m_bumpAt : Int32} {m_bumpIn : Int32} {m_bumpOf : Int32} {m_waited : Int32} {m_keptOut : Int32} {m_visited : Int32} {m_seenMany : Int32} {m_drawn : Int32} {m_torn : Int32} {m_state : Nat → Int32} {m_locks : Nat → Int32} {m_waits : Nat → Int32} {m_readPage : Nat → Int32} {m_readLocks : Nat → Int32} {m_tape : Nat → Int32} {m_cuts : Nat → Int32} {m_letters : Nat → Int32} {m_place : Nat → Int32} {m_left : Nat → Int32} {m_hasSeen : Nat → Int32} {m_homeAt : Nat → Int32} {m_places : Nat → Int32} {m_seen : Nat → Int32} {m_wouldBe : Nat → Int32} {m_isKept : Nat → Int32} {m_lanes : Nat → Int32} {m_lengths : Nat → Int32} {m_cells : Nat → Int32} {rw : Nat → Option Nat} {pl : va_W} {sh : Sh} {H : Heap} {locs : List Loc}, Inv kept locks seenMany taped fault torn n_blocks n_guarded n_trains n_omen n_train i0_blocks i0_guarded i0_trains i0_omen i0_train i1_blocks i1_guarded i1_trains i1_omen i1_train lockA seenA tape sh m_blocks m_trainMany m_lockMany m_taped m_fault m_seenMany m_torn m_state m_locks m_waits m_tape m_cuts m_letters m_seen m_isKept m_lanes m_lengths m_cells → RowsOK ca pl rw sh → va_P D vwCl ((mW um ca m_blocks m_trainMany m_lockMany m_readBlocks m_readTrains m_readLockMany m_blocksTold m_omensTold m_highBlock m_taped m_fault m_broken m_brokenAt m_spot m_here m_token m_value m_bumpAt m_bumpIn m_bumpOf m_waited m_keptOut m_visited m_seenMany m_drawn m_torn m_state m_locks m_waits m_readPage m_readLocks m_tape m_cuts m_letters m_place m_left m_hasSeen m_homeAt m_places m_seen m_wouldBe m_isKept m_lanes m_lengths m_cells) ++ ((oW ad ca kept locks seenMany bumpMinute bumpBlock bumpTrains waited keptOut used taped fault costSum safeSum allWays torn n_blocks n_guarded n_trains n_omen n_train t_blocks t_guarded t_trains t_omen t_train i0_blocks i0_guarded i0_trains i0_omen i0_train i1_blocks i1_guarded i1_trains i1_omen i1_train lockA seenA whr homes isSeen leftA were tape would (rw 0) (rw 1) (rw 2) (rw 3)) ++ pl)) H → va_D A ((mW um ca m_blocks m_trainMany m_lockMany m_readBlocks m_readTrains m_readLockMany m_blocksTold m_omensTold m_highBlock m_taped m_fault m_broken m_brokenAt m_spot m_here m_token m_value m_bumpAt m_bumpIn m_bumpOf m_waited m_keptOut m_visited m_seenMany m_drawn m_torn m_state m_locks m_waits m_readPage m_readLocks m_tape m_cuts m_letters m_place m_left m_hasSeen m_homeAt m_places m_seen m_wouldBe m_isKept m_lanes m_lengths m_cells) ++ ((oW ad ca kept locks seenMany bumpMinute bumpBlock bumpTrains waited keptOut used taped fault costSum safeSum allWays torn n_blocks n_guarded n_trains n_omen n_train t_blocks t_guarded t_trains t_omen t_train i0_blocks i0_guarded i0_trains i0_omen i0_train i1_blocks i1_guarded i1_trains i1_omen i1_train lockA seenA whr homes isSeen leftA were tape would (rw 0) (rw 1) (rw 2) (rw 3)) ++ pl)) → va_S A s.heap H locs → W p l e room_1 s m #[Value.ref b] below meth c H locs (60 + 6 * j + 6) (3000 + 1010 * j + 1010) (lw_Z below #[Value.ref b] s) (F0 m 1238 ls []) := by
        intro kept locks seenMany bumpMinute bumpBlock bumpTrains waited keptOut used taped fault costSum safeSum allWays torn n_blocks n_guarded n_trains n_omen n_train t_blocks t_guarded t_trains t_omen t_train i0_blocks i0_guarded i0_trains i0_omen i0_train i1_blocks i1_guarded i1_trains i1_omen i1_train lockA seenA whr homes isSeen leftA were tape would m_blocks m_trainMany m_lockMany m_readBlocks m_readTrains m_readLockMany m_blocksTold m_omensTold m_highBlock m_taped m_fault m_broken m_brokenAt m_spot m_here m_token m_value m_bumpAt m_bumpIn m_bumpOf m_waited m_keptOut m_visited m_seenMany m_drawn m_torn m_state m_locks m_waits m_readPage m_readLocks m_tape m_cuts m_letters m_place m_left m_hasSeen m_homeAt m_places m_seen m_wouldBe m_isKept m_lanes m_lengths m_cells rw pl sh H locs hI hR hP hD hS
        refine lv_iinc (v := nI (5 * (j + 1))) (lv' := [(3, .int (nI (5 * (j + 1)))), (0, .ref b), (1, .ref (ad 0)), (2, .ref (um 0))]) hx hb dL_law_1238 hl (k := 3) rfl (by rw [show 5 * (j + 1) = 5 * j + 5 from by omega, ← nI_add]; rfl) (by decide) rfl (fun ls hl => ?_)
        refine lv_goto (tgt := 18) hx hb dL_law_1241 (by decide) ?_
        exact ih (j + 1) (by omega) hI hR hP hD hS ls (lv_sub hl [1, 2, 3, 0] rfl)
      refine lv_aload_n hx hb dL_law_26 rfl (lv_at hl 0 rfl) ?_
      refine lv_iload_n hx hb dL_law_27 rfl (lv_at hl 3 rfl) ?_
      refine va_sld hx hb hX hbl hbA hS (vp_in_nI (by omega) (by omega)) dL_law_28 ?_
      refine lv_bipush (v := 63) hx hb dL_law_29 (by decide) ?_
      refine lv_iand hx hb dL_law_31 ?_
      generalize (xs (nI (5 * j)).toNatClampNeg &&& (63 : Int32)) = w
      have hc : (60 + 6 * j) + 6 ≤ room_1.cells := Nat.le_trans (show (60 + 6 * j) + 6 ≤ 603072 by omega) (Nat.le_refl _)
      have hs : (3000 + 1010 * j) + 1010 ≤ room_1.slots := Nat.le_trans (show (3000 + 1010 * j) + 1010 ≤ 7262314 by omega) (Nat.le_refl _)
      rcases sw_35 w with c1 | c1 | c1 | c1 | c1 | c1 | c1 | c1 | c1 | c1 | c1 | c1 | c1 | c1 | c1 | c1 | c1 | c1 | c1 | c1 | c1 | c1 | c1 | c1 | c1 | c1 | c1 | c1 | c1 | c1 | c1 | c1 | c1 | c1 | c1 | c1 | c1
      · refine lv_tableIn (off := 160) (tgt := 192) hx hb dL_law_32 (by rw [c1]; decide) (by rw [c1]; decide) (by rw [c1]; rfl) (by decide) ?_
        exact law_feed hst C hE hNC hX hbl hbA hG.1 hc hs hi hl K hI hR hP hD hS
      · refine lv_tableIn (off := 183) (tgt := 215) hx hb dL_law_32 (by rw [c1]; decide) (by rw [c1]; decide) (by rw [c1]; rfl) (by decide) ?_
        exact law_end hst C hE hNC hX hbl hbA hG.2.1 hc hs hi hl K hI hR hP hD hS
      · refine lv_tableIn (off := 206) (tgt := 238) hx hb dL_law_32 (by rw [c1]; decide) (by rw [c1]; decide) (by rw [c1]; rfl) (by decide) ?_
        exact law_text hst C hE hNC hX hbl hbA hG.2.2.1 hc hs hi hl K hI hR hP hD hS
      · refine lv_tableIn (off := 219) (tgt := 251) hx hb dL_law_32 (by rw [c1]; decide) (by rw [c1]; decide) (by rw [c1]; rfl) (by decide) ?_
        exact law_fault hst C hE hNC hX hbl hbA hG.2.2.2.1 hc hs hi hl K hI hR hP hD hS
      · refine lv_tableIn (off := 232) (tgt := 264) hx hb dL_law_32 (by rw [c1]; decide) (by rw [c1]; decide) (by rw [c1]; rfl) (by decide) ?_
        exact law_rule hst C hE hNC hX hbl hbA hG.2.2.2.2.1 hc hs hi hl K hI hR hP hD hS
      · refine lv_tableIn (off := 255) (tgt := 287) hx hb dL_law_32 (by rw [c1]; decide) (by rw [c1]; decide) (by rw [c1]; rfl) (by decide) ?_
        exact law_block hst C hE hNC hX hbl hbA hG.2.2.2.2.2.1 hc hs hi hl K hI hR hP hD hS
      · refine lv_tableIn (off := 288) (tgt := 320) hx hb dL_law_32 (by rw [c1]; decide) (by rw [c1]; decide) (by rw [c1]; rfl) (by decide) ?_
        exact law_lock hst C hE hNC hX hbl hbA hG.2.2.2.2.2.2.1 hc hs hi hl K hI hR hP hD hS
      · refine lv_tableIn (off := 321) (tgt := 353) hx hb dL_law_32 (by rw [c1]; decide) (by rw [c1]; decide) (by rw [c1]; rfl) (by decide) ?_
        exact law_train hst C hE hNC hX hbl hbA hG.2.2.2.2.2.2.2.1 hc hs hi hl K hI hR hP hD hS
      · refine lv_tableIn (off := 354) (tgt := 386) hx hb dL_law_32 (by rw [c1]; decide) (by rw [c1]; decide) (by rw [c1]; rfl) (by decide) ?_
        exact law_waits hst C hE hNC hX hbl hbA hG.2.2.2.2.2.2.2.2.1 hc hs hi hl K hI hR hP hD hS
      · refine lv_tableIn (off := 387) (tgt := 419) hx hb dL_law_32 (by rw [c1]; decide) (by rw [c1]; decide) (by rw [c1]; rfl) (by decide) ?_
        exact law_hang hst C hE hNC hX hbl hbA hG.2.2.2.2.2.2.2.2.2.1 hc hs hi hl K hI hR hP hD hS
      · refine lv_tableIn (off := 420) (tgt := 452) hx hb dL_law_32 (by rw [c1]; decide) (by rw [c1]; decide) (by rw [c1]; rfl) (by decide) ?_
        exact law_guard hst C hE hNC hX hbl hbA hG.2.2.2.2.2.2.2.2.2.2.1 hc hs hi hl K hI hR hP hD hS
      · refine lv_tableIn (off := 469) (tgt := 501) hx hb dL_law_32 (by rw [c1]; decide) (by rw [c1]; decide) (by rw [c1]; rfl) (by decide) ?_
        exact law_set hst C hE hNC hX hbl hbA hG.2.2.2.2.2.2.2.2.2.2.2.1 hc hs hi hl K hI hR hP hD hS
      · refine lv_tableIn (off := 512) (tgt := 544) hx hb dL_law_32 (by rw [c1]; decide) (by rw [c1]; decide) (by rw [c1]; rfl) (by decide) ?_
        exact law_home hst C hE hNC hX hbl hbA hG.2.2.2.2.2.2.2.2.2.2.2.2.1 hc hs hi hl K hI hR hP hD hS
      · refine lv_tableIn (off := 535) (tgt := 567) hx hb dL_law_32 (by rw [c1]; decide) (by rw [c1]; decide) (by rw [c1]; rfl) (by decide) ?_
        exact law_at hst C hE hNC hX hbl hbA hG.2.2.2.2.2.2.2.2.2.2.2.2.2.1 hc hs hi hl K hI hR hP hD hS
      · refine lv_tableIn (off := 568) (tgt := 600) hx hb dL_law_32 (by rw [c1]; decide) (by rw [c1]; decide) (by rw [c1]; rfl) (by decide) ?_
        exact law_bump hst C hE hNC hX hbl hbA hG.2.2.2.2.2.2.2.2.2.2.2.2.2.2.1 hc hs hi hl K hI hR hP hD hS
      · refine lv_tableIn (off := 591) (tgt := 623) hx hb dL_law_32 (by rw [c1]; decide) (by rw [c1]; decide) (by rw [c1]; rfl) (by decide) ?_
        exact law_sum hst C hE hNC hX hbl hbA hG.2.2.2.2.2.2.2.2.2.2.2.2.2.2.2.1 hc hs hi hl K hI hR hP hD hS
      · refine lv_tableIn (off := 614) (tgt := 646) hx hb dL_law_32 (by rw [c1]; decide) (by rw [c1]; decide) (by rw [c1]; rfl) (by decide) ?_
        exact law_fewest hst C hE hNC hX hbl hbA hG.2.2.2.2.2.2.2.2.2.2.2.2.2.2.2.2.1 hc hs hi hl K hI hR hP hD hS
      · refine lv_tableIn (off := 637) (tgt := 669) hx hb dL_law_32 (by rw [c1]; decide) (by rw [c1]; decide) (by rw [c1]; rfl) (by decide) ?_
        exact law_guards hst C hE hNC hX hbl hbA hG.2.2.2.2.2.2.2.2.2.2.2.2.2.2.2.2.2.1 hc hs hi hl K hI hR hP hD hS
      · refine lv_tableIn (off := 660) (tgt := 692) hx hb dL_law_32 (by rw [c1]; decide) (by rw [c1]; decide) (by rw [c1]; rfl) (by decide) ?_
        exact law_magpies hst C hE hNC hX hbl hbA hG.2.2.2.2.2.2.2.2.2.2.2.2.2.2.2.2.2.2.1 hc hs hi hl K hI hR hP hD hS
      · refine lv_tableIn (off := 683) (tgt := 715) hx hb dL_law_32 (by rw [c1]; decide) (by rw [c1]; decide) (by rw [c1]; rfl) (by decide) ?_
        exact law_starts hst C hE hNC hX hbl hbA hG.2.2.2.2.2.2.2.2.2.2.2.2.2.2.2.2.2.2.2.1 hc hs hi hl K hI hR hP hD hS
      · refine lv_tableIn (off := 706) (tgt := 738) hx hb dL_law_32 (by rw [c1]; decide) (by rw [c1]; decide) (by rw [c1]; rfl) (by decide) ?_
        exact law_allowed hst C hE hNC hX hbl hbA hG.2.2.2.2.2.2.2.2.2.2.2.2.2.2.2.2.2.2.2.2.1 hc hs hi hl K hI hR hP hD hS
      · refine lv_tableIn (off := 729) (tgt := 761) hx hb dL_law_32 (by rw [c1]; decide) (by rw [c1]; decide) (by rw [c1]; rfl) (by decide) ?_
        exact law_convert hst C hE hNC hX hbl hbA hG.2.2.2.2.2.2.2.2.2.2.2.2.2.2.2.2.2.2.2.2.2.1 hc hs hi hl K hI hR hP hD hS
      · refine lv_tableIn (off := 752) (tgt := 784) hx hb dL_law_32 (by rw [c1]; decide) (by rw [c1]; decide) (by rw [c1]; rfl) (by decide) ?_
        exact law_mean hst C hE hNC hX hbl hbA hG.2.2.2.2.2.2.2.2.2.2.2.2.2.2.2.2.2.2.2.2.2.2.1 hc hs hi hl K hI hR hP hD hS
      · refine lv_tableIn (off := 786) (tgt := 818) hx hb dL_law_32 (by rw [c1]; decide) (by rw [c1]; decide) (by rw [c1]; rfl) (by decide) ?_
        exact law_luck hst C hE hNC hX hbl hbA hG.2.2.2.2.2.2.2.2.2.2.2.2.2.2.2.2.2.2.2.2.2.2.2.1 hc hs hi hl K hI hR hP hD hS
      · refine lv_tableIn (off := 820) (tgt := 852) hx hb dL_law_32 (by rw [c1]; decide) (by rw [c1]; decide) (by rw [c1]; rfl) (by decide) ?_
        exact law_see hst C hE hNC hX hbl hbA hG.2.2.2.2.2.2.2.2.2.2.2.2.2.2.2.2.2.2.2.2.2.2.2.2.1 hc hs hi hl K hI hR hP hD hS
      · refine lv_tableIn (off := 863) (tgt := 895) hx hb dL_law_32 (by rw [c1]; decide) (by rw [c1]; decide) (by rw [c1]; rfl) (by decide) ?_
        exact law_forget hst C hE hNC hX hbl hbA hG.2.2.2.2.2.2.2.2.2.2.2.2.2.2.2.2.2.2.2.2.2.2.2.2.2.1 hc hs hi hl K hI hR hP hD hS
      · refine lv_tableIn (off := 886) (tgt := 918) hx hb dL_law_32 (by rw [c1]; decide) (by rw [c1]; decide) (by rw [c1]; rfl) (by decide) ?_
        exact law_fits hst C hE hNC hX hbl hbA hG.2.2.2.2.2.2.2.2.2.2.2.2.2.2.2.2.2.2.2.2.2.2.2.2.2.2.1 hc hs hi hl K hI hR hP hD hS
      · refine lv_tableIn (off := 909) (tgt := 941) hx hb dL_law_32 (by rw [c1]; decide) (by rw [c1]; decide) (by rw [c1]; rfl) (by decide) ?_
        exact law_look hst C hE hNC hX hbl hbA hG.2.2.2.2.2.2.2.2.2.2.2.2.2.2.2.2.2.2.2.2.2.2.2.2.2.2.2.1 hc hs hi hl K hI hR hP hD hS
      · refine lv_tableIn (off := 942) (tgt := 974) hx hb dL_law_32 (by rw [c1]; decide) (by rw [c1]; decide) (by rw [c1]; rfl) (by decide) ?_
        exact law_drift hst C hE hNC hX hbl hbA hG.2.2.2.2.2.2.2.2.2.2.2.2.2.2.2.2.2.2.2.2.2.2.2.2.2.2.2.2.1 hc hs hi hl K hI hR hP hD hS
      · refine lv_tableIn (off := 985) (tgt := 1017) hx hb dL_law_32 (by rw [c1]; decide) (by rw [c1]; decide) (by rw [c1]; rfl) (by decide) ?_
        exact law_keep hst C hE hNC hX hbl hbA hG.2.2.2.2.2.2.2.2.2.2.2.2.2.2.2.2.2.2.2.2.2.2.2.2.2.2.2.2.2.1 hc hs hi hl K hI hR hP hD hS
      · refine lv_tableIn (off := 1008) (tgt := 1040) hx hb dL_law_32 (by rw [c1]; decide) (by rw [c1]; decide) (by rw [c1]; rfl) (by decide) ?_
        exact law_back hst C hE hNC hX hbl hbA hG.2.2.2.2.2.2.2.2.2.2.2.2.2.2.2.2.2.2.2.2.2.2.2.2.2.2.2.2.2.2.1 hc hs hi hl K hI hR hP hD hS
      · refine lv_tableIn (off := 1031) (tgt := 1063) hx hb dL_law_32 (by rw [c1]; decide) (by rw [c1]; decide) (by rw [c1]; rfl) (by decide) ?_
        exact law_sheet hst C hE hNC hX hbl hbA hG.2.2.2.2.2.2.2.2.2.2.2.2.2.2.2.2.2.2.2.2.2.2.2.2.2.2.2.2.2.2.2.1 hc hs hi hl K hI hR hP hD hS
      · refine lv_tableIn (off := 1074) (tgt := 1106) hx hb dL_law_32 (by rw [c1]; decide) (by rw [c1]; decide) (by rw [c1]; rfl) (by decide) ?_
        exact law_lay hst C hE hNC hX hbl hbA hG.2.2.2.2.2.2.2.2.2.2.2.2.2.2.2.2.2.2.2.2.2.2.2.2.2.2.2.2.2.2.2.2.1 hc hs hi hl K hI hR hP hD hS
      · refine lv_tableIn (off := 1117) (tgt := 1149) hx hb dL_law_32 (by rw [c1]; decide) (by rw [c1]; decide) (by rw [c1]; rfl) (by decide) ?_
        exact law_read hst C hE hNC hX hbl hbA hG.2.2.2.2.2.2.2.2.2.2.2.2.2.2.2.2.2.2.2.2.2.2.2.2.2.2.2.2.2.2.2.2.2.1 hc hs hi hl K hI hR hP hD hS
      · refine lv_tableIn (off := 1170) (tgt := 1202) hx hb dL_law_32 (by rw [c1]; decide) (by rw [c1]; decide) (by rw [c1]; rfl) (by decide) ?_
        exact law_torn hst C hE hNC hX hbl hbA hG.2.2.2.2.2.2.2.2.2.2.2.2.2.2.2.2.2.2.2.2.2.2.2.2.2.2.2.2.2.2.2.2.2.2.1 hc hs hi hl K hI hR hP hD hS
      · refine lv_tableIn (off := 1183) (tgt := 1215) hx hb dL_law_32 (by rw [c1]; decide) (by rw [c1]; decide) (by rw [c1]; rfl) (by decide) ?_
        exact law_count hst C hE hNC hX hbl hbA hG.2.2.2.2.2.2.2.2.2.2.2.2.2.2.2.2.2.2.2.2.2.2.2.2.2.2.2.2.2.2.2.2.2.2.2 hc hs hi hl K hI hR hP hD hS
      · refine lv_tableOut (tgt := 1238) hx hb dL_law_32 c1 (by decide) ?_
        exact W.widen (k := 60 + 6 * j + 6) (n := 3000 + 1010 * j + 1010) (by omega) (by omega) (K hI hR hP hD hS)
