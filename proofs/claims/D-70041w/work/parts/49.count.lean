set_option maxRecDepth 100000
def cntSize (sh : Sh) : Int32 := match sh 0 with
  | none => -4
  | some (_, n, _) => Int32.ofNat n
def C_count_L64 (n_trains : Int32) (n_train : Nat → Int32) (k97 : Int32 → Prop) : Nat → Int32 → Int32 → Prop
  | 0, _, _ => False
  | n + 1, x4, x5 =>
  ((n_trains ≤ x5 → (k97 x4)) ∧ (¬ (n_trains ≤ x5) → (B_of_s n_train x5 (3 : Int32) ∧ ((C_count_L64 n_trains n_train k97 n) (x4 + (B_of_e n_train x5 (3 : Int32))) (x5 + (1 : Int32))))))
def C_count (kept : Int32) (seenMany : Int32) (taped : Int32) (n_blocks : Int32) (n_trains : Int32) (n_omen : Nat → Int32) (n_train : Nat → Int32) (x1 : Int32) (x3 : Int32) (Q : Int32 → Prop) : Prop :=
  (∃ n_4 : Nat, C_count_L64 n_trains n_train (fun x4_5 => ((x1 = 0 → (Q seenMany)) ∧ (x1 = 1 → (I_bitCount kept (fun r_7 => (Q r_7)))) ∧ (x1 = 2 → (Q taped)) ∧ (x1 = 3 → (Q x3)) ∧ (x1 = 4 → (B_hung n_blocks n_omen (fun r_8 => (I_bitCount r_8 (fun r_9 => (Q r_9)))))) ∧ (x1 = 5 → (Q x4_5)) ∧ ((x1.toInt < 0 ∨ 5 < x1.toInt) → (Q (-1 : Int32))))) n_4 (0 : Int32) (0 : Int32))

abbrev rm_C_count : Room := { frames := 2, cells := 0, slots := 0, locals := 100 }
set_option maxHeartbeats 4000000 in
theorem w_C_count_L64 {p : Program} {l : Launch} {e : Env} {s : State} {m : MethodId} {args : Array Value} {below : List Frame} {meth : Method} {c : Code} {D : va_G} {ad : Nat → Nat} {ca : Nat → ClassId} {pl : va_W} {A : Nat → Prop} {Z : State → Prop} (C : cx cX0_count 6 (some .int) RX0 D vwCl (tyL ca) A p c meth s m args) {kept : Int32} {locks : Int32} {seenMany : Int32} {bumpMinute : Int32} {bumpBlock : Int32} {bumpTrains : Int32} {waited : Int32} {keptOut : Int32} {used : Int32} {taped : Int32} {fault : Int32} {costSum : Int64} {safeSum : Int64} {allWays : Int64} {torn : Int32} {n_blocks : Int32} {n_guarded : Int32} {n_trains : Int32} {n_omen : Nat → Int32} {n_train : Nat → Int32} {t_blocks : Int32} {t_guarded : Int32} {t_trains : Int32} {t_omen : Nat → Int32} {t_train : Nat → Int32} {i0_blocks : Int32} {i0_guarded : Int32} {i0_trains : Int32} {i0_omen : Nat → Int32} {i0_train : Nat → Int32} {i1_blocks : Int32} {i1_guarded : Int32} {i1_trains : Int32} {i1_omen : Nat → Int32} {i1_train : Nat → Int32} {lockA : Nat → Int32} {seenA : Nat → Int32} {whr : Nat → Int32} {homes : Nat → Int32} {isSeen : Nat → Int32} {leftA : Nat → Int32} {were : Nat → Int32} {tape : Nat → Int32} {would : Nat → Int32} {row0 : Option Nat} {row1 : Option Nat} {row2 : Option Nat} {row3 : Option Nat} {x1 : Int32} {x3 : Int32} {k97 : Int32 → Prop} (hk97 : ∀ (x4 : Int32), k97 x4 → ∀ (ls : Array Slot) (H : Heap) (locs : List Loc), lv_has ls 6 [(0, .ref (ad 0)), (1, .int x1), (3, .int x3), (4, .int x4)] → va_P D vwCl ((oW ad ca kept locks seenMany bumpMinute bumpBlock bumpTrains waited keptOut used taped fault costSum safeSum allWays torn n_blocks n_guarded n_trains n_omen n_train t_blocks t_guarded t_trains t_omen t_train i0_blocks i0_guarded i0_trains i0_omen i0_train i1_blocks i1_guarded i1_trains i1_omen i1_train lockA seenA whr homes isSeen leftA were tape would row0 row1 row2 row3) ++ pl) H → va_D A ((oW ad ca kept locks seenMany bumpMinute bumpBlock bumpTrains waited keptOut used taped fault costSum safeSum allWays torn n_blocks n_guarded n_trains n_omen n_train t_blocks t_guarded t_trains t_omen t_train i0_blocks i0_guarded i0_trains i0_omen i0_train i1_blocks i1_guarded i1_trains i1_omen i1_train lockA seenA whr homes isSeen leftA were tape would row0 row1 row2 row3) ++ pl) → va_S A s.heap H locs → W p l e rm_C_count s m args below meth c H locs 0 0 Z (F0 m 97 ls [])) : ∀ (n : Nat) (x4 : Int32) (x5 : Int32), C_count_L64 n_trains n_train k97 n x4 x5 → ∀ (ls : Array Slot) (H : Heap) (locs : List Loc), lv_has ls 6 [(0, .ref (ad 0)), (1, .int x1), (3, .int x3), (4, .int x4), (5, .int x5)] → va_P D vwCl ((oW ad ca kept locks seenMany bumpMinute bumpBlock bumpTrains waited keptOut used taped fault costSum safeSum allWays torn n_blocks n_guarded n_trains n_omen n_train t_blocks t_guarded t_trains t_omen t_train i0_blocks i0_guarded i0_trains i0_omen i0_train i1_blocks i1_guarded i1_trains i1_omen i1_train lockA seenA whr homes isSeen leftA were tape would row0 row1 row2 row3) ++ pl) H → va_D A ((oW ad ca kept locks seenMany bumpMinute bumpBlock bumpTrains waited keptOut used taped fault costSum safeSum allWays torn n_blocks n_guarded n_trains n_omen n_train t_blocks t_guarded t_trains t_omen t_train i0_blocks i0_guarded i0_trains i0_omen i0_train i1_blocks i1_guarded i1_trains i1_omen i1_train lockA seenA whr homes isSeen leftA were tape would row0 row1 row2 row3) ++ pl) → va_S A s.heap H locs → W p l e rm_C_count s m args below meth c H locs 0 0 Z (F0 m 64 ls []) := by
  have hx := C.1; have hb := C.2.1; have hr := C.2.2.1; have hlocks := C.2.2.2.1; have hml := C.2.2.2.2.1; have hown := C.2.2.2.2.2.1; have hts := C.2.2.2.2.2.2.1; have hn := C.2.2.2.2.2.2.2.1; have hK := C.2.2.2.2.2.2.2.2.1; have hA := C.2.2.2.2.2.2.2.2.2
  intro n
  induction n with
  | zero =>
    intro x4 x5 G
    exact False.elim G
  | succ n ih =>
    intro x4 x5 G ls H locs hl hP hD hS
    unfold C_count_L64 at G
    have hk64 := ih
    refine lv_iload hx hb dX0_count_64 (lv_at hl 4 rfl) ?_
    refine lv_aload_n hx hb dX0_count_66 rfl (lv_at hl 0 rfl) ?_
    refine va_get hx hb hts in_X0 hown hK hP 0 rfl rfl 1 (by decide) (hts _ q178) (fun _ h => h) rfl dX0_count_67 ?_
    refine va_getN hx hb hts in_X5 hown hK hP 6 rfl rfl 3 (by decide) (va_Nw.use rfl (hn _ q146 rfl)) (fun _ h => h) rfl dX0_count_70 ?_
    refine lv_icmp_ge (tgt := 97) hx hb dX0_count_73 (by decide) (fun c_1 => ?_) (fun c_1 => ?_)
    · have G := G.1 c_1
      exact hk97 _ G _ _ _ (lv_sub hl [0, 1, 2, 3] rfl) hP hD hS
    · have G := G.2 c_1
      refine lv_iload hx hb dX0_count_76 (lv_at hl 3 rfl) ?_
      refine lv_aload_n hx hb dX0_count_78 rfl (lv_at hl 0 rfl) ?_
      refine va_get hx hb hts in_X0 hown hK hP 0 rfl rfl 1 (by decide) (hts _ q178) (fun _ h => h) rfl dX0_count_79 ?_
      refine lv_iload hx hb dX0_count_82 (lv_at hl 4 rfl) ?_
      refine lv_iconst (v := 3) hx hb dX0_count_84 (by decide) ?_
      obtain ⟨h_2, G⟩ := G
      refine wc_Vik (As := [.int x5, .int (3 : Int32)]) (rest := [.int x4]) C (met_B_of l D (ad 6) (ad 7) (ad 8) ca H.size n_blocks n_guarded n_trains n_omen n_train x5 (3 : Int32) h_2) (cwV 2 hts (lw_V q600 q601 q602 q73 q603) rfl rfl rfl (by decide +kernel) ⟨Nat.le_of_ble_eq_true rfl, Nat.le_of_ble_eq_true rfl⟩) hP hD hS [6, 7, 8] rfl (by decide) 6 rfl rfl rfl rfl hl.1 (Nat.le_of_ble_eq_true rfl) dX0_count_85 ⟨Nat.le_of_ble_eq_true rfl, Nat.le_of_ble_eq_true rfl⟩ (fun r_3 u H locs hr hP hD hS => ?_)
      subst hr
      refine lv_iadd hx hb dX0_count_88 ?_
      refine lv_istore (lv' := [(4, .int (x4 + (B_of_e n_train x5 (3 : Int32)))), (0, .ref (ad 0)), (1, .int x1), (3, .int x3), (5, .int x5)]) hx hb dX0_count_89 hl (by decide) rfl (fun ls hl => ?_)
      refine lv_iinc (v := (x5 + (1 : Int32))) (lv' := [(5, .int (x5 + (1 : Int32))), (4, .int (x4 + (B_of_e n_train x5 (3 : Int32)))), (0, .ref (ad 0)), (1, .int x1), (3, .int x3)]) hx hb dX0_count_91 hl (k := 4) rfl rfl (by decide) rfl (fun ls hl => ?_)
      refine lv_goto (tgt := 64) hx hb dX0_count_94 (by decide) ?_
      exact hk64 _ _ G _ _ _ (lv_sub hl [2, 3, 4, 1, 0] rfl) hP hD hS
set_option maxHeartbeats 4000000 in
theorem met_C_count (l : Launch) (D : va_G) (sk sv : Nat → Nat) (ad : Nat → Nat) (ca : Nat → ClassId) (pl : va_W) (sz : Nat) (kept : Int32) (locks : Int32) (seenMany : Int32) (bumpMinute : Int32) (bumpBlock : Int32) (bumpTrains : Int32) (waited : Int32) (keptOut : Int32) (used : Int32) (taped : Int32) (fault : Int32) (costSum : Int64) (safeSum : Int64) (allWays : Int64) (torn : Int32) (n_blocks : Int32) (n_guarded : Int32) (n_trains : Int32) (n_omen : Nat → Int32) (n_train : Nat → Int32) (t_blocks : Int32) (t_guarded : Int32) (t_trains : Int32) (t_omen : Nat → Int32) (t_train : Nat → Int32) (i0_blocks : Int32) (i0_guarded : Int32) (i0_trains : Int32) (i0_omen : Nat → Int32) (i0_train : Nat → Int32) (i1_blocks : Int32) (i1_guarded : Int32) (i1_trains : Int32) (i1_omen : Nat → Int32) (i1_train : Nat → Int32) (lockA : Nat → Int32) (seenA : Nat → Int32) (whr : Nat → Int32) (homes : Nat → Int32) (isSeen : Nat → Int32) (leftA : Nat → Int32) (were : Nat → Int32) (tape : Nat → Int32) (would : Nat → Int32) (rw : Nat → Option Nat) (sh : Sh) (hR : RowsOK ca pl rw sh) (x1 : Int32) (Q : Int32 → Prop) (G : C_count kept seenMany taped n_blocks n_trains n_omen n_train x1 (cntSize sh) Q) : Met l yX0_count (ws_ yX0_count cX0_count 6 (some .int)) rm_C_count (va_Pc [.ref (ad 0), .int x1] (wpreF D vwCl (tyL ca) sk sv ((oW ad ca kept locks seenMany bumpMinute bumpBlock bumpTrains waited keptOut used taped fault costSum safeSum allWays torn n_blocks n_guarded n_trains n_omen n_train t_blocks t_guarded t_trains t_omen t_train i0_blocks i0_guarded i0_trains i0_omen i0_train i1_blocks i1_guarded i1_trains i1_omen i1_train lockA seenA whr homes isSeen leftA were tape would (rw 0) (rw 1) (rw 2) (rw 3)) ++ pl) sz)) (va_Qi (fun (r : Int32) (u : Unit) => Q r) (wpost D vwCl (va_A ((oW ad ca kept locks seenMany bumpMinute bumpBlock bumpTrains waited keptOut used taped fault costSum safeSum allWays torn n_blocks n_guarded n_trains n_omen n_train t_blocks t_guarded t_trains t_omen t_train i0_blocks i0_guarded i0_trains i0_omen i0_train i1_blocks i1_guarded i1_trains i1_omen i1_train lockA seenA whr homes isSeen leftA were tape would (rw 0) (rw 1) (rw 2) (rw 3)) ++ pl) sz) (fun (u : Unit) => ((oW ad ca kept locks seenMany bumpMinute bumpBlock bumpTrains waited keptOut used taped fault costSum safeSum allWays torn n_blocks n_guarded n_trains n_omen n_train t_blocks t_guarded t_trains t_omen t_train i0_blocks i0_guarded i0_trains i0_omen i0_train i1_blocks i1_guarded i1_trains i1_omen i1_train lockA seenA whr homes isSeen leftA were tape would (rw 0) (rw 1) (rw 2) (rw 3)) ++ pl))) (va_A ((oW ad ca kept locks seenMany bumpMinute bumpBlock bumpTrains waited keptOut used taped fault costSum safeSum allWays torn n_blocks n_guarded n_trains n_omen n_train t_blocks t_guarded t_trains t_omen t_train i0_blocks i0_guarded i0_trains i0_omen i0_train i1_blocks i1_guarded i1_trains i1_omen i1_train lockA seenA whr homes isSeen leftA were tape would (rw 0) (rw 1) (rw 2) (rw 3)) ++ pl) sz)) 0 0 (va_A ((oW ad ca kept locks seenMany bumpMinute bumpBlock bumpTrains waited keptOut used taped fault costSum safeSum allWays torn n_blocks n_guarded n_trains n_omen n_train t_blocks t_guarded t_trains t_omen t_train i0_blocks i0_guarded i0_trains i0_omen i0_train i1_blocks i1_guarded i1_trains i1_omen i1_train lockA seenA whr homes isSeen leftA were tape would (rw 0) (rw 1) (rw 2) (rw 3)) ++ pl) sz) := by
  unfold C_count at G
  refine met_ofEF (fun A => (va_Qi (fun (r : Int32) (u : Unit) => Q r) (wpost D vwCl A (fun (u : Unit) => ((oW ad ca kept locks seenMany bumpMinute bumpBlock bumpTrains waited keptOut used taped fault costSum safeSum allWays torn n_blocks n_guarded n_trains n_omen n_train t_blocks t_guarded t_trains t_omen t_train i0_blocks i0_guarded i0_trains i0_omen i0_train i1_blocks i1_guarded i1_trains i1_omen i1_train lockA seenA whr homes isSeen leftA were tape would (rw 0) (rw 1) (rw 2) (rw 3)) ++ pl))) A)) (by decide) (Nat.le_of_ble_eq_true rfl) ?_
  intro p e s m args below meth c Z A hZ C hE hNC hmn H locs hP hD hS ls hl
  have hx := C.1; have hb := C.2.1; have hr := C.2.2.1; have hlocks := C.2.2.2.1; have hml := C.2.2.2.2.1; have hown := C.2.2.2.2.2.1; have hts := C.2.2.2.2.2.2.1; have hn := C.2.2.2.2.2.2.2.1; have hK := C.2.2.2.2.2.2.2.2.1; have hA := C.2.2.2.2.2.2.2.2.2
  have hl : lv_has ls 6 [(0, .ref (ad 0)), (1, .int x1)] := hl
  have hcB : s.vm.findClass "[B" = some (ca 2) := va_nm_byte (hK.2 2 _ rfl).2
  have hcS : s.vm.findClass "[S" = some (ca 3) := va_nm_short (hK.2 3 _ rfl).2
  have hcI : s.vm.findClass "[I" = some (ca 0) := va_nm_int (hK.2 0 _ rfl).2
  have hkB : ∀ cS, s.vm.findClass "[B" = some cS → ∃ k, s.vm.classes[cS]? = some k ∧ arK "[B" k := fun cS h => arK_of (hts _ q162) (by decide +kernel) (by decide +kernel) h
  have hkS : ∀ cS, s.vm.findClass "[S" = some cS → ∃ k, s.vm.classes[cS]? = some k ∧ arK "[S" k := fun cS h => arK_of (hts _ q839) (by decide +kernel) (by decide +kernel) h
  have hkI : ∀ cS, s.vm.findClass "[I" = some cS → ∃ k, s.vm.classes[cS]? = some k ∧ arK "[I" k := fun cS h => arK_of (hts _ q175) (by decide +kernel) (by decide +kernel) h
  refine lv_aload_n hx hb dX0_count_0 rfl (lv_at hl 0 rfl) ?_
  refine va_get hx hb hts in_X0 hown hK hP 0 rfl rfl 27 (by decide) (hts _ q205) (fun _ h => h) rfl dX0_count_1 ?_
  refine lv_iconst (v := 0) hx hb dX0_count_4 (by decide) ?_
  refine wc_rowget (r := rw) C hP vi4_0 rfl rfl rfl rfl rfl dX0_count_5 dX0_count_6 ?_
  have hJ : ∀ ls : Array Slot, lv_has ls 6 [(3, .int (cntSize sh)), (0, .ref (ad 0)), (1, .int x1)] → W p l e rm_C_count s m args below meth c H locs 0 0 Z (F0 m 58 ls []) := by
    intro ls hl
    have hl : lv_has ls 6 [(0, .ref (ad 0)), (1, .int x1), (3, .int (cntSize sh))] := lv_sub hl [1, 2, 0] rfl
    generalize cntSize sh = x3 at hl G ⊢
    refine lv_iconst (v := 0) hx hb dX0_count_58 (by decide) ?_
    refine lv_istore (lv' := [(4, .int (0 : Int32)), (0, .ref (ad 0)), (1, .int x1), (3, .int x3)]) hx hb dX0_count_59 hl (by decide) rfl (fun ls hl => ?_)
    refine lv_iconst (v := 0) hx hb dX0_count_61 (by decide) ?_
    refine lv_istore (lv' := [(5, .int (0 : Int32)), (4, .int (0 : Int32)), (0, .ref (ad 0)), (1, .int x1), (3, .int x3)]) hx hb dX0_count_62 hl (by decide) rfl (fun ls hl => ?_)
    obtain ⟨n_4, G⟩ := G
    refine w_C_count_L64 C (fun x4_5 G ls H locs hl hP hD hS => ?_) n_4 _ _ G _ _ _ (lv_sub hl [2, 3, 4, 1, 0] rfl) hP hD hS
    refine lv_iload_n hx hb dX0_count_97 rfl (lv_at hl 1 rfl) ?_
    rcases sw_5 x1 with c_6 | c_6 | c_6 | c_6 | c_6 | c_6 | c_6
    · have G := G.1 c_6
      refine lv_tableIn (off := 38) (tgt := 136) hx hb dX0_count_98 (by rw [c_6]; decide) (by rw [c_6]; decide) (by rw [c_6]; rfl) (by decide) ?_
      refine lv_aload_n hx hb dX0_count_136 rfl (lv_at hl 0 rfl) ?_
      refine va_get hx hb hts in_X0 hown hK hP 0 rfl rfl 8 (by decide) (hts _ q185) (fun _ h => h) rfl dX0_count_137 ?_
      rw [hZ]
      exact W.iret hx hb hr (fun t ht hW => ⟨⟨seenMany, (), rfl, G, by rw [ht]; exact hP, hD⟩, hS.F ht⟩) hS.2.2 dX0_count_140 hlocks
    · have G := G.2.1 c_6
      refine lv_tableIn (off := 43) (tgt := 141) hx hb dX0_count_98 (by rw [c_6]; decide) (by rw [c_6]; decide) (by rw [c_6]; rfl) (by decide) ?_
      refine lv_aload_n hx hb dX0_count_141 rfl (lv_at hl 0 rfl) ?_
      refine va_get hx hb hts in_X0 hown hK hP 0 rfl rfl 4 (by decide) (hts _ q181) (fun _ h => h) rfl dX0_count_142 ?_
      refine wc_Sik (As := [.int kept]) (rest := []) C (met_I_bitCount l D ca H.size kept _ G) (va_cwS 1 hts (lw_S q703 q704 q86 q705) rfl rfl rfl (by decide +kernel) ⟨Nat.le_of_ble_eq_true rfl, Nat.le_of_ble_eq_true rfl⟩) hP hD hS [] rfl (by decide) rfl rfl hl.1 (Nat.le_of_ble_eq_true rfl) dX0_count_145 ⟨Nat.le_of_ble_eq_true rfl, Nat.le_of_ble_eq_true rfl⟩ (fun r_7 u H locs G hP hD hS => ?_)
      rw [hZ]
      exact W.iret hx hb hr (fun t ht hW => ⟨⟨r_7, (), rfl, G, by rw [ht]; exact hP, hD⟩, hS.F ht⟩) hS.2.2 dX0_count_148 hlocks
    · have G := G.2.2.1 c_6
      refine lv_tableIn (off := 51) (tgt := 149) hx hb dX0_count_98 (by rw [c_6]; decide) (by rw [c_6]; decide) (by rw [c_6]; rfl) (by decide) ?_
      refine lv_aload_n hx hb dX0_count_149 rfl (lv_at hl 0 rfl) ?_
      refine va_get hx hb hts in_X0 hown hK hP 0 rfl rfl 21 (by decide) (hts _ q199) (fun _ h => h) rfl dX0_count_150 ?_
      rw [hZ]
      exact W.iret hx hb hr (fun t ht hW => ⟨⟨taped, (), rfl, G, by rw [ht]; exact hP, hD⟩, hS.F ht⟩) hS.2.2 dX0_count_153 hlocks
    · have G := G.2.2.2.1 c_6
      refine lv_tableIn (off := 56) (tgt := 154) hx hb dX0_count_98 (by rw [c_6]; decide) (by rw [c_6]; decide) (by rw [c_6]; rfl) (by decide) ?_
      refine lv_iload_n hx hb dX0_count_154 rfl (lv_at hl 2 rfl) ?_
      rw [hZ]
      exact W.iret hx hb hr (fun t ht hW => ⟨⟨x3, (), rfl, G, by rw [ht]; exact hP, hD⟩, hS.F ht⟩) hS.2.2 dX0_count_155 hlocks
    · have G := G.2.2.2.2.1 c_6
      refine lv_tableIn (off := 58) (tgt := 156) hx hb dX0_count_98 (by rw [c_6]; decide) (by rw [c_6]; decide) (by rw [c_6]; rfl) (by decide) ?_
      refine lv_aload_n hx hb dX0_count_156 rfl (lv_at hl 0 rfl) ?_
      refine va_get hx hb hts in_X0 hown hK hP 0 rfl rfl 1 (by decide) (hts _ q178) (fun _ h => h) rfl dX0_count_157 ?_
      refine wc_Vik (As := []) (rest := []) C (met_B_hung l D (ad 6) (ad 7) (ad 8) ca H.size n_blocks n_guarded n_trains n_omen n_train _ G) (cwV 0 hts (lw_V q571 q572 q573 q73 q574) rfl rfl rfl (by decide +kernel) ⟨Nat.le_of_ble_eq_true rfl, Nat.le_of_ble_eq_true rfl⟩) hP hD hS [6, 7, 8] rfl (by decide) 6 rfl rfl rfl rfl hl.1 (Nat.le_of_ble_eq_true rfl) dX0_count_160 ⟨Nat.le_of_ble_eq_true rfl, Nat.le_of_ble_eq_true rfl⟩ (fun r_8 u H locs G hP hD hS => ?_)
      refine wc_Sik (As := [.int r_8]) (rest := []) C (met_I_bitCount l D ca H.size r_8 _ G) (va_cwS 1 hts (lw_S q703 q704 q86 q705) rfl rfl rfl (by decide +kernel) ⟨Nat.le_of_ble_eq_true rfl, Nat.le_of_ble_eq_true rfl⟩) hP hD hS [] rfl (by decide) rfl rfl hl.1 (Nat.le_of_ble_eq_true rfl) dX0_count_163 ⟨Nat.le_of_ble_eq_true rfl, Nat.le_of_ble_eq_true rfl⟩ (fun r_9 u H locs G hP hD hS => ?_)
      rw [hZ]
      exact W.iret hx hb hr (fun t ht hW => ⟨⟨r_9, (), rfl, G, by rw [ht]; exact hP, hD⟩, hS.F ht⟩) hS.2.2 dX0_count_166 hlocks
    · have G := G.2.2.2.2.2.1 c_6
      refine lv_tableIn (off := 69) (tgt := 167) hx hb dX0_count_98 (by rw [c_6]; decide) (by rw [c_6]; decide) (by rw [c_6]; rfl) (by decide) ?_
      refine lv_iload hx hb dX0_count_167 (lv_at hl 3 rfl) ?_
      rw [hZ]
      exact W.iret hx hb hr (fun t ht hW => ⟨⟨x4_5, (), rfl, G, by rw [ht]; exact hP, hD⟩, hS.F ht⟩) hS.2.2 dX0_count_169 hlocks
    · have G := G.2.2.2.2.2.2 c_6
      refine lv_tableOut (tgt := 170) hx hb dX0_count_98 c_6 (by decide) ?_
      refine lv_iconst (v := -1) hx hb dX0_count_170 (by decide) ?_
      rw [hZ]
      exact W.iret hx hb hr (fun t ht hW => ⟨⟨(-1 : Int32), (), rfl, G, by rw [ht]; exact hP, hD⟩, hS.F ht⟩) hS.2.2 dX0_count_171 hlocks
  rcases hR.get (k := 0) (by decide) with ⟨e1, e2⟩ | ⟨t, n, f, a, j, e1, e2, hn40, e3, e4, -⟩
  · rw [show (0 : Int32).toNatClampNeg = 0 from rfl, e2]
    refine lv_astore_nN (lv' := [(2, .null), (0, .ref (ad 0)), (1, .int x1)]) hx hb dX0_count_9 rfl hl (by decide) rfl (fun ls hl => ?_)
    refine lv_aload_nN hx hb dX0_count_10 rfl (lv_at hl 0 rfl) ?_
    refine lv_instN hx hb dX0_count_11 ?_
    refine lv_if_eq (tgt := 25) hx hb dX0_count_14 (by decide) (fun c1 => ?_) (fun c1 => absurd rfl c1)
    refine lv_aload_nN hx hb dX0_count_25 rfl (lv_at hl 0 rfl) ?_
    refine lv_instN hx hb dX0_count_26 ?_
    refine lv_if_eq (tgt := 40) hx hb dX0_count_29 (by decide) (fun c2 => ?_) (fun c2 => absurd rfl c2)
    refine lv_aload_nN hx hb dX0_count_40 rfl (lv_at hl 0 rfl) ?_
    refine lv_instN hx hb dX0_count_41 ?_
    refine lv_if_eq (tgt := 55) hx hb dX0_count_44 (by decide) (fun c3 => ?_) (fun c3 => absurd rfl c3)
    refine lv_bipush (v := -4) hx hb dX0_count_55 (by decide) ?_
    refine lv_istore_n (lv' := [(3, .int (-4 : Int32)), (2, .null), (0, .ref (ad 0)), (1, .int x1)]) hx hb dX0_count_57 rfl hl (by decide) rfl (fun ls hl => ?_)
    exact hJ ls (by have h := lv_sub hl [0, 2, 3] rfl; rw [show cntSize sh = -4 from by simp only [cntSize, e1]]; exact h)
  · rw [show (0 : Int32).toNatClampNeg = 0 from rfl, e3]
    refine lv_astore_n (lv' := [(2, .ref a), (0, .ref (ad 0)), (1, .int x1)]) hx hb dX0_count_9 rfl hl (by decide) rfl (fun ls hl => ?_)
    refine lv_aload_n hx hb dX0_count_10 rfl (lv_at hl 0 rfl) ?_
    rcases e2 with rfl | rfl | rfl
    · refine va_instE hx hb hown (hts _ q888) (va_arr hP (wc_at (n := 33) rfl e4) hcB) dX0_count_11 ?_
      refine lv_if_eq (tgt := 25) hx hb dX0_count_14 (by decide) (fun c1 => absurd c1 (by decide)) (fun c1 => ?_)
      refine lv_aload_n hx hb dX0_count_17 rfl (lv_at hl 0 rfl) ?_
      refine va_castA hx hb hown (hts _ q888) hP (33 + j) (wc_at (n := 33) rfl e4) hcB dX0_count_18 ?_
      refine va_alen hx hb hK hP (33 + j) 2 (wc_at (n := 33) rfl e4) rfl rfl dX0_count_21 ?_
      refine lv_goto (tgt := 57) hx hb dX0_count_22 (by decide) ?_
      refine lv_istore_n (lv' := [(3, .int (Int32.ofNat n)), (2, .ref a), (0, .ref (ad 0)), (1, .int x1)]) hx hb dX0_count_57 rfl hl (by decide) rfl (fun ls hl => ?_)
      exact hJ ls (by have h := lv_sub hl [0, 2, 3] rfl; rw [show cntSize sh = Int32.ofNat n from by simp only [cntSize, e1]]; exact h)
    · refine va_instNo hx hb hown (hts _ q888) (hNC ("[S", "[B") (by decide)) (va_arr hP (wc_at (n := 33) rfl e4) hcS) dX0_count_11 ?_
      refine lv_if_eq (tgt := 25) hx hb dX0_count_14 (by decide) (fun c1 => ?_) (fun c1 => absurd rfl c1)
      refine lv_aload_n hx hb dX0_count_25 rfl (lv_at hl 0 rfl) ?_
      refine va_instE hx hb hown (hts _ q889) (va_arr hP (wc_at (n := 33) rfl e4) hcS) dX0_count_26 ?_
      refine lv_if_eq (tgt := 40) hx hb dX0_count_29 (by decide) (fun c2 => absurd c2 (by decide)) (fun c2 => ?_)
      refine lv_aload_n hx hb dX0_count_32 rfl (lv_at hl 0 rfl) ?_
      refine va_castA hx hb hown (hts _ q889) hP (33 + j) (wc_at (n := 33) rfl e4) hcS dX0_count_33 ?_
      refine va_alen hx hb hK hP (33 + j) 3 (wc_at (n := 33) rfl e4) rfl rfl dX0_count_36 ?_
      refine lv_goto (tgt := 57) hx hb dX0_count_37 (by decide) ?_
      refine lv_istore_n (lv' := [(3, .int (Int32.ofNat n)), (2, .ref a), (0, .ref (ad 0)), (1, .int x1)]) hx hb dX0_count_57 rfl hl (by decide) rfl (fun ls hl => ?_)
      exact hJ ls (by have h := lv_sub hl [0, 2, 3] rfl; rw [show cntSize sh = Int32.ofNat n from by simp only [cntSize, e1]]; exact h)
    · refine va_instNo hx hb hown (hts _ q888) (hNC ("[I", "[B") (by decide)) (va_arr hP (wc_at (n := 33) rfl e4) hcI) dX0_count_11 ?_
      refine lv_if_eq (tgt := 25) hx hb dX0_count_14 (by decide) (fun c1 => ?_) (fun c1 => absurd rfl c1)
      refine lv_aload_n hx hb dX0_count_25 rfl (lv_at hl 0 rfl) ?_
      refine va_instNo hx hb hown (hts _ q889) (hNC ("[I", "[S") (by decide)) (va_arr hP (wc_at (n := 33) rfl e4) hcI) dX0_count_26 ?_
      refine lv_if_eq (tgt := 40) hx hb dX0_count_29 (by decide) (fun c2 => ?_) (fun c2 => absurd rfl c2)
      refine lv_aload_n hx hb dX0_count_40 rfl (lv_at hl 0 rfl) ?_
      refine va_instE hx hb hown (hts _ q890) (va_arr hP (wc_at (n := 33) rfl e4) hcI) dX0_count_41 ?_
      refine lv_if_eq (tgt := 55) hx hb dX0_count_44 (by decide) (fun c3 => absurd c3 (by decide)) (fun c3 => ?_)
      refine lv_aload_n hx hb dX0_count_47 rfl (lv_at hl 0 rfl) ?_
      refine va_castA hx hb hown (hts _ q890) hP (33 + j) (wc_at (n := 33) rfl e4) hcI dX0_count_48 ?_
      refine va_alen hx hb hK hP (33 + j) 0 (wc_at (n := 33) rfl e4) rfl rfl dX0_count_51 ?_
      refine lv_goto (tgt := 57) hx hb dX0_count_52 (by decide) ?_
      refine lv_istore_n (lv' := [(3, .int (Int32.ofNat n)), (2, .ref a), (0, .ref (ad 0)), (1, .int x1)]) hx hb dX0_count_57 rfl hl (by decide) rfl (fun ls hl => ?_)
      exact hJ ls (by have h := lv_sub hl [0, 2, 3] rfl; rw [show cntSize sh = Int32.ofNat n from by simp only [cntSize, e1]]; exact h)
