set_option maxRecDepth 100000
theorem takeW_3 {sh : Sh} {k : Nat} {l i : Int32} (h : ¬ takeW sh k l i = 0) : takeW sh k l i = 1 ∨ takeW sh k l i = 2 ∨ takeW sh k l i = 3 := by
  cases hs : sh k with
  | none => exact Or.inl (takeW_none hs)
  | some x =>
    obtain ⟨t, n, f⟩ := x
    rw [takeW_some hs] at h ⊢
    by_cases c1 : t = laneT l
    · rw [if_pos c1] at h ⊢
      by_cases c2 : i < 0 ∨ n ≤ i.toNatClampNeg
      · rw [if_pos c2]; exact Or.inr (Or.inl rfl)
      · rw [if_neg c2] at h; exact absurd rfl h
    · rw [if_neg c1]; exact Or.inr (Or.inr rfl)
section WF9
variable {p : Program} {l : Launch} {e : Env} {R : Room} {s : State} {m : MethodId} {args : Array Value} {below : List Frame} {meth : Method} {c : Code} {H : Heap} {locs : List Loc} {Z : State → Prop}
variable {D : va_G} {cl : List vw_C} {tys : List (ClassId × FieldType)} {A : Nat → Prop} {cc : ByteArray} {nL : Nat} {ret0 : Option FieldType} {own : String} {pc : Nat} {ls : Array Slot} {st0 : List Value}
variable {y : MethodName} {bytes : ByteArray} {maxL n index : Nat} {ret : Option FieldType} {ws' : List Cond} {rm : Room} {C0 : String} {b : Nat} {ws : va_W} {sk sv : Nat → Nat}
theorem wf_Vi {post : Int32 → Unit → Prop} {px : Unit → Prop} {exn : String} {As rest : List Value} {ci : Nat} {fs : List Value} {q : vw_C} (C : cx cc nL ret0 own D cl tys A p c meth s m args) (hE : env sk sv A s s.heap) (hNC : ncE s) (hM : vy_Met l y ws' rm (va_Pc (.ref b :: As) (wpreF D cl tys sk sv ws H.size)) (va_Qi post (wpost D cl (va_A ws H.size) (fun _ => ws)) (va_A ws H.size)) (vx_X px (fun (E : String) (q : Addr) (u : Unit) (t : State) => E = exn ∧ va_P D cl ws t.heap ∧ va_D (va_A ws H.size) ws) (va_A ws H.size)) 0 0 3 1010 (va_A ws H.size)) (cw : CallW R s args own q.1 index y bytes maxL ret ws' rm 3 1010 n) (hP : va_P D cl ws H) (hD : va_D A ws) (hS : va_S A s.heap H locs) (q0 : Nat) (he : ws[q0]? = some (b, .inr (ci, fs))) (hc : cl[ci]? = some q) (hn : As.length = n) (hst : st0 = As.reverse ++ .ref b :: rest) (hsz : ls.size = nL) (hrm : (rest.map fun v => v.category).sum ≤ 8) (hdg : decode cc pc = .ok (.invokevirtual index, 3)) (hf : 0 + 3 ≤ R.cells ∧ 0 + 1010 ≤ R.slots)
    (kx : ∀ (q9 : Nat) (ce : Cell) (H1 : Heap) (locs1 : List Loc), px () → va_P D cl ws H1 → va_D A ws → va_S A s.heap H1 locs1 → H1[q9]? = some ce → ce.vm = .none → s.vm.findClass exn = some ce.cls → vx_W p l e R s m args below meth c H1 locs1 (0 + 3) (0 + 1010) Z (F0 m pc ls rest) q9)
    (kk : ∀ (r : Int32) (H1 : Heap) (locs1 : List Loc), post r () → va_P D cl ws H1 → va_D A ws → va_S A s.heap H1 locs1 → W p l e R s m args below meth c H1 locs1 0 0 Z (F0 m (pc + 3) ls (.int r :: rest))) : W p l e R s m args below meth c H locs 0 0 Z (F0 m pc ls st0) := by
  have hF : ∀ q, va_A ws H.size q → A q := va_free hD hS C.2.2.2.2.2.2.2.2.2 (List.range ws.length) (wc_self ws)
  refine vy_calli (vy_runV (As := As) (rest := rest) ⟨C.1, C.2.1, C.2.2.2.2.1, C.2.2.2.2.2.1, C.2.2.2.2.2.2.1⟩ hM cw ⟨wpreF_blind, va_recv C.2.2.2.2.2.2.2.2.1 hP hc he, fun U hU hW => ⟨rfl, (wcE_pre C hE hP hD hS (wc_self ws) (wc_nd ws.length) (.ref b :: As) U hU hW).2, ncE_warm hW hNC⟩⟩ rfl hn hsz hst (lv_room hrm) hdg hf) hS (fun q _ h => hF q h) hF (fun q _ h => hF q h) (fun E ce q9 u t H1 locs1 ht hvm hpx hbx hz hk hS1 hcell hv hcl => ?_) (fun r u t H1 locs1 ht hvm hw hB hz1 hk1 hS1 => ?_)
  · obtain ⟨hE1, hP1, hD1⟩ := hbx
    rw [ht] at hP1
    exact kx q9 ce H1 locs1 hpx hP1 (hD1.weaken (fun k q _ h => hF q.1 h)) hS1 hcell hv (by rw [← hE1]; exact hcl)
  · obtain ⟨hP1, hD1⟩ := hB
    rw [ht] at hP1
    exact kk r H1 locs1 hw hP1 (hD1.weaken (fun k q _ h => hF q.1 h)) hS1
end WF9
def C_read_L (sh : Sh) (locks : Int32) (n_blocks : Int32) (lockA : Nat → Int32) (k : Nat) (x2 x3 x4 : Int32) (kd : Int32 → Int32 → (Nat → Int32) → Prop) (kb : Int32 → (Nat → Int32) → Prop) : Nat → Int32 → (Nat → Int32) → Prop
  | 0, _, _ => False
  | N + 1, i, om => (x4 ≤ i → kd 0 i om) ∧ (¬ x4 ≤ i → (¬ takeW sh k x2 (x3 + ((2 : Int32) * i)) = 0 → kd (takeW sh k x2 (x3 + ((2 : Int32) * i))) i om) ∧ (takeW sh k x2 (x3 + ((2 : Int32) * i)) = 0 → (¬ takeW sh k x2 ((x3 + ((2 : Int32) * i)) + (1 : Int32)) = 0 → kd (takeW sh k x2 ((x3 + ((2 : Int32) * i)) + (1 : Int32))) i om) ∧ (takeW sh k x2 ((x3 + ((2 : Int32) * i)) + (1 : Int32)) = 0 → C_hang locks n_blocks om lockA (takeV sh k (x3 + ((2 : Int32) * i))) (takeV sh k ((x3 + ((2 : Int32) * i)) + (1 : Int32))) (fun r om2 => (0 ≤ r → C_read_L sh locks n_blocks lockA k x2 x3 x4 kd kb N (i + (1 : Int32)) om2) ∧ (¬ 0 ≤ r → kb i om2)))))
def C_read (sh : Sh) (torn : Int32) (locks : Int32) (n_blocks : Int32) (n_guarded : Int32) (n_trains : Int32) (n_omen : Nat → Int32) (n_train : Nat → Int32) (t_blocks : Int32) (t_guarded : Int32) (t_trains : Int32) (t_omen : Nat → Int32) (t_train : Nat → Int32) (lockA : Nat → Int32) (x1 x2 x3 x4 : Int32) (Q : Int32 → Int32 → Int32 → Int32 → Int32 → (Nat → Int32) → (Nat → Int32) → Int32 → Int32 → Int32 → (Nat → Int32) → (Nat → Int32) → Prop) : Prop :=
  (C_isSheet_e x1 x2 = 0 → Q (-1) torn n_blocks n_guarded n_trains n_omen n_train t_blocks t_guarded t_trains t_omen t_train) ∧ (¬ C_isSheet_e x1 x2 = 0 → (C_in_e (x4.toInt64) (0 : Int64) (20 : Int64) = 0 → Q (-1) torn n_blocks n_guarded n_trains n_omen n_train t_blocks t_guarded t_trains t_omen t_train) ∧ (¬ C_in_e (x4.toInt64) (0 : Int64) (20 : Int64) = 0 → vp_in x1 4 ∧ (B_as t_blocks t_guarded t_trains t_omen t_train n_blocks n_guarded n_trains n_omen n_train (fun t_blocks_2 t_guarded_2 t_trains_2 t_omen_2 t_train_2 => ∃ N : Nat, C_read_L sh locks n_blocks lockA x1.toNatClampNeg x2 x3 x4 (fun w i om => Q i w n_blocks n_guarded n_trains om n_train t_blocks_2 t_guarded_2 t_trains_2 t_omen_2 t_train_2) (fun i om => (B_as n_blocks n_guarded n_trains om n_train t_blocks_2 t_guarded_2 t_trains_2 t_omen_2 t_train_2 (fun n_blocks_3 n_guarded_3 n_trains_3 n_omen_3 n_train_3 => Q ((-20 : Int32) - i) torn n_blocks_3 n_guarded_3 n_trains_3 n_omen_3 n_train_3 t_blocks_2 t_guarded_2 t_trains_2 t_omen_2 t_train_2))) N 0 n_omen))))
abbrev rm_C_read : Room := { frames := 9, cells := 3, slots := 1010, locals := 10284 }
set_option maxHeartbeats 8000000 in
theorem met_C_read (l : Launch) (hst : l.stackTraces = false) (D : va_G) (sk sv : Nat → Nat) (ad : Nat → Nat) (ca : Nat → ClassId) (pl : va_W) (sz : Nat) (kept : Int32) (locks : Int32) (seenMany : Int32) (bumpMinute : Int32) (bumpBlock : Int32) (bumpTrains : Int32) (waited : Int32) (keptOut : Int32) (used : Int32) (taped : Int32) (fault : Int32) (costSum : Int64) (safeSum : Int64) (allWays : Int64) (torn : Int32) (n_blocks : Int32) (n_guarded : Int32) (n_trains : Int32) (n_omen : Nat → Int32) (n_train : Nat → Int32) (t_blocks : Int32) (t_guarded : Int32) (t_trains : Int32) (t_omen : Nat → Int32) (t_train : Nat → Int32) (i0_blocks : Int32) (i0_guarded : Int32) (i0_trains : Int32) (i0_omen : Nat → Int32) (i0_train : Nat → Int32) (i1_blocks : Int32) (i1_guarded : Int32) (i1_trains : Int32) (i1_omen : Nat → Int32) (i1_train : Nat → Int32) (lockA : Nat → Int32) (seenA : Nat → Int32) (whr : Nat → Int32) (homes : Nat → Int32) (isSeen : Nat → Int32) (leftA : Nat → Int32) (were : Nat → Int32) (tape : Nat → Int32) (would : Nat → Int32) (rw : Nat → Option Nat) (sh : Sh) (hR : RowsOK ca pl rw sh) (x1 x2 x3 x4 : Int32) (Q : Int32 → Int32 → Int32 → Int32 → Int32 → (Nat → Int32) → (Nat → Int32) → Int32 → Int32 → Int32 → (Nat → Int32) → (Nat → Int32) → Prop) (G : C_read sh torn locks n_blocks n_guarded n_trains n_omen n_train t_blocks t_guarded t_trains t_omen t_train lockA x1 x2 x3 x4 Q) : Met l yX0_read (wsW_ yX0_read cX0_read 8 (some .int) [(40, 100, 110, 307), (101, 107, 110, 307), (40, 100, 118, 318), (101, 107, 118, 318), (40, 100, 126, 309), (101, 107, 126, 309)]) rm_C_read (va_Pc [.ref (ad 0), .int x1, .int x2, .int x3, .int x4] (wpreF D vwCl (tyL ca) sk sv ((oW ad ca kept locks seenMany bumpMinute bumpBlock bumpTrains waited keptOut used taped fault costSum safeSum allWays torn n_blocks n_guarded n_trains n_omen n_train t_blocks t_guarded t_trains t_omen t_train i0_blocks i0_guarded i0_trains i0_omen i0_train i1_blocks i1_guarded i1_trains i1_omen i1_train lockA seenA whr homes isSeen leftA were tape would (rw 0) (rw 1) (rw 2) (rw 3)) ++ pl) sz)) (va_Qi (fun (r : Int32) (u : (Int32 × Int32 × Int32 × Int32 × (Nat → Int32) × (Nat → Int32) × Int32 × Int32 × Int32 × (Nat → Int32) × (Nat → Int32))) => Q r u.1 u.2.1 u.2.2.1 u.2.2.2.1 u.2.2.2.2.1 u.2.2.2.2.2.1 u.2.2.2.2.2.2.1 u.2.2.2.2.2.2.2.1 u.2.2.2.2.2.2.2.2.1 u.2.2.2.2.2.2.2.2.2.1 u.2.2.2.2.2.2.2.2.2.2) (wpost D vwCl (va_A ((oW ad ca kept locks seenMany bumpMinute bumpBlock bumpTrains waited keptOut used taped fault costSum safeSum allWays torn n_blocks n_guarded n_trains n_omen n_train t_blocks t_guarded t_trains t_omen t_train i0_blocks i0_guarded i0_trains i0_omen i0_train i1_blocks i1_guarded i1_trains i1_omen i1_train lockA seenA whr homes isSeen leftA were tape would (rw 0) (rw 1) (rw 2) (rw 3)) ++ pl) sz) (fun (u : (Int32 × Int32 × Int32 × Int32 × (Nat → Int32) × (Nat → Int32) × Int32 × Int32 × Int32 × (Nat → Int32) × (Nat → Int32))) => ((oW ad ca kept locks seenMany bumpMinute bumpBlock bumpTrains waited keptOut used taped fault costSum safeSum allWays u.1 u.2.1 u.2.2.1 u.2.2.2.1 u.2.2.2.2.1 u.2.2.2.2.2.1 u.2.2.2.2.2.2.1 u.2.2.2.2.2.2.2.1 u.2.2.2.2.2.2.2.2.1 u.2.2.2.2.2.2.2.2.2.1 u.2.2.2.2.2.2.2.2.2.2 i0_blocks i0_guarded i0_trains i0_omen i0_train i1_blocks i1_guarded i1_trains i1_omen i1_train lockA seenA whr homes isSeen leftA were tape would (rw 0) (rw 1) (rw 2) (rw 3)) ++ pl))) (va_A ((oW ad ca kept locks seenMany bumpMinute bumpBlock bumpTrains waited keptOut used taped fault costSum safeSum allWays torn n_blocks n_guarded n_trains n_omen n_train t_blocks t_guarded t_trains t_omen t_train i0_blocks i0_guarded i0_trains i0_omen i0_train i1_blocks i1_guarded i1_trains i1_omen i1_train lockA seenA whr homes isSeen leftA were tape would (rw 0) (rw 1) (rw 2) (rw 3)) ++ pl) sz)) 3 1010 (va_A ((oW ad ca kept locks seenMany bumpMinute bumpBlock bumpTrains waited keptOut used taped fault costSum safeSum allWays torn n_blocks n_guarded n_trains n_omen n_train t_blocks t_guarded t_trains t_omen t_train i0_blocks i0_guarded i0_trains i0_omen i0_train i1_blocks i1_guarded i1_trains i1_omen i1_train lockA seenA whr homes isSeen leftA were tape would (rw 0) (rw 1) (rw 2) (rw 3)) ++ pl) sz) := by
  unfold C_read at G
  refine met_ofN ?_
  refine met_ofHF (hh := [(40, 100, 110, 307), (101, 107, 110, 307), (40, 100, 118, 318), (101, 107, 118, 318), (40, 100, 126, 309), (101, 107, 126, 309)]) (fun A => (va_Qi (fun (r : Int32) (u : (Int32 × Int32 × Int32 × Int32 × (Nat → Int32) × (Nat → Int32) × Int32 × Int32 × Int32 × (Nat → Int32) × (Nat → Int32))) => Q r u.1 u.2.1 u.2.2.1 u.2.2.2.1 u.2.2.2.2.1 u.2.2.2.2.2.1 u.2.2.2.2.2.2.1 u.2.2.2.2.2.2.2.1 u.2.2.2.2.2.2.2.2.1 u.2.2.2.2.2.2.2.2.2.1 u.2.2.2.2.2.2.2.2.2.2) (wpost D vwCl A (fun (u : (Int32 × Int32 × Int32 × Int32 × (Nat → Int32) × (Nat → Int32) × Int32 × Int32 × Int32 × (Nat → Int32) × (Nat → Int32))) => ((oW ad ca kept locks seenMany bumpMinute bumpBlock bumpTrains waited keptOut used taped fault costSum safeSum allWays u.1 u.2.1 u.2.2.1 u.2.2.2.1 u.2.2.2.2.1 u.2.2.2.2.2.1 u.2.2.2.2.2.2.1 u.2.2.2.2.2.2.2.1 u.2.2.2.2.2.2.2.2.1 u.2.2.2.2.2.2.2.2.2.1 u.2.2.2.2.2.2.2.2.2.2 i0_blocks i0_guarded i0_trains i0_omen i0_train i1_blocks i1_guarded i1_trains i1_omen i1_train lockA seenA whr homes isSeen leftA were tape would (rw 0) (rw 1) (rw 2) (rw 3)) ++ pl))) A)) (fun _ => (fun _ _ _ _ => False)) (by decide) (Nat.le_of_ble_eq_true rfl) ?_
  intro p e s m args below meth c Z A hZ C hE hNC hnh hmn H locs hP hD hS ls hl
  have hx := C.1; have hb := C.2.1; have hr := C.2.2.1; have hlocks := C.2.2.2.1; have hml := C.2.2.2.2.1; have hown := C.2.2.2.2.2.1; have hts := C.2.2.2.2.2.2.1; have hn := C.2.2.2.2.2.2.2.1; have hK := C.2.2.2.2.2.2.2.2.1; have hA := C.2.2.2.2.2.2.2.2.2
  have hl : lv_has ls 8 [(0, .ref (ad 0)), (1, .int x1), (2, .int x2), (3, .int x3), (4, .int x4)] := hl
  refine lv_iload_n hx hb dX0_read_0 rfl (lv_at hl 1 rfl) ?_
  refine lv_iload_n hx hb dX0_read_1 rfl (lv_at hl 2 rfl) ?_
  refine wc_Sik (As := [.int x1, .int x2]) (rest := []) C (met_C_isSheet l D ca H.size x1 x2) (va_cwS 2 hts (lw_S q836 q837 q68 q838) rfl rfl rfl (by decide +kernel) ⟨Nat.le_of_ble_eq_true rfl, Nat.le_of_ble_eq_true rfl⟩) hP hD hS [] rfl (by decide) rfl rfl hl.1 (Nat.le_of_ble_eq_true rfl) dX0_read_2 ⟨Nat.le_of_ble_eq_true rfl, Nat.le_of_ble_eq_true rfl⟩ (fun r_1 u H locs hr hP hD hS => ?_)
  subst hr
  refine lv_if_eq (tgt := 21) hx hb dX0_read_5 (by decide) (fun cz => ?_) (fun cz => ?_)
  · refine lv_iconst (v := -1) hx hb dX0_read_21 (by decide) ?_
    rw [hZ]
    refine vx_ret ?_
    refine W.widen (k := 3) (n := 1010) (by omega) (by omega) ?_
    exact W.iret hx hb hr (fun t ht hW => ⟨⟨_, (torn, n_blocks, n_guarded, n_trains, n_omen, n_train, t_blocks, t_guarded, t_trains, t_omen, t_train), rfl, (G.1 cz), by rw [ht]; exact hP, hD⟩, hS.F ht⟩) hS.2.2 dX0_read_22 hlocks
  · have G := G.2 cz
    refine lv_iload hx hb dX0_read_8 (lv_at hl 4 rfl) ?_
    refine lv_i2l hx hb dX0_read_10 rfl ?_
    refine lv_lconst (v := 0) hx hb dX0_read_11 (by decide) ?_
    refine lv_ldc2 hx hb hown (hts _ q793) dX0_read_12 ?_
    refine wc_Sik (As := [.long ((x4).toInt64), .long (0 : Int64), .long (20 : Int64)]) (rest := []) C (met_C_in l D ca H.size ((x4).toInt64) (0 : Int64) (20 : Int64)) (va_cwS 3 hts (lw_S q271 q272 q68 q273) rfl rfl rfl (by decide +kernel) ⟨Nat.le_of_ble_eq_true rfl, Nat.le_of_ble_eq_true rfl⟩) hP hD hS [] rfl (by decide) rfl rfl hl.1 (Nat.le_of_ble_eq_true rfl) dX0_read_15 ⟨Nat.le_of_ble_eq_true rfl, Nat.le_of_ble_eq_true rfl⟩ (fun r_2 u H locs hr hP hD hS => ?_)
    subst hr
    refine lv_if_ne (tgt := 23) hx hb dX0_read_18 (by decide) (fun c2 => ?_) (fun c2 => ?_)
    · obtain ⟨hk, G⟩ := G.2 c2
      refine lv_aload_n hx hb dX0_read_23 rfl (lv_at hl 0 rfl) ?_
      refine va_get hx hb hts in_X0 hown hK hP 0 rfl rfl 2 (by decide) (hts _ q179) (fun _ h => h) rfl dX0_read_24 ?_
      refine lv_aload_n hx hb dX0_read_27 rfl (lv_at hl 0 rfl) ?_
      refine va_get hx hb hts in_X0 hown hK hP 0 rfl rfl 1 (by decide) (hts _ q178) (fun _ h => h) rfl dX0_read_28 ?_
      refine wc_Vvp (As := [.ref (ad 6)]) (rest := []) C (met_B_as l D (ad 9) (ad 10) (ad 11) (ad 6) (ad 7) (ad 8) ca H.size t_blocks t_guarded t_trains t_omen t_train n_blocks n_guarded n_trains n_omen n_train _ G) (cwV 1 hts (lw_V q555 q556 q557 q73 q558) rfl rfl rfl (by decide +kernel) ⟨Nat.le_of_ble_eq_true rfl, Nat.le_of_ble_eq_true rfl⟩) hP hD hS [9, 10, 11, 6, 7, 8] [0, 1, 2, 3, 4, 5, 12, 13, 14, 15, 16, 17, 18, 19, 20, 21, 22, 23, 24, 25, 26, 27, 28, 29, 30, 31, 32] rfl rfl (by decide) (by decide) (by decide) 9 rfl rfl rfl rfl hl.1 (Nat.le_of_ble_eq_true rfl) dX0_read_31 ⟨Nat.le_of_ble_eq_true rfl, Nat.le_of_ble_eq_true rfl⟩ (fun u H locs G hP hD hS => ?_)
      obtain ⟨t_blocks_4, t_guarded_5, t_trains_6, t_omen_7, t_train_8⟩ := u
      have hP : va_P D vwCl ((oW ad ca kept locks seenMany bumpMinute bumpBlock bumpTrains waited keptOut used taped fault costSum safeSum allWays torn n_blocks n_guarded n_trains n_omen n_train t_blocks_4 t_guarded_5 t_trains_6 t_omen_7 t_train_8 i0_blocks i0_guarded i0_trains i0_omen i0_train i1_blocks i1_guarded i1_trains i1_omen i1_train lockA seenA whr homes isSeen leftA were tape would (rw 0) (rw 1) (rw 2) (rw 3)) ++ pl) H := wc_canP hP [0, 1, 2, 3, 4, 5, 30, 31, 32, 27, 28, 29, 6, 7, 8, 9, 10, 11, 12, 13, 14, 15, 16, 17, 18, 19, 20, 21, 22, 23, 24, 25, 26] rfl
      have hD : va_D A ((oW ad ca kept locks seenMany bumpMinute bumpBlock bumpTrains waited keptOut used taped fault costSum safeSum allWays torn n_blocks n_guarded n_trains n_omen n_train t_blocks_4 t_guarded_5 t_trains_6 t_omen_7 t_train_8 i0_blocks i0_guarded i0_trains i0_omen i0_train i1_blocks i1_guarded i1_trains i1_omen i1_train lockA seenA whr homes isSeen leftA were tape would (rw 0) (rw 1) (rw 2) (rw 3)) ++ pl) := wc_canD hD [0, 1, 2, 3, 4, 5, 30, 31, 32, 27, 28, 29, 6, 7, 8, 9, 10, 11, 12, 13, 14, 15, 16, 17, 18, 19, 20, 21, 22, 23, 24, 25, 26] (by decide) rfl
      obtain ⟨N, G⟩ := G
      refine lv_iconst (v := 0) hx hb dX0_read_34 (by decide) ?_
      refine lv_istore (lv' := [(5, .int (0 : Int32)), (0, .ref (ad 0)), (1, .int x1), (2, .int x2), (3, .int x3), (4, .int x4)]) hx hb dX0_read_35 hl (by decide) rfl (fun ls hl => ?_)
      refine lv_iconst (v := 0) hx hb dX0_read_37 (by decide) ?_
      refine lv_istore (lv' := [(6, .int (0 : Int32)), (5, .int (0 : Int32)), (0, .ref (ad 0)), (1, .int x1), (2, .int x2), (3, .int x3), (4, .int x4)]) hx hb dX0_read_38 hl (by decide) rfl (fun ls hl => ?_)
      have hend : ∀ (w i : Int32) (om : Nat → Int32) (ls : Array Slot) (H : Heap) (locs : List Loc) (c0 n0 : Nat), c0 ≤ 3 → n0 ≤ 1010 → (fun w i om => Q i w n_blocks n_guarded n_trains om n_train t_blocks_4 t_guarded_5 t_trains_6 t_omen_7 t_train_8) w i om → lv_has ls 8 [(5, .int w), (0, .ref (ad 0)), (6, .int i)] → va_P D vwCl ((oW ad ca kept locks seenMany bumpMinute bumpBlock bumpTrains waited keptOut used taped fault costSum safeSum allWays torn n_blocks n_guarded n_trains om n_train t_blocks_4 t_guarded_5 t_trains_6 t_omen_7 t_train_8 i0_blocks i0_guarded i0_trains i0_omen i0_train i1_blocks i1_guarded i1_trains i1_omen i1_train lockA seenA whr homes isSeen leftA were tape would (rw 0) (rw 1) (rw 2) (rw 3)) ++ pl) H → va_D A ((oW ad ca kept locks seenMany bumpMinute bumpBlock bumpTrains waited keptOut used taped fault costSum safeSum allWays torn n_blocks n_guarded n_trains om n_train t_blocks_4 t_guarded_5 t_trains_6 t_omen_7 t_train_8 i0_blocks i0_guarded i0_trains i0_omen i0_train i1_blocks i1_guarded i1_trains i1_omen i1_train lockA seenA whr homes isSeen leftA were tape would (rw 0) (rw 1) (rw 2) (rw 3)) ++ pl) → va_S A s.heap H locs → W p l e rm_C_read s m args below meth c H locs c0 n0 Z (F0 m 131 ls []) := by
        intro w i om ls H locs c0 n0 hc0 hn0 g hl hP hD hS
        refine lv_aload_n hx hb dX0_read_131 rfl (lv_at hl 1 rfl) ?_
        refine lv_iload hx hb dX0_read_132 (lv_at hl 0 rfl) ?_
        refine va_put hx hb hts in_X0 tyX0 tyX0_ok nmX0 hown hK hP hD hS 0 rfl rfl 28 (by decide) (hts _ q206) (fun _ h => h) rfl (tyX0_ok 28 (by decide)) rfl rfl (Nat.le_of_ble_eq_true rfl) dX0_read_134 (fun H locs hP hD hS => ?_)
        have hP : va_P D vwCl ((oW ad ca kept locks seenMany bumpMinute bumpBlock bumpTrains waited keptOut used taped fault costSum safeSum allWays w n_blocks n_guarded n_trains om n_train t_blocks_4 t_guarded_5 t_trains_6 t_omen_7 t_train_8 i0_blocks i0_guarded i0_trains i0_omen i0_train i1_blocks i1_guarded i1_trains i1_omen i1_train lockA seenA whr homes isSeen leftA were tape would (rw 0) (rw 1) (rw 2) (rw 3)) ++ pl) H := hP
        have hD : va_D A ((oW ad ca kept locks seenMany bumpMinute bumpBlock bumpTrains waited keptOut used taped fault costSum safeSum allWays w n_blocks n_guarded n_trains om n_train t_blocks_4 t_guarded_5 t_trains_6 t_omen_7 t_train_8 i0_blocks i0_guarded i0_trains i0_omen i0_train i1_blocks i1_guarded i1_trains i1_omen i1_train lockA seenA whr homes isSeen leftA were tape would (rw 0) (rw 1) (rw 2) (rw 3)) ++ pl) := hD
        refine lv_iload hx hb dX0_read_137 (lv_at hl 2 rfl) ?_
        rw [hZ]
        refine vx_ret ?_
        refine W.widen (k := 3) (n := 1010) (by omega) (by omega) ?_
        exact W.iret hx hb hr (fun t ht hW => ⟨⟨_, (w, n_blocks, n_guarded, n_trains, om, n_train, t_blocks_4, t_guarded_5, t_trains_6, t_omen_7, t_train_8), rfl, g, by rw [ht]; exact hP, hD⟩, hS.F ht⟩) hS.2.2 dX0_read_139 hlocks
      have hcat : ∀ (pc : Nat) (rest : List Value) (w i : Int32) (om : Nat → Int32) (ls : Array Slot) (H : Heap) (locs : List Loc) (q9 : Nat) (ce : Cell), pc = 56 ∨ pc = 75 → (w = 1 ∨ w = 2 ∨ w = 3) → (fun w i om => Q i w n_blocks n_guarded n_trains om n_train t_blocks_4 t_guarded_5 t_trains_6 t_omen_7 t_train_8) w i om → lv_has ls 8 [(6, .int i), (0, .ref (ad 0))] → va_P D vwCl ((oW ad ca kept locks seenMany bumpMinute bumpBlock bumpTrains waited keptOut used taped fault costSum safeSum allWays torn n_blocks n_guarded n_trains om n_train t_blocks_4 t_guarded_5 t_trains_6 t_omen_7 t_train_8 i0_blocks i0_guarded i0_trains i0_omen i0_train i1_blocks i1_guarded i1_trains i1_omen i1_train lockA seenA whr homes isSeen leftA were tape would (rw 0) (rw 1) (rw 2) (rw 3)) ++ pl) H → va_D A ((oW ad ca kept locks seenMany bumpMinute bumpBlock bumpTrains waited keptOut used taped fault costSum safeSum allWays torn n_blocks n_guarded n_trains om n_train t_blocks_4 t_guarded_5 t_trains_6 t_omen_7 t_train_8 i0_blocks i0_guarded i0_trains i0_omen i0_train i1_blocks i1_guarded i1_trains i1_omen i1_train lockA seenA whr homes isSeen leftA were tape would (rw 0) (rw 1) (rw 2) (rw 3)) ++ pl) → va_S A s.heap H locs → H[q9]? = some ce → ce.vm = .none → s.vm.findClass (exN w) = some ce.cls → vx_W p l e rm_C_read s m args below meth c H locs (0 + 3) (0 + 1010) Z (F0 m pc ls rest) q9 := by
        intro pc rest w i om ls H locs q9 ce hpc hw g hl hP hD hS hc9 hv9 hcl9
        rcases hw with rfl | rfl | rfl
        · rcases hpc with rfl | rfl
          · refine vx_catch (name := nmNPE) (E := nmNPE) hown [] { startPc := 40, endPc := 100, handlerPc := 110, catchType := 307 } [{ startPc := 101, endPc := 107, handlerPc := 110, catchType := 307 }, { startPc := 40, endPc := 100, handlerPc := 118, catchType := 318 }, { startPc := 101, endPc := 107, handlerPc := 118, catchType := 318 }, { startPc := 40, endPc := 100, handlerPc := 126, catchType := 309 }, { startPc := 101, endPc := 107, handlerPc := 126, catchType := 309 }] hnh ?_ (by decide) (by decide) (hts _ q844) (va_Nw.use rfl (hn _ q866 rfl)) hc9 hv9 hcl9 ?_
            · exact fun z h => by cases h
            · refine lv_astore (lv' := [(7, .ref q9), (6, .int i), (0, .ref (ad 0))]) hx hb dX0_read_110 hl (by decide) rfl (fun ls hl => ?_)
              refine lv_iconst (v := 1) hx hb dX0_read_112 (by decide) ?_
              refine lv_istore (lv' := [(5, .int (1 : Int32)), (7, .ref q9), (6, .int i), (0, .ref (ad 0))]) hx hb dX0_read_113 hl (by decide) rfl (fun ls hl => ?_)
              refine lv_goto (tgt := 131) hx hb dX0_read_115 (by decide) ?_
              exact hend 1 i om ls H locs _ _ (by decide) (by decide) g (lv_sub hl [0, 3, 2] rfl) hP hD hS
          · refine vx_catch (name := nmNPE) (E := nmNPE) hown [] { startPc := 40, endPc := 100, handlerPc := 110, catchType := 307 } [{ startPc := 101, endPc := 107, handlerPc := 110, catchType := 307 }, { startPc := 40, endPc := 100, handlerPc := 118, catchType := 318 }, { startPc := 101, endPc := 107, handlerPc := 118, catchType := 318 }, { startPc := 40, endPc := 100, handlerPc := 126, catchType := 309 }, { startPc := 101, endPc := 107, handlerPc := 126, catchType := 309 }] hnh ?_ (by decide) (by decide) (hts _ q844) (va_Nw.use rfl (hn _ q866 rfl)) hc9 hv9 hcl9 ?_
            · exact fun z h => by cases h
            · refine lv_astore (lv' := [(7, .ref q9), (6, .int i), (0, .ref (ad 0))]) hx hb dX0_read_110 hl (by decide) rfl (fun ls hl => ?_)
              refine lv_iconst (v := 1) hx hb dX0_read_112 (by decide) ?_
              refine lv_istore (lv' := [(5, .int (1 : Int32)), (7, .ref q9), (6, .int i), (0, .ref (ad 0))]) hx hb dX0_read_113 hl (by decide) rfl (fun ls hl => ?_)
              refine lv_goto (tgt := 131) hx hb dX0_read_115 (by decide) ?_
              exact hend 1 i om ls H locs _ _ (by decide) (by decide) g (lv_sub hl [0, 3, 2] rfl) hP hD hS
        · rcases hpc with rfl | rfl
          · refine vx_catch (name := nmIOB) (E := nmAIO) hown [{ startPc := 40, endPc := 100, handlerPc := 110, catchType := 307 }, { startPc := 101, endPc := 107, handlerPc := 110, catchType := 307 }, { startPc := 40, endPc := 100, handlerPc := 118, catchType := 318 }, { startPc := 101, endPc := 107, handlerPc := 118, catchType := 318 }] { startPc := 40, endPc := 100, handlerPc := 126, catchType := 309 } [{ startPc := 101, endPc := 107, handlerPc := 126, catchType := 309 }] hnh ?_ (by decide) (by decide) (hts _ q869) (va_Nw.use rfl (hn _ q1359 rfl)) hc9 hv9 hcl9 ?_
            · intro z hz
              simp only [List.mem_cons, List.not_mem_nil, or_false] at hz
              rcases hz with rfl | rfl | rfl | rfl
              · exact Or.inr ⟨by decide, nmNPE, hts _ q844, hNC (nmAIO, nmNPE) (by decide)⟩
              · exact Or.inl (by decide)
              · exact Or.inr ⟨by decide, nmCCE, hts _ q895, hNC (nmAIO, nmCCE) (by decide)⟩
              · exact Or.inl (by decide)
            · refine lv_astore (lv' := [(7, .ref q9), (6, .int i), (0, .ref (ad 0))]) hx hb dX0_read_126 hl (by decide) rfl (fun ls hl => ?_)
              refine lv_iconst (v := 2) hx hb dX0_read_128 (by decide) ?_
              refine lv_istore (lv' := [(5, .int (2 : Int32)), (7, .ref q9), (6, .int i), (0, .ref (ad 0))]) hx hb dX0_read_129 hl (by decide) rfl (fun ls hl => ?_)
              exact hend 2 i om ls H locs _ _ (by decide) (by decide) g (lv_sub hl [0, 3, 2] rfl) hP hD hS
          · refine vx_catch (name := nmIOB) (E := nmAIO) hown [{ startPc := 40, endPc := 100, handlerPc := 110, catchType := 307 }, { startPc := 101, endPc := 107, handlerPc := 110, catchType := 307 }, { startPc := 40, endPc := 100, handlerPc := 118, catchType := 318 }, { startPc := 101, endPc := 107, handlerPc := 118, catchType := 318 }] { startPc := 40, endPc := 100, handlerPc := 126, catchType := 309 } [{ startPc := 101, endPc := 107, handlerPc := 126, catchType := 309 }] hnh ?_ (by decide) (by decide) (hts _ q869) (va_Nw.use rfl (hn _ q1359 rfl)) hc9 hv9 hcl9 ?_
            · intro z hz
              simp only [List.mem_cons, List.not_mem_nil, or_false] at hz
              rcases hz with rfl | rfl | rfl | rfl
              · exact Or.inr ⟨by decide, nmNPE, hts _ q844, hNC (nmAIO, nmNPE) (by decide)⟩
              · exact Or.inl (by decide)
              · exact Or.inr ⟨by decide, nmCCE, hts _ q895, hNC (nmAIO, nmCCE) (by decide)⟩
              · exact Or.inl (by decide)
            · refine lv_astore (lv' := [(7, .ref q9), (6, .int i), (0, .ref (ad 0))]) hx hb dX0_read_126 hl (by decide) rfl (fun ls hl => ?_)
              refine lv_iconst (v := 2) hx hb dX0_read_128 (by decide) ?_
              refine lv_istore (lv' := [(5, .int (2 : Int32)), (7, .ref q9), (6, .int i), (0, .ref (ad 0))]) hx hb dX0_read_129 hl (by decide) rfl (fun ls hl => ?_)
              exact hend 2 i om ls H locs _ _ (by decide) (by decide) g (lv_sub hl [0, 3, 2] rfl) hP hD hS
        · rcases hpc with rfl | rfl
          · refine vx_catch (name := nmCCE) (E := nmCCE) hown [{ startPc := 40, endPc := 100, handlerPc := 110, catchType := 307 }, { startPc := 101, endPc := 107, handlerPc := 110, catchType := 307 }] { startPc := 40, endPc := 100, handlerPc := 118, catchType := 318 } [{ startPc := 101, endPc := 107, handlerPc := 118, catchType := 318 }, { startPc := 40, endPc := 100, handlerPc := 126, catchType := 309 }, { startPc := 101, endPc := 107, handlerPc := 126, catchType := 309 }] hnh ?_ (by decide) (by decide) (hts _ q895) (va_Nw.use rfl (hn _ q907 rfl)) hc9 hv9 hcl9 ?_
            · intro z hz
              simp only [List.mem_cons, List.not_mem_nil, or_false] at hz
              rcases hz with rfl | rfl
              · exact Or.inr ⟨by decide, nmNPE, hts _ q844, hNC (nmCCE, nmNPE) (by decide)⟩
              · exact Or.inl (by decide)
            · refine lv_astore (lv' := [(7, .ref q9), (6, .int i), (0, .ref (ad 0))]) hx hb dX0_read_118 hl (by decide) rfl (fun ls hl => ?_)
              refine lv_iconst (v := 3) hx hb dX0_read_120 (by decide) ?_
              refine lv_istore (lv' := [(5, .int (3 : Int32)), (7, .ref q9), (6, .int i), (0, .ref (ad 0))]) hx hb dX0_read_121 hl (by decide) rfl (fun ls hl => ?_)
              refine lv_goto (tgt := 131) hx hb dX0_read_123 (by decide) ?_
              exact hend 3 i om ls H locs _ _ (by decide) (by decide) g (lv_sub hl [0, 3, 2] rfl) hP hD hS
          · refine vx_catch (name := nmCCE) (E := nmCCE) hown [{ startPc := 40, endPc := 100, handlerPc := 110, catchType := 307 }, { startPc := 101, endPc := 107, handlerPc := 110, catchType := 307 }] { startPc := 40, endPc := 100, handlerPc := 118, catchType := 318 } [{ startPc := 101, endPc := 107, handlerPc := 118, catchType := 318 }, { startPc := 40, endPc := 100, handlerPc := 126, catchType := 309 }, { startPc := 101, endPc := 107, handlerPc := 126, catchType := 309 }] hnh ?_ (by decide) (by decide) (hts _ q895) (va_Nw.use rfl (hn _ q907 rfl)) hc9 hv9 hcl9 ?_
            · intro z hz
              simp only [List.mem_cons, List.not_mem_nil, or_false] at hz
              rcases hz with rfl | rfl
              · exact Or.inr ⟨by decide, nmNPE, hts _ q844, hNC (nmCCE, nmNPE) (by decide)⟩
              · exact Or.inl (by decide)
            · refine lv_astore (lv' := [(7, .ref q9), (6, .int i), (0, .ref (ad 0))]) hx hb dX0_read_118 hl (by decide) rfl (fun ls hl => ?_)
              refine lv_iconst (v := 3) hx hb dX0_read_120 (by decide) ?_
              refine lv_istore (lv' := [(5, .int (3 : Int32)), (7, .ref q9), (6, .int i), (0, .ref (ad 0))]) hx hb dX0_read_121 hl (by decide) rfl (fun ls hl => ?_)
              refine lv_goto (tgt := 131) hx hb dX0_read_123 (by decide) ?_
              exact hend 3 i om ls H locs _ _ (by decide) (by decide) g (lv_sub hl [0, 3, 2] rfl) hP hD hS
      have hloop : ∀ (N : Nat) (i : Int32) (om : Nat → Int32), C_read_L sh locks n_blocks lockA x1.toNatClampNeg x2 x3 x4 (fun w i om => Q i w n_blocks n_guarded n_trains om n_train t_blocks_4 t_guarded_5 t_trains_6 t_omen_7 t_train_8) (fun i om => (B_as n_blocks n_guarded n_trains om n_train t_blocks_4 t_guarded_5 t_trains_6 t_omen_7 t_train_8 (fun n_blocks_3 n_guarded_3 n_trains_3 n_omen_3 n_train_3 => Q ((-20 : Int32) - i) torn n_blocks_3 n_guarded_3 n_trains_3 n_omen_3 n_train_3 t_blocks_4 t_guarded_5 t_trains_6 t_omen_7 t_train_8))) N i om → ∀ (H : Heap) (locs : List Loc), va_P D vwCl ((oW ad ca kept locks seenMany bumpMinute bumpBlock bumpTrains waited keptOut used taped fault costSum safeSum allWays torn n_blocks n_guarded n_trains om n_train t_blocks_4 t_guarded_5 t_trains_6 t_omen_7 t_train_8 i0_blocks i0_guarded i0_trains i0_omen i0_train i1_blocks i1_guarded i1_trains i1_omen i1_train lockA seenA whr homes isSeen leftA were tape would (rw 0) (rw 1) (rw 2) (rw 3)) ++ pl) H → va_D A ((oW ad ca kept locks seenMany bumpMinute bumpBlock bumpTrains waited keptOut used taped fault costSum safeSum allWays torn n_blocks n_guarded n_trains om n_train t_blocks_4 t_guarded_5 t_trains_6 t_omen_7 t_train_8 i0_blocks i0_guarded i0_trains i0_omen i0_train i1_blocks i1_guarded i1_trains i1_omen i1_train lockA seenA whr homes isSeen leftA were tape would (rw 0) (rw 1) (rw 2) (rw 3)) ++ pl) → va_S A s.heap H locs → ∀ ls : Array Slot, lv_has ls 8 [(6, .int i), (5, .int 0), (4, .int x4), (3, .int x3), (2, .int x2), (1, .int x1), (0, .ref (ad 0))] → W p l e rm_C_read s m args below meth c H locs 0 0 Z (F0 m 40 ls []) := by
        intro N
        induction N with
        | zero => intro i om G; exact G.elim
        | succ N ih =>
          intro i om G H locs hP hD hS ls hl
          refine lv_iload hx hb dX0_read_40 (lv_at hl 0 rfl) ?_
          refine lv_iload hx hb dX0_read_42 (lv_at hl 2 rfl) ?_
          refine lv_icmp_ge (tgt := 107) hx hb dX0_read_44 (by decide) (fun c3 => ?_) (fun c3 => ?_)
          · refine lv_goto (tgt := 131) hx hb dX0_read_107 (by decide) ?_
            exact hend 0 i om ls H locs 0 0 (by decide) (by decide) (G.1 c3) (lv_sub hl [1, 6, 0] rfl) hP hD hS
          · have G := G.2 c3
            refine lv_aload_n hx hb dX0_read_47 rfl (lv_at hl 6 rfl) ?_
            refine lv_iload_n hx hb dX0_read_48 rfl (lv_at hl 5 rfl) ?_
            refine lv_iload_n hx hb dX0_read_49 rfl (lv_at hl 4 rfl) ?_
            refine lv_iload_n hx hb dX0_read_50 rfl (lv_at hl 3 rfl) ?_
            refine lv_iconst (v := 2) hx hb dX0_read_51 (by decide) ?_
            refine lv_iload hx hb dX0_read_52 (lv_at hl 0 rfl) ?_
            refine lv_imul hx hb dX0_read_54 ?_
            refine lv_iadd hx hb dX0_read_55 ?_
            refine wf_Vi (As := [.int x1, .int x2, .int (x3 + ((2 : Int32) * i))]) (rest := []) C hE hNC (met_C_takenOf l hst D sk sv ad ca pl H.size kept locks seenMany bumpMinute bumpBlock bumpTrains waited keptOut used taped fault costSum safeSum allWays torn n_blocks n_guarded n_trains om n_train t_blocks_4 t_guarded_5 t_trains_6 t_omen_7 t_train_8 i0_blocks i0_guarded i0_trains i0_omen i0_train i1_blocks i1_guarded i1_trains i1_omen i1_train lockA seenA whr homes isSeen leftA were tape would rw sh hR x1 x2 (x3 + ((2 : Int32) * i)) hk) (cwV 3 hts (lw_V q909 q911 qs35 q68 q912) rfl rfl rfl (by decide +kernel) ⟨Nat.le_of_ble_eq_true rfl, Nat.le_of_ble_eq_true rfl⟩) hP hD hS 0 rfl rfl rfl rfl hl.1 (Nat.le_of_ble_eq_true rfl) dX0_read_56 (by decide) (fun q9 ce H locs hw hP hD hS hc9 hv9 hcl9 => ?_) (fun r H locs hr9 hP hD hS => ?_)
            · exact hcat 56 _ _ i om ls H locs q9 ce (by decide) (takeW_3 hw) (G.1 hw) (lv_sub hl [0, 6] rfl) hP hD hS hc9 hv9 hcl9
            obtain ⟨hw1, rfl⟩ := hr9
            have G := G.2 hw1
            refine lv_istore (lv' := [(7, .int (takeV sh x1.toNatClampNeg (x3 + ((2 : Int32) * i)))), (6, .int i), (5, .int 0), (4, .int x4), (3, .int x3), (2, .int x2), (1, .int x1), (0, .ref (ad 0))]) hx hb dX0_read_59 hl (by decide) rfl (fun ls hl => ?_)
            refine lv_aload_n hx hb dX0_read_61 rfl (lv_at hl 7 rfl) ?_
            refine lv_iload hx hb dX0_read_62 (lv_at hl 0 rfl) ?_
            refine lv_aload_n hx hb dX0_read_64 rfl (lv_at hl 7 rfl) ?_
            refine lv_iload_n hx hb dX0_read_65 rfl (lv_at hl 6 rfl) ?_
            refine lv_iload_n hx hb dX0_read_66 rfl (lv_at hl 5 rfl) ?_
            refine lv_iload_n hx hb dX0_read_67 rfl (lv_at hl 4 rfl) ?_
            refine lv_iconst (v := 2) hx hb dX0_read_68 (by decide) ?_
            refine lv_iload hx hb dX0_read_69 (lv_at hl 1 rfl) ?_
            refine lv_imul hx hb dX0_read_71 ?_
            refine lv_iadd hx hb dX0_read_72 ?_
            refine lv_iconst (v := 1) hx hb dX0_read_73 (by decide) ?_
            refine lv_iadd hx hb dX0_read_74 ?_
            refine wf_Vi (As := [.int x1, .int x2, .int ((x3 + ((2 : Int32) * i)) + (1 : Int32))]) (rest := [.int (takeV sh x1.toNatClampNeg (x3 + ((2 : Int32) * i))), .ref (ad 0)]) C hE hNC (met_C_takenOf l hst D sk sv ad ca pl H.size kept locks seenMany bumpMinute bumpBlock bumpTrains waited keptOut used taped fault costSum safeSum allWays torn n_blocks n_guarded n_trains om n_train t_blocks_4 t_guarded_5 t_trains_6 t_omen_7 t_train_8 i0_blocks i0_guarded i0_trains i0_omen i0_train i1_blocks i1_guarded i1_trains i1_omen i1_train lockA seenA whr homes isSeen leftA were tape would rw sh hR x1 x2 ((x3 + ((2 : Int32) * i)) + (1 : Int32)) hk) (cwV 3 hts (lw_V q909 q911 qs35 q68 q912) rfl rfl rfl (by decide +kernel) ⟨Nat.le_of_ble_eq_true rfl, Nat.le_of_ble_eq_true rfl⟩) hP hD hS 0 rfl rfl rfl rfl hl.1 (Nat.le_of_ble_eq_true rfl) dX0_read_75 (by decide) (fun q9 ce H locs hw hP hD hS hc9 hv9 hcl9 => ?_) (fun r H locs hr9 hP hD hS => ?_)
            · exact hcat 75 _ _ i om ls H locs q9 ce (by decide) (takeW_3 hw) (G.1 hw) (lv_sub hl [1, 7] rfl) hP hD hS hc9 hv9 hcl9
            obtain ⟨hw2, rfl⟩ := hr9
            have G := G.2 hw2
            refine wc_Vi (As := [.int (takeV sh x1.toNatClampNeg (x3 + ((2 : Int32) * i))), .int (takeV sh x1.toNatClampNeg ((x3 + ((2 : Int32) * i)) + (1 : Int32)))]) (rest := []) C (met_C_hang l D ad ca pl H.size kept locks seenMany bumpMinute bumpBlock bumpTrains waited keptOut used taped fault costSum safeSum allWays torn n_blocks n_guarded n_trains om n_train t_blocks_4 t_guarded_5 t_trains_6 t_omen_7 t_train_8 i0_blocks i0_guarded i0_trains i0_omen i0_train i1_blocks i1_guarded i1_trains i1_omen i1_train lockA seenA whr homes isSeen leftA were tape would (rw 0) (rw 1) (rw 2) (rw 3) (takeV sh x1.toNatClampNeg (x3 + ((2 : Int32) * i))) (takeV sh x1.toNatClampNeg ((x3 + ((2 : Int32) * i)) + (1 : Int32))) _ G) (cwV 2 hts (lw_V q913 q628 q629 q68 q630) rfl rfl rfl (by decide +kernel) ⟨Nat.le_of_ble_eq_true rfl, Nat.le_of_ble_eq_true rfl⟩) hP hD hS 0 rfl rfl rfl rfl hl.1 (Nat.le_of_ble_eq_true rfl) dX0_read_78 ⟨Nat.le_of_ble_eq_true rfl, Nat.le_of_ble_eq_true rfl⟩ (fun r_9 u H locs G hP hD hS => ?_)
            obtain ⟨n_omen_10, rfl⟩ : ∃ z, z = u := ⟨u, rfl⟩
            have hP : va_P D vwCl ((oW ad ca kept locks seenMany bumpMinute bumpBlock bumpTrains waited keptOut used taped fault costSum safeSum allWays torn n_blocks n_guarded n_trains n_omen_10 n_train t_blocks_4 t_guarded_5 t_trains_6 t_omen_7 t_train_8 i0_blocks i0_guarded i0_trains i0_omen i0_train i1_blocks i1_guarded i1_trains i1_omen i1_train lockA seenA whr homes isSeen leftA were tape would (rw 0) (rw 1) (rw 2) (rw 3)) ++ pl) H := hP
            have hD : va_D A ((oW ad ca kept locks seenMany bumpMinute bumpBlock bumpTrains waited keptOut used taped fault costSum safeSum allWays torn n_blocks n_guarded n_trains n_omen_10 n_train t_blocks_4 t_guarded_5 t_trains_6 t_omen_7 t_train_8 i0_blocks i0_guarded i0_trains i0_omen i0_train i1_blocks i1_guarded i1_trains i1_omen i1_train lockA seenA whr homes isSeen leftA were tape would (rw 0) (rw 1) (rw 2) (rw 3)) ++ pl) := hD
            refine lv_if_ge (tgt := 101) hx hb dX0_read_81 (by decide) (fun c4 => ?_) (fun c4 => ?_)
            · refine lv_iinc (v := (i + (1 : Int32))) (lv' := [(6, .int (i + (1 : Int32))), (7, .int (takeV sh x1.toNatClampNeg (x3 + ((2 : Int32) * i)))), (5, .int 0), (4, .int x4), (3, .int x3), (2, .int x2), (1, .int x1), (0, .ref (ad 0))]) hx hb dX0_read_101 hl (k := 1) rfl rfl (by decide) rfl (fun ls hl => ?_)
              refine lv_goto (tgt := 40) hx hb dX0_read_104 (by decide) ?_
              exact ih _ _ (G.1 c4) H locs hP hD hS ls (lv_sub hl [0, 2, 3, 4, 5, 6, 7] rfl)
            · have G := G.2 c4
              refine lv_aload_n hx hb dX0_read_84 rfl (lv_at hl 7 rfl) ?_
              refine va_get hx hb hts in_X0 hown hK hP 0 rfl rfl 1 (by decide) (hts _ q178) (fun _ h => h) rfl dX0_read_85 ?_
              refine lv_aload_n hx hb dX0_read_88 rfl (lv_at hl 7 rfl) ?_
              refine va_get hx hb hts in_X0 hown hK hP 0 rfl rfl 2 (by decide) (hts _ q179) (fun _ h => h) rfl dX0_read_89 ?_
              refine wc_Vvp (As := [.ref (ad 9)]) (rest := []) C (met_B_as l D (ad 6) (ad 7) (ad 8) (ad 9) (ad 10) (ad 11) ca H.size n_blocks n_guarded n_trains n_omen_10 n_train t_blocks_4 t_guarded_5 t_trains_6 t_omen_7 t_train_8 _ G) (cwV 1 hts (lw_V q555 q556 q557 q73 q558) rfl rfl rfl (by decide +kernel) ⟨Nat.le_of_ble_eq_true rfl, Nat.le_of_ble_eq_true rfl⟩) hP hD hS [6, 7, 8, 9, 10, 11] [0, 1, 2, 3, 4, 5, 12, 13, 14, 15, 16, 17, 18, 19, 20, 21, 22, 23, 24, 25, 26, 27, 28, 29, 30, 31, 32] rfl rfl (by decide) (by decide) (by decide) 6 rfl rfl rfl rfl hl.1 (Nat.le_of_ble_eq_true rfl) dX0_read_92 ⟨Nat.le_of_ble_eq_true rfl, Nat.le_of_ble_eq_true rfl⟩ (fun u H locs G hP hD hS => ?_)
              obtain ⟨n_blocks_12, n_guarded_13, n_trains_14, n_omen_15, n_train_16⟩ := u
              have hP : va_P D vwCl ((oW ad ca kept locks seenMany bumpMinute bumpBlock bumpTrains waited keptOut used taped fault costSum safeSum allWays torn n_blocks_12 n_guarded_13 n_trains_14 n_omen_15 n_train_16 t_blocks_4 t_guarded_5 t_trains_6 t_omen_7 t_train_8 i0_blocks i0_guarded i0_trains i0_omen i0_train i1_blocks i1_guarded i1_trains i1_omen i1_train lockA seenA whr homes isSeen leftA were tape would (rw 0) (rw 1) (rw 2) (rw 3)) ++ pl) H := wc_canP hP [0, 1, 2, 3, 4, 5, 27, 28, 29, 30, 31, 32, 6, 7, 8, 9, 10, 11, 12, 13, 14, 15, 16, 17, 18, 19, 20, 21, 22, 23, 24, 25, 26] rfl
              have hD : va_D A ((oW ad ca kept locks seenMany bumpMinute bumpBlock bumpTrains waited keptOut used taped fault costSum safeSum allWays torn n_blocks_12 n_guarded_13 n_trains_14 n_omen_15 n_train_16 t_blocks_4 t_guarded_5 t_trains_6 t_omen_7 t_train_8 i0_blocks i0_guarded i0_trains i0_omen i0_train i1_blocks i1_guarded i1_trains i1_omen i1_train lockA seenA whr homes isSeen leftA were tape would (rw 0) (rw 1) (rw 2) (rw 3)) ++ pl) := wc_canD hD [0, 1, 2, 3, 4, 5, 27, 28, 29, 30, 31, 32, 6, 7, 8, 9, 10, 11, 12, 13, 14, 15, 16, 17, 18, 19, 20, 21, 22, 23, 24, 25, 26] (by decide) rfl
              refine lv_bipush (v := -20) hx hb dX0_read_95 (by decide) ?_
              refine lv_iload hx hb dX0_read_97 (lv_at hl 1 rfl) ?_
              refine lv_isub hx hb dX0_read_99 ?_
              rw [hZ]
              refine vx_ret ?_
              refine W.widen (k := 3) (n := 1010) (by omega) (by omega) ?_
              exact W.iret hx hb hr (fun t ht hW => ⟨⟨_, (torn, n_blocks_12, n_guarded_13, n_trains_14, n_omen_15, n_train_16, t_blocks_4, t_guarded_5, t_trains_6, t_omen_7, t_train_8), rfl, G, by rw [ht]; exact hP, hD⟩, hS.F ht⟩) hS.2.2 dX0_read_100 hlocks
      exact hloop N 0 n_omen G H locs hP hD hS ls (lv_sub hl [0, 1, 6, 5, 4, 3, 2] rfl)
    · refine lv_iconst (v := -1) hx hb dX0_read_21 (by decide) ?_
      rw [hZ]
      refine vx_ret ?_
      refine W.widen (k := 3) (n := 1010) (by omega) (by omega) ?_
      exact W.iret hx hb hr (fun t ht hW => ⟨⟨_, (torn, n_blocks, n_guarded, n_trains, n_omen, n_train, t_blocks, t_guarded, t_trains, t_omen, t_train), rfl, (G.1 c2), by rw [ht]; exact hP, hD⟩, hS.F ht⟩) hS.2.2 dX0_read_22 hlocks
