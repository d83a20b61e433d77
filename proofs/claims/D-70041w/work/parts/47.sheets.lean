set_option maxRecDepth 100000
/-! OmenLine.takenOf, lay, count, sheet, read -/
theorem vi4_0 : vp_in (0 : Int32) 4 := by unfold vp_in; decide
theorem vi4_1 : vp_in (1 : Int32) 4 := by unfold vp_in; decide
theorem vi4_2 : vp_in (2 : Int32) 4 := by unfold vp_in; decide
theorem vi4_3 : vp_in (3 : Int32) 4 := by unfold vp_in; decide
theorem vi4_lt {x : Int32} (h : vp_in x 4) : x.toNatClampNeg < 4 := by
  rcases vi_four h with rfl | rfl | rfl | rfl <;> decide
theorem laneT_0 {x : Int32} (c : x = 0) : laneT x = 2 := by unfold laneT; rw [if_pos c]
theorem laneT_1 {x : Int32} (c : ¬ x = 0) (c' : x = 1) : laneT x = 3 := by unfold laneT; rw [if_neg c, if_pos c']
theorem laneT_2 {x : Int32} (c : ¬ x = 0) (c' : ¬ x = 1) : laneT x = 0 := by unfold laneT; rw [if_neg c, if_neg c']
theorem takeW_none {sh : Sh} {k : Nat} {l i : Int32} (h : sh k = none) : takeW sh k l i = 1 := by simp only [takeW, h]
theorem takeW_some {sh : Sh} {k t n : Nat} {f : Nat → Int32} {l i : Int32} (h : sh k = some (t, n, f)) : takeW sh k l i = if t = laneT l then (if i < 0 ∨ n ≤ i.toNatClampNeg then 2 else 0) else 3 := by simp only [takeW, h]
theorem takeV_some {sh : Sh} {k t n : Nat} {f : Nat → Int32} {i : Int32} (h : sh k = some (t, n, f)) : takeV sh k i = f i.toNatClampNeg := by simp only [takeV, h]
theorem wc_at {X pl : va_W} {j n : Nat} {x : Nat × va_E} (hn : X.length = n) (h : pl[j]? = some x) : (X ++ pl)[n + j]? = some x := by
  subst hn
  rw [List.getElem?_append_right (Nat.le_add_right _ _), Nat.add_sub_cancel_left]
  exact h
theorem wc_setr {X pl : va_W} {j n : Nat} {x : Nat × va_E} (hn : X.length = n) : (X ++ pl).set (n + j) x = X ++ pl.set j x := by
  subst hn
  rw [List.set_append_right _ _ (Nat.le_add_right _ _), Nat.add_sub_cancel_left]
section WC9
variable {p : Program} {l : Launch} {e : Env} {R : Room} {s : State} {m : MethodId} {args : Array Value} {below : List Frame} {meth : Method} {c : Code} {H : Heap} {locs : List Loc} {cells slots : Nat} {Z : State → Prop}
variable {D : va_G} {ca : Nat → ClassId} {A : Nat → Prop} {cc : ByteArray} {nL : Nat} {ret0 : Option FieldType} {pc : Nat} {ls : Array Slot} {rest : List Value} {ws : va_W}
theorem wc_rowget (C : cx cc nL ret0 RX0 D vwCl (tyL ca) A p c meth s m args) (hP : va_P D vwCl ws H) {a a0 a1 a2 a3 : Nat} {r : Nat → Option Nat} {i : Int32} (hin : vp_in i 4) (ha : ws[28]? = some (a, .inl (ca 6, 4, .inr (.inr (.inr (.inr (rq [a0, a1, a2, a3]))))))) (h0 : ws[29]? = some (a0, .inr (6, [va_rf (r 0)]))) (h1 : ws[30]? = some (a1, .inr (6, [va_rf (r 1)]))) (h2 : ws[31]? = some (a2, .inr (6, [va_rf (r 2)]))) (h3 : ws[32]? = some (a3, .inr (6, [va_rf (r 3)]))) (hd1 : decode cc pc = .ok (.aaload, 1)) (hd2 : decode cc (pc + 1) = .ok (.getfield 297, 3))
    (kk : W p l e R s m args below meth c H locs cells slots Z (F0 m (pc + 1 + 3) ls (va_rf (r i.toNatClampNeg) :: rest))) : W p l e R s m args below meth c H locs cells slots Z (F0 m pc ls (.int i :: .ref a :: rest)) := by
  have hx := C.1; have hb := C.2.1; have hr := C.2.2.1; have hlocks := C.2.2.2.1; have hml := C.2.2.2.2.1; have hown := C.2.2.2.2.2.1; have hts := C.2.2.2.2.2.2.1; have hn := C.2.2.2.2.2.2.2.1; have hK := C.2.2.2.2.2.2.2.2.1; have hA := C.2.2.2.2.2.2.2.2.2
  rcases vi_four hin with rfl | rfl | rfl | rfl
  · exact wc_aldq hx hb hK hP 28 6 (v := a0) ha rfl vi4_0 rfl hd1 (va_getN hx hb hts in_X6 hown hK hP 29 h0 rfl 0 (by decide) (va_Nw.use rfl (hn _ q171 rfl)) (fun _ h => h) rfl hd2 kk)
  · exact wc_aldq hx hb hK hP 28 6 (v := a1) ha rfl vi4_1 rfl hd1 (va_getN hx hb hts in_X6 hown hK hP 30 h1 rfl 0 (by decide) (va_Nw.use rfl (hn _ q171 rfl)) (fun _ h => h) rfl hd2 kk)
  · exact wc_aldq hx hb hK hP 28 6 (v := a2) ha rfl vi4_2 rfl hd1 (va_getN hx hb hts in_X6 hown hK hP 31 h2 rfl 0 (by decide) (va_Nw.use rfl (hn _ q171 rfl)) (fun _ h => h) rfl hd2 kk)
  · exact wc_aldq hx hb hK hP 28 6 (v := a3) ha rfl vi4_3 rfl hd1 (va_getN hx hb hts in_X6 hown hK hP 32 h3 rfl 0 (by decide) (va_Nw.use rfl (hn _ q171 rfl)) (fun _ h => h) rfl hd2 kk)
theorem wc_rowput (C : cx cc nL ret0 RX0 D vwCl (tyL ca) A p c meth s m args) (wF : (Nat → Option Nat) → va_W) {r : Nat → Option Nat} (hP : va_P D vwCl (wF r) H) (hD : va_D A (wF r)) (hS : va_S A s.heap H locs) {q a0 a1 a2 a3 : Nat} {i : Int32} (hin : vp_in i 4) (h0 : (wF r)[29]? = some (a0, .inr (6, [va_rf (r 0)]))) (h1 : (wF r)[30]? = some (a1, .inr (6, [va_rf (r 1)]))) (h2 : (wF r)[31]? = some (a2, .inr (6, [va_rf (r 2)]))) (h3 : (wF r)[32]? = some (a3, .inr (6, [va_rf (r 3)])))
    (g0 : (wF r).set 29 (a0, .inr (6, [.ref q])) = wF (shSet r 0 (some q))) (g1 : (wF r).set 30 (a1, .inr (6, [.ref q])) = wF (shSet r 1 (some q))) (g2 : (wF r).set 31 (a2, .inr (6, [.ref q])) = wF (shSet r 2 (some q))) (g3 : (wF r).set 32 (a3, .inr (6, [.ref q])) = wF (shSet r 3 (some q))) (hdg : decode cc pc = .ok (.putfield 297, 3))
    (kk : ∀ (H1 : Heap) (locs1 : List Loc), va_P D vwCl (wF (shSet r i.toNatClampNeg (some q))) H1 → va_D A (wF (shSet r i.toNatClampNeg (some q))) → va_S A s.heap H1 locs1 → W p l e R s m args below meth c H1 locs1 cells slots Z (F0 m (pc + 3) ls rest)) : W p l e R s m args below meth c H locs cells slots Z (F0 m pc ls (.ref q :: .ref (fsel a0 a1 a2 a3 i) :: rest)) := by
  have hx := C.1; have hb := C.2.1; have hr := C.2.2.1; have hlocks := C.2.2.2.1; have hml := C.2.2.2.2.1; have hown := C.2.2.2.2.2.1; have hts := C.2.2.2.2.2.2.1; have hn := C.2.2.2.2.2.2.2.1; have hK := C.2.2.2.2.2.2.2.2.1; have hA := C.2.2.2.2.2.2.2.2.2
  rcases vi_four hin with rfl | rfl | rfl | rfl
  · refine va_putN hx hb hts in_X6 tyX6 tyX6_ok nmX6 hown hK hP hD hS 29 h0 rfl 0 (by decide) (va_Nw.use rfl (hn _ q171 rfl)) (fun _ h => h) rfl (tyX6_ok 0 (by decide)) rfl rfl (Nat.le_of_ble_eq_true rfl) hdg (fun H1 locs1 hP1 hD1 hS1 => ?_)
    have hP1 : va_P D vwCl ((wF r).set 29 (a0, .inr (6, [.ref q]))) H1 := hP1
    have hD1 : va_D A ((wF r).set 29 (a0, .inr (6, [.ref q]))) := hD1
    rw [g0] at hP1 hD1
    exact kk H1 locs1 hP1 hD1 hS1
  · refine va_putN hx hb hts in_X6 tyX6 tyX6_ok nmX6 hown hK hP hD hS 30 h1 rfl 0 (by decide) (va_Nw.use rfl (hn _ q171 rfl)) (fun _ h => h) rfl (tyX6_ok 0 (by decide)) rfl rfl (Nat.le_of_ble_eq_true rfl) hdg (fun H1 locs1 hP1 hD1 hS1 => ?_)
    have hP1 : va_P D vwCl ((wF r).set 30 (a1, .inr (6, [.ref q]))) H1 := hP1
    have hD1 : va_D A ((wF r).set 30 (a1, .inr (6, [.ref q]))) := hD1
    rw [g1] at hP1 hD1
    exact kk H1 locs1 hP1 hD1 hS1
  · refine va_putN hx hb hts in_X6 tyX6 tyX6_ok nmX6 hown hK hP hD hS 31 h2 rfl 0 (by decide) (va_Nw.use rfl (hn _ q171 rfl)) (fun _ h => h) rfl (tyX6_ok 0 (by decide)) rfl rfl (Nat.le_of_ble_eq_true rfl) hdg (fun H1 locs1 hP1 hD1 hS1 => ?_)
    have hP1 : va_P D vwCl ((wF r).set 31 (a2, .inr (6, [.ref q]))) H1 := hP1
    have hD1 : va_D A ((wF r).set 31 (a2, .inr (6, [.ref q]))) := hD1
    rw [g2] at hP1 hD1
    exact kk H1 locs1 hP1 hD1 hS1
  · refine va_putN hx hb hts in_X6 tyX6 tyX6_ok nmX6 hown hK hP hD hS 32 h3 rfl 0 (by decide) (va_Nw.use rfl (hn _ q171 rfl)) (fun _ h => h) rfl (tyX6_ok 0 (by decide)) rfl rfl (Nat.le_of_ble_eq_true rfl) hdg (fun H1 locs1 hP1 hD1 hS1 => ?_)
    have hP1 : va_P D vwCl ((wF r).set 32 (a3, .inr (6, [.ref q]))) H1 := hP1
    have hD1 : va_D A ((wF r).set 32 (a3, .inr (6, [.ref q]))) := hD1
    rw [g3] at hP1 hD1
    exact kk H1 locs1 hP1 hD1 hS1
theorem sx_castNo (C : cx cc nL ret0 RX0 D vwCl (tyL ca) A p c meth s m args) {sk sv : Nat → Nat} (hE : env sk sv A s s.heap) (hNC : ncE s) (hst : l.stackTraces = false) (hP : va_P D vwCl ws H) (hS : va_S A s.heap H locs) (hsz : ls.size = nL) {nS nT : String} {index a q0 : Nat} {cA : ClassId} {x : vp_A} (ha : ws[q0]? = some (a, .inl (cA, x))) (hc : s.vm.findClass nS = some cA) (hlink : (Cond.classLink RX0 index nT).before args s = true) (hnc : (nS, nT) ∈ ncl) (hpr : (nS, nT) ∈ cast_prs)
    (hkS : ∀ cS, s.vm.findClass nS = some cS → ∃ k, s.vm.classes[cS]? = some k ∧ arK nS k) (hkT : ∀ cS, s.vm.findClass nT = some cS → ∃ k, s.vm.classes[cS]? = some k ∧ arK nT k)
    (hdg : decode cc pc = .ok (.checkcast index, 3)) (hfr : 8 ≤ R.frames) (hlo : ((Value.ref a :: rest).map fun v => v.category).sum + 10240 ≤ R.locals) (hf : cells + 3 ≤ R.cells ∧ slots + 1010 ≤ R.slots)
    (k : ∀ (H1 : Heap) (q9 : Addr) (ce : Cell), va_P D vwCl ws H1 → va_S A s.heap H1 locs → H1[q9]? = some ce → ce.vm = .none → s.vm.findClass nmCCE = some ce.cls → vx_W p l e R s m args below meth c H1 locs (cells + 3) (slots + 1010) Z (F0 m pc ls (.ref a :: rest)) q9) :
    W p l e R s m args below meth c H locs cells slots Z (F0 m pc ls (.ref a :: rest)) := by
  refine vx_castNo C.1 C.2.1 C.2.2.2.2.2.1 hlink (hNC _ hnc) (va_arr hP ha hc) hkS hkT hdg (fun h hh => ?_)
  obtain ⟨h1, h2⟩ := cast_ok _ hpr h hh
  exact sx_vm C hE hst hP hS hsz at_cce (by decide +kernel) (by decide +kernel) (by decide +kernel) (by decide +kernel) (by decide) h2 (tx_small h1 (by decide)) hfr hlo hf k
end WC9
abbrev rm_C_takenOf : Room := { frames := 8, cells := 3, slots := 1010, locals := 10260 }
set_option maxHeartbeats 4000000 in
theorem met_C_takenOf (l : Launch) (hst : l.stackTraces = false) (D : va_G) (sk sv : Nat → Nat) (ad : Nat → Nat) (ca : Nat → ClassId) (pl : va_W) (sz : Nat) (kept : Int32) (locks : Int32) (seenMany : Int32) (bumpMinute : Int32) (bumpBlock : Int32) (bumpTrains : Int32) (waited : Int32) (keptOut : Int32) (used : Int32) (taped : Int32) (fault : Int32) (costSum : Int64) (safeSum : Int64) (allWays : Int64) (torn : Int32) (n_blocks : Int32) (n_guarded : Int32) (n_trains : Int32) (n_omen : Nat → Int32) (n_train : Nat → Int32) (t_blocks : Int32) (t_guarded : Int32) (t_trains : Int32) (t_omen : Nat → Int32) (t_train : Nat → Int32) (i0_blocks : Int32) (i0_guarded : Int32) (i0_trains : Int32) (i0_omen : Nat → Int32) (i0_train : Nat → Int32) (i1_blocks : Int32) (i1_guarded : Int32) (i1_trains : Int32) (i1_omen : Nat → Int32) (i1_train : Nat → Int32) (lockA : Nat → Int32) (seenA : Nat → Int32) (whr : Nat → Int32) (homes : Nat → Int32) (isSeen : Nat → Int32) (leftA : Nat → Int32) (were : Nat → Int32) (tape : Nat → Int32) (would : Nat → Int32) (rw : Nat → Option Nat) (sh : Sh) (hR : RowsOK ca pl rw sh) (x1 x2 x3 : Int32) (hk : vp_in x1 4) : vy_Met l yX0_takenOf (ws_ yX0_takenOf cX0_takenOf 5 (some .int)) rm_C_takenOf (va_Pc [.ref (ad 0), .int x1, .int x2, .int x3] (wpreF D vwCl (tyL ca) sk sv ((oW ad ca kept locks seenMany bumpMinute bumpBlock bumpTrains waited keptOut used taped fault costSum safeSum allWays torn n_blocks n_guarded n_trains n_omen n_train t_blocks t_guarded t_trains t_omen t_train i0_blocks i0_guarded i0_trains i0_omen i0_train i1_blocks i1_guarded i1_trains i1_omen i1_train lockA seenA whr homes isSeen leftA were tape would (rw 0) (rw 1) (rw 2) (rw 3)) ++ pl) sz)) (va_Qi (fun (r : Int32) (u : Unit) => takeW sh x1.toNatClampNeg x2 x3 = 0 ∧ r = takeV sh x1.toNatClampNeg x3) (wpost D vwCl (va_A ((oW ad ca kept locks seenMany bumpMinute bumpBlock bumpTrains waited keptOut used taped fault costSum safeSum allWays torn n_blocks n_guarded n_trains n_omen n_train t_blocks t_guarded t_trains t_omen t_train i0_blocks i0_guarded i0_trains i0_omen i0_train i1_blocks i1_guarded i1_trains i1_omen i1_train lockA seenA whr homes isSeen leftA were tape would (rw 0) (rw 1) (rw 2) (rw 3)) ++ pl) sz) (fun (u : Unit) => ((oW ad ca kept locks seenMany bumpMinute bumpBlock bumpTrains waited keptOut used taped fault costSum safeSum allWays torn n_blocks n_guarded n_trains n_omen n_train t_blocks t_guarded t_trains t_omen t_train i0_blocks i0_guarded i0_trains i0_omen i0_train i1_blocks i1_guarded i1_trains i1_omen i1_train lockA seenA whr homes isSeen leftA were tape would (rw 0) (rw 1) (rw 2) (rw 3)) ++ pl))) (va_A ((oW ad ca kept locks seenMany bumpMinute bumpBlock bumpTrains waited keptOut used taped fault costSum safeSum allWays torn n_blocks n_guarded n_trains n_omen n_train t_blocks t_guarded t_trains t_omen t_train i0_blocks i0_guarded i0_trains i0_omen i0_train i1_blocks i1_guarded i1_trains i1_omen i1_train lockA seenA whr homes isSeen leftA were tape would (rw 0) (rw 1) (rw 2) (rw 3)) ++ pl) sz)) (vx_X (fun (u : Unit) => ¬ takeW sh x1.toNatClampNeg x2 x3 = 0) (fun (E : String) (q : Addr) (u : Unit) (t : State) => E = exN (takeW sh x1.toNatClampNeg x2 x3) ∧ va_P D vwCl ((oW ad ca kept locks seenMany bumpMinute bumpBlock bumpTrains waited keptOut used taped fault costSum safeSum allWays torn n_blocks n_guarded n_trains n_omen n_train t_blocks t_guarded t_trains t_omen t_train i0_blocks i0_guarded i0_trains i0_omen i0_train i1_blocks i1_guarded i1_trains i1_omen i1_train lockA seenA whr homes isSeen leftA were tape would (rw 0) (rw 1) (rw 2) (rw 3)) ++ pl) t.heap ∧ va_D (va_A ((oW ad ca kept locks seenMany bumpMinute bumpBlock bumpTrains waited keptOut used taped fault costSum safeSum allWays torn n_blocks n_guarded n_trains n_omen n_train t_blocks t_guarded t_trains t_omen t_train i0_blocks i0_guarded i0_trains i0_omen i0_train i1_blocks i1_guarded i1_trains i1_omen i1_train lockA seenA whr homes isSeen leftA were tape would (rw 0) (rw 1) (rw 2) (rw 3)) ++ pl) sz) ((oW ad ca kept locks seenMany bumpMinute bumpBlock bumpTrains waited keptOut used taped fault costSum safeSum allWays torn n_blocks n_guarded n_trains n_omen n_train t_blocks t_guarded t_trains t_omen t_train i0_blocks i0_guarded i0_trains i0_omen i0_train i1_blocks i1_guarded i1_trains i1_omen i1_train lockA seenA whr homes isSeen leftA were tape would (rw 0) (rw 1) (rw 2) (rw 3)) ++ pl)) (va_A ((oW ad ca kept locks seenMany bumpMinute bumpBlock bumpTrains waited keptOut used taped fault costSum safeSum allWays torn n_blocks n_guarded n_trains n_omen n_train t_blocks t_guarded t_trains t_omen t_train i0_blocks i0_guarded i0_trains i0_omen i0_train i1_blocks i1_guarded i1_trains i1_omen i1_train lockA seenA whr homes isSeen leftA were tape would (rw 0) (rw 1) (rw 2) (rw 3)) ++ pl) sz)) 0 0 3 1010 (va_A ((oW ad ca kept locks seenMany bumpMinute bumpBlock bumpTrains waited keptOut used taped fault costSum safeSum allWays torn n_blocks n_guarded n_trains n_omen n_train t_blocks t_guarded t_trains t_omen t_train i0_blocks i0_guarded i0_trains i0_omen i0_train i1_blocks i1_guarded i1_trains i1_omen i1_train lockA seenA whr homes isSeen leftA were tape would (rw 0) (rw 1) (rw 2) (rw 3)) ++ pl) sz) := by
  refine met_ofXF (fun A => (va_Qi (fun (r : Int32) (u : Unit) => takeW sh x1.toNatClampNeg x2 x3 = 0 ∧ r = takeV sh x1.toNatClampNeg x3) (wpost D vwCl A (fun (u : Unit) => ((oW ad ca kept locks seenMany bumpMinute bumpBlock bumpTrains waited keptOut used taped fault costSum safeSum allWays torn n_blocks n_guarded n_trains n_omen n_train t_blocks t_guarded t_trains t_omen t_train i0_blocks i0_guarded i0_trains i0_omen i0_train i1_blocks i1_guarded i1_trains i1_omen i1_train lockA seenA whr homes isSeen leftA were tape would (rw 0) (rw 1) (rw 2) (rw 3)) ++ pl))) A)) (fun A => (vx_X (fun (u : Unit) => ¬ takeW sh x1.toNatClampNeg x2 x3 = 0) (fun (E : String) (q : Addr) (u : Unit) (t : State) => E = exN (takeW sh x1.toNatClampNeg x2 x3) ∧ va_P D vwCl ((oW ad ca kept locks seenMany bumpMinute bumpBlock bumpTrains waited keptOut used taped fault costSum safeSum allWays torn n_blocks n_guarded n_trains n_omen n_train t_blocks t_guarded t_trains t_omen t_train i0_blocks i0_guarded i0_trains i0_omen i0_train i1_blocks i1_guarded i1_trains i1_omen i1_train lockA seenA whr homes isSeen leftA were tape would (rw 0) (rw 1) (rw 2) (rw 3)) ++ pl) t.heap ∧ va_D A ((oW ad ca kept locks seenMany bumpMinute bumpBlock bumpTrains waited keptOut used taped fault costSum safeSum allWays torn n_blocks n_guarded n_trains n_omen n_train t_blocks t_guarded t_trains t_omen t_train i0_blocks i0_guarded i0_trains i0_omen i0_train i1_blocks i1_guarded i1_trains i1_omen i1_train lockA seenA whr homes isSeen leftA were tape would (rw 0) (rw 1) (rw 2) (rw 3)) ++ pl)) A)) (by decide) (Nat.le_of_ble_eq_true rfl) ?_
  intro p e s m args below meth c Z A hZ C hE hNC hnh hmn H locs hP hD hS ls hl
  have hx := C.1; have hb := C.2.1; have hr := C.2.2.1; have hlocks := C.2.2.2.1; have hml := C.2.2.2.2.1; have hown := C.2.2.2.2.2.1; have hts := C.2.2.2.2.2.2.1; have hn := C.2.2.2.2.2.2.2.1; have hK := C.2.2.2.2.2.2.2.2.1; have hA := C.2.2.2.2.2.2.2.2.2
  have hl : lv_has ls 5 [(0, .ref (ad 0)), (1, .int x1), (2, .int x2), (3, .int x3)] := hl
  have hcB : s.vm.findClass "[B" = some (ca 2) := va_nm_byte (hK.2 2 _ rfl).2
  have hcS : s.vm.findClass "[S" = some (ca 3) := va_nm_short (hK.2 3 _ rfl).2
  have hcI : s.vm.findClass "[I" = some (ca 0) := va_nm_int (hK.2 0 _ rfl).2
  have hkB : ∀ cS, s.vm.findClass "[B" = some cS → ∃ k, s.vm.classes[cS]? = some k ∧ arK "[B" k := fun cS h => arK_of (hts _ q162) (by decide +kernel) (by decide +kernel) h
  have hkS : ∀ cS, s.vm.findClass "[S" = some cS → ∃ k, s.vm.classes[cS]? = some k ∧ arK "[S" k := fun cS h => arK_of (hts _ q839) (by decide +kernel) (by decide +kernel) h
  have hkI : ∀ cS, s.vm.findClass "[I" = some cS → ∃ k, s.vm.classes[cS]? = some k ∧ arK "[I" k := fun cS h => arK_of (hts _ q175) (by decide +kernel) (by decide +kernel) h
  have hT : ∀ (w : Int32) (pc : Nat) (ls : Array Slot) (rest : List Value) (H1 : Heap) (q9 : Addr) (ce : Cell), takeW sh x1.toNatClampNeg x2 x3 = w → ¬ w = 0 → va_P D vwCl ((oW ad ca kept locks seenMany bumpMinute bumpBlock bumpTrains waited keptOut used taped fault costSum safeSum allWays torn n_blocks n_guarded n_trains n_omen n_train t_blocks t_guarded t_trains t_omen t_train i0_blocks i0_guarded i0_trains i0_omen i0_train i1_blocks i1_guarded i1_trains i1_omen i1_train lockA seenA whr homes isSeen leftA were tape would (rw 0) (rw 1) (rw 2) (rw 3)) ++ pl) H1 → va_S A s.heap H1 locs → H1[q9]? = some ce → ce.vm = .none → s.vm.findClass (exN w) = some ce.cls → vx_W p l e rm_C_takenOf s m args below meth c H1 locs (0 + 3) (0 + 1010) Z (F0 m pc ls rest) q9 := by
    intro w pc ls rest H1 q9 ce hw h0 hP1 hS1 hc9 hv9 hcl9
    rw [hZ]
    exact vy_out (fun x hx => (hnh x hx).elim) hlocks hc9 hv9 hcl9 (fun t' ht' hvm' => ⟨(), by rw [hw]; exact h0, ⟨by rw [hw], by rw [ht']; exact hP1, hD⟩, hS1.F ht'⟩) hS1.2.2 (by decide) (by decide)
  refine lv_aload_n hx hb dX0_takenOf_0 rfl (lv_at hl 0 rfl) ?_
  refine va_get hx hb hts in_X0 hown hK hP 0 rfl rfl 27 (by decide) (hts _ q205) (fun _ h => h) rfl dX0_takenOf_1 ?_
  refine lv_iload_n hx hb dX0_takenOf_4 rfl (lv_at hl 1 rfl) ?_
  refine wc_rowget (r := rw) C hP hk rfl rfl rfl rfl rfl dX0_takenOf_5 dX0_takenOf_6 ?_
  rcases hR.get (vi4_lt hk) with ⟨e1, e2⟩ | ⟨t, n, f, a, j, e1, e2, hn40, e3, e4, -⟩
  · rw [e2]
    refine lv_astoreN (lv' := [(4, .null), (0, .ref (ad 0)), (1, .int x1), (2, .int x2), (3, .int x3)]) hx hb dX0_takenOf_9 hl (by decide) rfl (fun ls hl => ?_)
    refine lv_iload_n hx hb dX0_takenOf_11 rfl (lv_at hl 3 rfl) ?_
    refine lv_if_ne (tgt := 25) hx hb dX0_takenOf_12 (by decide) (fun c => ?_) (fun c => ?_)
    · refine lv_iload_n hx hb dX0_takenOf_25 rfl (lv_at hl 3 rfl) ?_
      refine lv_iconst (v := 1) hx hb dX0_takenOf_26 (by decide) ?_
      refine lv_icmp_ne (tgt := 40) hx hb dX0_takenOf_27 (by decide) (fun c2 => ?_) (fun c2 => ?_)
      · refine lv_aloadN hx hb dX0_takenOf_40 (lv_at hl 0 rfl) ?_
        refine lv_castN hx hb dX0_takenOf_42 ?_
        refine lv_iload_n hx hb dX0_takenOf_45 rfl (lv_at hl 4 rfl) ?_
        exact vx_ialoadN hx hb dX0_takenOf_46 (sx_npe C hE hst hP hS hl.1 (Nat.le_of_ble_eq_true rfl) (Nat.le_of_ble_eq_true rfl) ⟨Nat.le_of_ble_eq_true rfl, Nat.le_of_ble_eq_true rfl⟩ (fun H1 q9 ce h1 h2 h3 h4 h5 => hT 1 _ _ _ H1 q9 ce (takeW_none e1) (by decide) h1 h2 h3 h4 h5))
      · refine lv_aloadN hx hb dX0_takenOf_30 (lv_at hl 0 rfl) ?_
        refine lv_castN hx hb dX0_takenOf_32 ?_
        refine lv_iload_n hx hb dX0_takenOf_35 rfl (lv_at hl 4 rfl) ?_
        exact vx_saloadN hx hb dX0_takenOf_36 (sx_npe C hE hst hP hS hl.1 (Nat.le_of_ble_eq_true rfl) (Nat.le_of_ble_eq_true rfl) ⟨Nat.le_of_ble_eq_true rfl, Nat.le_of_ble_eq_true rfl⟩ (fun H1 q9 ce h1 h2 h3 h4 h5 => hT 1 _ _ _ H1 q9 ce (takeW_none e1) (by decide) h1 h2 h3 h4 h5))
    · refine lv_aloadN hx hb dX0_takenOf_15 (lv_at hl 0 rfl) ?_
      refine lv_castN hx hb dX0_takenOf_17 ?_
      refine lv_iload_n hx hb dX0_takenOf_20 rfl (lv_at hl 4 rfl) ?_
      exact vx_baloadN hx hb dX0_takenOf_21 (sx_npe C hE hst hP hS hl.1 (Nat.le_of_ble_eq_true rfl) (Nat.le_of_ble_eq_true rfl) ⟨Nat.le_of_ble_eq_true rfl, Nat.le_of_ble_eq_true rfl⟩ (fun H1 q9 ce h1 h2 h3 h4 h5 => hT 1 _ _ _ H1 q9 ce (takeW_none e1) (by decide) h1 h2 h3 h4 h5))
  · rw [e3]
    refine lv_astore (lv' := [(4, .ref a), (0, .ref (ad 0)), (1, .int x1), (2, .int x2), (3, .int x3)]) hx hb dX0_takenOf_9 hl (by decide) rfl (fun ls hl => ?_)
    refine lv_iload_n hx hb dX0_takenOf_11 rfl (lv_at hl 3 rfl) ?_
    refine lv_if_ne (tgt := 25) hx hb dX0_takenOf_12 (by decide) (fun c => ?_) (fun c => ?_)
    · refine lv_iload_n hx hb dX0_takenOf_25 rfl (lv_at hl 3 rfl) ?_
      refine lv_iconst (v := 1) hx hb dX0_takenOf_26 (by decide) ?_
      refine lv_icmp_ne (tgt := 40) hx hb dX0_takenOf_27 (by decide) (fun c2 => ?_) (fun c2 => ?_)
      · rcases e2 with rfl | rfl | rfl
        · refine lv_aload hx hb dX0_takenOf_40 (lv_at hl 0 rfl) ?_
          exact sx_castNo C hE hNC hst hP hS hl.1 (wc_at (n := 33) rfl e4) hcB (hts _ q890) (by decide) (by decide) hkB hkI dX0_takenOf_42 (Nat.le_of_ble_eq_true rfl) (Nat.le_of_ble_eq_true rfl) ⟨Nat.le_of_ble_eq_true rfl, Nat.le_of_ble_eq_true rfl⟩ (fun H1 q9 ce h1 h2 h3 h4 h5 => hT 3 _ _ _ H1 q9 ce (by rw [takeW_some e1, laneT_2 c c2]; rfl) (by decide) h1 h2 h3 h4 h5)
        · refine lv_aload hx hb dX0_takenOf_40 (lv_at hl 0 rfl) ?_
          exact sx_castNo C hE hNC hst hP hS hl.1 (wc_at (n := 33) rfl e4) hcS (hts _ q890) (by decide) (by decide) hkS hkI dX0_takenOf_42 (Nat.le_of_ble_eq_true rfl) (Nat.le_of_ble_eq_true rfl) ⟨Nat.le_of_ble_eq_true rfl, Nat.le_of_ble_eq_true rfl⟩ (fun H1 q9 ce h1 h2 h3 h4 h5 => hT 3 _ _ _ H1 q9 ce (by rw [takeW_some e1, laneT_2 c c2]; rfl) (by decide) h1 h2 h3 h4 h5)
        · refine lv_aload hx hb dX0_takenOf_40 (lv_at hl 0 rfl) ?_
          refine va_castA hx hb hown (hts _ q890) hP (33 + j) (wc_at (n := 33) rfl e4) hcI dX0_takenOf_42 ?_
          refine lv_iload_n hx hb dX0_takenOf_45 rfl (lv_at hl 4 rfl) ?_
          by_cases hv : vp_in x3 n
          · refine va_iald hx hb hK hP (33 + j) 0 (wc_at (n := 33) rfl e4) rfl hv dX0_takenOf_46 ?_
            rw [hZ]
            refine vy_ret ?_
            exact W.iret hx hb hr (fun t ht hW => ⟨⟨_, (), rfl, ⟨by rw [takeW_some e1, laneT_2 c c2, if_pos rfl]; exact if_neg hv, (takeV_some e1).symm⟩, by rw [ht]; exact hP, hD⟩, hS.F ht⟩) hS.2.2 dX0_takenOf_47 hlocks
          · exact vx_ialdZ hx hb hK hP (33 + j) 0 (wc_at (n := 33) rfl e4) rfl hv dX0_takenOf_46 (fun tx htx => sx_aio C hE hst hP hS hl.1 hn40 htx (Nat.le_of_ble_eq_true rfl) (Nat.le_of_ble_eq_true rfl) ⟨Nat.le_of_ble_eq_true rfl, Nat.le_of_ble_eq_true rfl⟩ (fun H1 q9 ce h1 h2 h3 h4 h5 => hT 2 _ _ _ H1 q9 ce (by rw [takeW_some e1, laneT_2 c c2, if_pos rfl]; exact if_pos (Classical.not_not.mp hv)) (by decide) h1 h2 h3 h4 h5))
      · rcases e2 with rfl | rfl | rfl
        · refine lv_aload hx hb dX0_takenOf_30 (lv_at hl 0 rfl) ?_
          exact sx_castNo C hE hNC hst hP hS hl.1 (wc_at (n := 33) rfl e4) hcB (hts _ q889) (by decide) (by decide) hkB hkS dX0_takenOf_32 (Nat.le_of_ble_eq_true rfl) (Nat.le_of_ble_eq_true rfl) ⟨Nat.le_of_ble_eq_true rfl, Nat.le_of_ble_eq_true rfl⟩ (fun H1 q9 ce h1 h2 h3 h4 h5 => hT 3 _ _ _ H1 q9 ce (by rw [takeW_some e1, laneT_1 c c2]; rfl) (by decide) h1 h2 h3 h4 h5)
        · refine lv_aload hx hb dX0_takenOf_30 (lv_at hl 0 rfl) ?_
          refine va_castA hx hb hown (hts _ q889) hP (33 + j) (wc_at (n := 33) rfl e4) hcS dX0_takenOf_32 ?_
          refine lv_iload_n hx hb dX0_takenOf_35 rfl (lv_at hl 4 rfl) ?_
          by_cases hv : vp_in x3 n
          · refine va_sald hx hb hK hP (33 + j) 3 (wc_at (n := 33) rfl e4) rfl hv dX0_takenOf_36 ?_
            refine lv_goto (tgt := 47) hx hb dX0_takenOf_37 (by decide) ?_
            rw [hZ]
            refine vy_ret ?_
            exact W.iret hx hb hr (fun t ht hW => ⟨⟨_, (), rfl, ⟨by rw [takeW_some e1, laneT_1 c c2, if_pos rfl]; exact if_neg hv, (takeV_some e1).symm⟩, by rw [ht]; exact hP, hD⟩, hS.F ht⟩) hS.2.2 dX0_takenOf_47 hlocks
          · exact vx_saldZ hx hb hK hP (33 + j) 3 (wc_at (n := 33) rfl e4) rfl hv dX0_takenOf_36 (fun tx htx => sx_aio C hE hst hP hS hl.1 hn40 htx (Nat.le_of_ble_eq_true rfl) (Nat.le_of_ble_eq_true rfl) ⟨Nat.le_of_ble_eq_true rfl, Nat.le_of_ble_eq_true rfl⟩ (fun H1 q9 ce h1 h2 h3 h4 h5 => hT 2 _ _ _ H1 q9 ce (by rw [takeW_some e1, laneT_1 c c2, if_pos rfl]; exact if_pos (Classical.not_not.mp hv)) (by decide) h1 h2 h3 h4 h5))
        · refine lv_aload hx hb dX0_takenOf_30 (lv_at hl 0 rfl) ?_
          exact sx_castNo C hE hNC hst hP hS hl.1 (wc_at (n := 33) rfl e4) hcI (hts _ q889) (by decide) (by decide) hkI hkS dX0_takenOf_32 (Nat.le_of_ble_eq_true rfl) (Nat.le_of_ble_eq_true rfl) ⟨Nat.le_of_ble_eq_true rfl, Nat.le_of_ble_eq_true rfl⟩ (fun H1 q9 ce h1 h2 h3 h4 h5 => hT 3 _ _ _ H1 q9 ce (by rw [takeW_some e1, laneT_1 c c2]; rfl) (by decide) h1 h2 h3 h4 h5)
    · rcases e2 with rfl | rfl | rfl
      · refine lv_aload hx hb dX0_takenOf_15 (lv_at hl 0 rfl) ?_
        refine va_castA hx hb hown (hts _ q888) hP (33 + j) (wc_at (n := 33) rfl e4) hcB dX0_takenOf_17 ?_
        refine lv_iload_n hx hb dX0_takenOf_20 rfl (lv_at hl 4 rfl) ?_
        by_cases hv : vp_in x3 n
        · refine va_bald hx hb hK hP (33 + j) 2 (wc_at (n := 33) rfl e4) rfl hv dX0_takenOf_21 ?_
          refine lv_goto (tgt := 47) hx hb dX0_takenOf_22 (by decide) ?_
          rw [hZ]
          refine vy_ret ?_
          exact W.iret hx hb hr (fun t ht hW => ⟨⟨_, (), rfl, ⟨by rw [takeW_some e1, laneT_0 c, if_pos rfl]; exact if_neg hv, (takeV_some e1).symm⟩, by rw [ht]; exact hP, hD⟩, hS.F ht⟩) hS.2.2 dX0_takenOf_47 hlocks
        · exact vx_baldZ hx hb hK hP (33 + j) 2 (wc_at (n := 33) rfl e4) rfl hv dX0_takenOf_21 (fun tx htx => sx_aio C hE hst hP hS hl.1 hn40 htx (Nat.le_of_ble_eq_true rfl) (Nat.le_of_ble_eq_true rfl) ⟨Nat.le_of_ble_eq_true rfl, Nat.le_of_ble_eq_true rfl⟩ (fun H1 q9 ce h1 h2 h3 h4 h5 => hT 2 _ _ _ H1 q9 ce (by rw [takeW_some e1, laneT_0 c, if_pos rfl]; exact if_pos (Classical.not_not.mp hv)) (by decide) h1 h2 h3 h4 h5))
      · refine lv_aload hx hb dX0_takenOf_15 (lv_at hl 0 rfl) ?_
        exact sx_castNo C hE hNC hst hP hS hl.1 (wc_at (n := 33) rfl e4) hcS (hts _ q888) (by decide) (by decide) hkS hkB dX0_takenOf_17 (Nat.le_of_ble_eq_true rfl) (Nat.le_of_ble_eq_true rfl) ⟨Nat.le_of_ble_eq_true rfl, Nat.le_of_ble_eq_true rfl⟩ (fun H1 q9 ce h1 h2 h3 h4 h5 => hT 3 _ _ _ H1 q9 ce (by rw [takeW_some e1, laneT_0 c]; rfl) (by decide) h1 h2 h3 h4 h5)
      · refine lv_aload hx hb dX0_takenOf_15 (lv_at hl 0 rfl) ?_
        exact sx_castNo C hE hNC hst hP hS hl.1 (wc_at (n := 33) rfl e4) hcI (hts _ q888) (by decide) (by decide) hkI hkB dX0_takenOf_17 (Nat.le_of_ble_eq_true rfl) (Nat.le_of_ble_eq_true rfl) ⟨Nat.le_of_ble_eq_true rfl, Nat.le_of_ble_eq_true rfl⟩ (fun H1 q9 ce h1 h2 h3 h4 h5 => hT 3 _ _ _ H1 q9 ce (by rw [takeW_some e1, laneT_0 c]; rfl) (by decide) h1 h2 h3 h4 h5)
