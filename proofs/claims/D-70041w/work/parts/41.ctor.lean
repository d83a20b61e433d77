set_option maxRecDepth 100000
theorem dX6_init_0 : decode cX6_init 0 = .ok (.aload_n 0, 1) := by decide +kernel
theorem dX6_init_1 : decode cX6_init 1 = .ok (.invokespecial 1, 3) := by decide +kernel
theorem dX6_init_4 : decode cX6_init 4 = .ok (.return_, 1) := by decide +kernel
abbrev rm_X5_init : Room := { frames := 1, cells := 2, slots := 24, locals := 12 }
set_option maxHeartbeats 4000000 in
theorem met_X5_init (l : Launch) (D : va_G) (ca : Nat → ClassId) (sz : Nat) (b : Nat) : Met l yX5_init (ws_ yX5_init cX5_init 1 none) rm_X5_init (va_Pc [.ref b] (wpre D vwCl (tyL ca) [(b, .inr (5, [.int 0, .null, .int 0, .int 0, .null]))] sz)) (va_Qv (fun (u : Nat × Nat) => True) (wpost D vwCl (va_A [(b, .inr (5, [.int 0, .null, .int 0, .int 0, .null]))] sz) (fun (u : Nat × Nat) => bW b u.1 u.2 ca 4 0 0 (fun _ => 0) (fun _ => 0))) (va_A [(b, .inr (5, [.int 0, .null, .int 0, .int 0, .null]))] sz)) 2 24 (va_A [(b, .inr (5, [.int 0, .null, .int 0, .int 0, .null]))] sz) := by
  refine met_ofC (fun A => (va_Qv (fun (u : Nat × Nat) => True) (wpost D vwCl A (fun (u : Nat × Nat) => bW b u.1 u.2 ca 4 0 0 (fun _ => 0) (fun _ => 0))) A)) (by decide) (Nat.le_of_ble_eq_true rfl) ?_
  intro p e s m args below meth c Z A hZ C hmn H locs hP hD hS ls hl
  have hx := C.1; have hb := C.2.1; have hr := C.2.2.1; have hlocks := C.2.2.2.1; have hml := C.2.2.2.2.1; have hown := C.2.2.2.2.2.1; have hts := C.2.2.2.2.2.2.1; have hn := C.2.2.2.2.2.2.2.1; have hK := C.2.2.2.2.2.2.2.2.1; have hA := C.2.2.2.2.2.2.2.2.2
  have hl : lv_has ls 1 [(0, .ref b)] := hl
  refine lv_aload_n hx hb dX5_init_0 rfl (lv_at hl 0 rfl) ?_
  refine W.objInit hx hb hown (hts _ q135) (hts _ q99) (hts _ q100) rfl (by rw [hml]; exact hl.1) rfl dX5_init_1 (Nat.le_of_ble_eq_true rfl) (Nat.le_of_ble_eq_true rfl) ?_
  refine W.eq (g2 := F0 m 4 ls []) rfl ?_
  refine lv_aload_n hx hb dX5_init_4 rfl (lv_at hl 0 rfl) ?_
  refine lv_iconst (v := 4) hx hb dX5_init_5 (by decide) ?_
  refine va_put hx hb hts in_X5 tyX5 tyX5_ok nmX5 hown hK hP hD hS 0 rfl rfl 0 (by decide) (hts _ q136) (fun _ h => h) rfl (tyX5_ok 0 (by decide)) rfl rfl (Nat.le_of_ble_eq_true rfl) dX5_init_6 (fun H locs hP hD hS => ?_)
  have hP : va_P D vwCl [(b, .inr (5, [.int 4, .null, .int 0, .int 0, .null]))] H := hP
  have hD : va_D A [(b, .inr (5, [.int 4, .null, .int 0, .int 0, .null]))] := hD
  refine lv_aload_n hx hb dX5_init_9 rfl (lv_at hl 0 rfl) ?_
  refine lv_bipush (v := 8) hx hb dX5_init_10 (by decide) ?_
  refine va_newa (atype := .byte) (a0 := (8, .inl (fun _ => 0))) hx hb (hts _ q162) rfl hK hP hD hS hA (fun _ => rfl) (by decide) rfl (by decide) (Nat.le_of_ble_eq_true rfl) (Nat.le_of_ble_eq_true rfl) dX5_init_12 (fun a_1 cA H hK2 hP hD hS => ?_)
  obtain rfl : cA = ca 2 := ca_u hK2 2 _ rfl
  have hP : va_P D vwCl [(b, .inr (5, [.int 4, .null, .int 0, .int 0, .null])), (a_1, .inl (ca 2, 8, .inl (fun _ => 0)))] H := hP
  have hD : va_D A [(b, .inr (5, [.int 4, .null, .int 0, .int 0, .null])), (a_1, .inl (ca 2, 8, .inl (fun _ => 0)))] := hD
  refine va_putF hx hb hts in_X5 tyX5 tyX5_ok nmX5 hown hK hP hD hS 0 rfl rfl 1 (by decide) (hts _ q139) (fun _ h => h) rfl hmn rfl (tyX5_ok 1 (by decide)) rfl rfl (Nat.le_of_ble_eq_true rfl) dX5_init_14 (fun H locs hP hD hS => ?_)
  have hP : va_P D vwCl [(b, .inr (5, [.int 4, .ref a_1, .int 0, .int 0, .null])), (a_1, .inl (ca 2, 8, .inl (fun _ => 0)))] H := hP
  have hD : va_D A [(b, .inr (5, [.int 4, .ref a_1, .int 0, .int 0, .null])), (a_1, .inl (ca 2, 8, .inl (fun _ => 0)))] := hD
  refine lv_aload_n hx hb dX5_init_17 rfl (lv_at hl 0 rfl) ?_
  refine lv_bipush (v := 16) hx hb dX5_init_18 (by decide) ?_
  refine va_newa (atype := .byte) (a0 := (16, .inl (fun _ => 0))) hx hb (hts _ q162) rfl hK hP hD hS hA (fun _ => rfl) (by decide) rfl (by decide) (Nat.le_of_ble_eq_true rfl) (Nat.le_of_ble_eq_true rfl) dX5_init_20 (fun a_2 cA H hK2 hP hD hS => ?_)
  obtain rfl : cA = ca 2 := ca_u hK2 2 _ rfl
  have hP : va_P D vwCl [(b, .inr (5, [.int 4, .ref a_1, .int 0, .int 0, .null])), (a_1, .inl (ca 2, 8, .inl (fun _ => 0))), (a_2, .inl (ca 2, 16, .inl (fun _ => 0)))] H := hP
  have hD : va_D A [(b, .inr (5, [.int 4, .ref a_1, .int 0, .int 0, .null])), (a_1, .inl (ca 2, 8, .inl (fun _ => 0))), (a_2, .inl (ca 2, 16, .inl (fun _ => 0)))] := hD
  refine va_putF hx hb hts in_X5 tyX5 tyX5_ok nmX5 hown hK hP hD hS 0 rfl rfl 4 (by decide) (hts _ q148) (fun _ h => h) rfl hmn rfl (tyX5_ok 4 (by decide)) rfl rfl (Nat.le_of_ble_eq_true rfl) dX5_init_22 (fun H locs hP hD hS => ?_)
  have hP : va_P D vwCl [(b, .inr (5, [.int 4, .ref a_1, .int 0, .int 0, .ref a_2])), (a_1, .inl (ca 2, 8, .inl (fun _ => 0))), (a_2, .inl (ca 2, 16, .inl (fun _ => 0)))] H := hP
  have hD : va_D A [(b, .inr (5, [.int 4, .ref a_1, .int 0, .int 0, .ref a_2])), (a_1, .inl (ca 2, 8, .inl (fun _ => 0))), (a_2, .inl (ca 2, 16, .inl (fun _ => 0)))] := hD
  rw [hZ]
  refine W.widen (k := 2) (n := 24) (by decide) (by decide) ?_
  exact W.vret hx hb hr (fun t ht hW => ⟨⟨(a_1, a_2), rfl, trivial, by rw [ht]; exact hP, hD⟩, hS.F ht⟩) hS.2.2 dX5_init_25 hlocks

abbrev rm_X1_init : Room := { frames := 1, cells := 0, slots := 0, locals := 12 }
set_option maxHeartbeats 4000000 in
theorem met_X1_init (l : Launch) (D : va_G) (ca : Nat → ClassId) (sz : Nat) (h : Nat) : Met l yX1_init (ws_ yX1_init cX1_init 1 none) rm_X1_init (va_Pc [.ref h] (wpre D vwCl (tyL ca) [] sz)) (va_Qv (fun (u : Unit) => True) (wpost D vwCl (va_A [] sz) (fun (_ : Unit) => ([] : va_W))) (va_A [] sz)) 0 0 (va_A [] sz) := by
  refine met_of (fun A => (va_Qv (fun (u : Unit) => True) (wpost D vwCl A (fun (_ : Unit) => ([] : va_W))) A)) (by decide) (Nat.le_of_ble_eq_true rfl) ?_
  intro p e s m args below meth c Z A hZ C H locs hP hD hS ls hl
  have hx := C.1; have hb := C.2.1; have hr := C.2.2.1; have hlocks := C.2.2.2.1; have hml := C.2.2.2.2.1; have hown := C.2.2.2.2.2.1; have hts := C.2.2.2.2.2.2.1; have hn := C.2.2.2.2.2.2.2.1; have hK := C.2.2.2.2.2.2.2.2.1; have hA := C.2.2.2.2.2.2.2.2.2
  have hl : lv_has ls 1 [(0, .ref h)] := hl
  refine lv_aload_n hx hb dX1_init_0 rfl (lv_at hl 0 rfl) ?_
  refine W.objInit hx hb hown (hts _ q107) (hts _ q99) (hts _ q100) rfl (by rw [hml]; exact hl.1) rfl dX1_init_1 (Nat.le_of_ble_eq_true rfl) (Nat.le_of_ble_eq_true rfl) ?_
  refine W.eq (g2 := F0 m 4 ls []) rfl ?_
  rw [hZ]
  exact W.vret hx hb hr (fun t ht hW => ⟨⟨(), rfl, trivial, by rw [ht]; exact hP, hD⟩, hS.F ht⟩) hS.2.2 dX1_init_4 hlocks

abbrev rm_X2_init : Room := { frames := 2, cells := 0, slots := 0, locals := 32 }
set_option maxHeartbeats 4000000 in
theorem met_X2_init (l : Launch) (D : va_G) (ca : Nat → ClassId) (sz : Nat) (h : Nat) : Met l yX2_init (ws_ yX2_init cX2_init 1 none) rm_X2_init (va_Pc [.ref h] (wpre D vwCl (tyL ca) [] sz)) (va_Qv (fun (u : Unit) => True) (wpost D vwCl (va_A [] sz) (fun (_ : Unit) => ([] : va_W))) (va_A [] sz)) 0 0 (va_A [] sz) := by
  refine met_of (fun A => (va_Qv (fun (u : Unit) => True) (wpost D vwCl A (fun (_ : Unit) => ([] : va_W))) A)) (by decide) (Nat.le_of_ble_eq_true rfl) ?_
  intro p e s m args below meth c Z A hZ C H locs hP hD hS ls hl
  have hx := C.1; have hb := C.2.1; have hr := C.2.2.1; have hlocks := C.2.2.2.1; have hml := C.2.2.2.2.1; have hown := C.2.2.2.2.2.1; have hts := C.2.2.2.2.2.2.1; have hn := C.2.2.2.2.2.2.2.1; have hK := C.2.2.2.2.2.2.2.2.1; have hA := C.2.2.2.2.2.2.2.2.2
  have hl : lv_has ls 1 [(0, .ref h)] := hl
  refine lv_aload_n hx hb dX2_init_0 rfl (lv_at hl 0 rfl) ?_
  refine wc_INvs (w1 := (fun (_ : Unit) => [])) (As := []) (rest := []) C (met_X1_init l D ca H.size h) ⟨va_cnB 0 hts (lw_meth q106) rfl rfl rfl (hn _ q114 rfl) (hts _ q69) (by decide +kernel) ⟨Nat.le_of_ble_eq_true rfl, Nat.le_of_ble_eq_true rfl⟩, rfl, hts _ q105⟩ hP hD hS [] [] rfl rfl (by decide) (by decide) (by decide) rfl rfl hl.1 (Nat.le_of_ble_eq_true rfl) dX2_init_1 ⟨Nat.le_of_ble_eq_true rfl, Nat.le_of_ble_eq_true rfl⟩ (fun u H locs hr2 hP hD hS => ?_)
  have hP : va_P D vwCl [] H := hP
  have hD : va_D A [] := hD
  rw [hZ]
  exact W.vret hx hb hr (fun t ht hW => ⟨⟨(), rfl, trivial, by rw [ht]; exact hP, hD⟩, hS.F ht⟩) hS.2.2 dX2_init_4 hlocks

abbrev rm_X3_init : Room := { frames := 2, cells := 0, slots := 0, locals := 32 }
set_option maxHeartbeats 4000000 in
theorem met_X3_init (l : Launch) (D : va_G) (ca : Nat → ClassId) (sz : Nat) (h : Nat) : Met l yX3_init (ws_ yX3_init cX3_init 1 none) rm_X3_init (va_Pc [.ref h] (wpre D vwCl (tyL ca) [] sz)) (va_Qv (fun (u : Unit) => True) (wpost D vwCl (va_A [] sz) (fun (_ : Unit) => ([] : va_W))) (va_A [] sz)) 0 0 (va_A [] sz) := by
  refine met_of (fun A => (va_Qv (fun (u : Unit) => True) (wpost D vwCl A (fun (_ : Unit) => ([] : va_W))) A)) (by decide) (Nat.le_of_ble_eq_true rfl) ?_
  intro p e s m args below meth c Z A hZ C H locs hP hD hS ls hl
  have hx := C.1; have hb := C.2.1; have hr := C.2.2.1; have hlocks := C.2.2.2.1; have hml := C.2.2.2.2.1; have hown := C.2.2.2.2.2.1; have hts := C.2.2.2.2.2.2.1; have hn := C.2.2.2.2.2.2.2.1; have hK := C.2.2.2.2.2.2.2.2.1; have hA := C.2.2.2.2.2.2.2.2.2
  have hl : lv_has ls 1 [(0, .ref h)] := hl
  refine lv_aload_n hx hb dX3_init_0 rfl (lv_at hl 0 rfl) ?_
  refine wc_INvs (w1 := (fun (_ : Unit) => [])) (As := []) (rest := []) C (met_X1_init l D ca H.size h) ⟨va_cnB 0 hts (lw_meth q106) rfl rfl rfl (hn _ q121 rfl) (hts _ q69) (by decide +kernel) ⟨Nat.le_of_ble_eq_true rfl, Nat.le_of_ble_eq_true rfl⟩, rfl, hts _ q105⟩ hP hD hS [] [] rfl rfl (by decide) (by decide) (by decide) rfl rfl hl.1 (Nat.le_of_ble_eq_true rfl) dX3_init_1 ⟨Nat.le_of_ble_eq_true rfl, Nat.le_of_ble_eq_true rfl⟩ (fun u H locs hr2 hP hD hS => ?_)
  have hP : va_P D vwCl [] H := hP
  have hD : va_D A [] := hD
  rw [hZ]
  exact W.vret hx hb hr (fun t ht hW => ⟨⟨(), rfl, trivial, by rw [ht]; exact hP, hD⟩, hS.F ht⟩) hS.2.2 dX3_init_4 hlocks

abbrev rm_X4_init : Room := { frames := 3, cells := 0, slots := 0, locals := 52 }
set_option maxHeartbeats 4000000 in
theorem met_X4_init (l : Launch) (D : va_G) (ca : Nat → ClassId) (sz : Nat) (h : Nat) : Met l yX4_init (ws_ yX4_init cX4_init 1 none) rm_X4_init (va_Pc [.ref h] (wpre D vwCl (tyL ca) [] sz)) (va_Qv (fun (u : Unit) => True) (wpost D vwCl (va_A [] sz) (fun (_ : Unit) => ([] : va_W))) (va_A [] sz)) 0 0 (va_A [] sz) := by
  refine met_of (fun A => (va_Qv (fun (u : Unit) => True) (wpost D vwCl A (fun (_ : Unit) => ([] : va_W))) A)) (by decide) (Nat.le_of_ble_eq_true rfl) ?_
  intro p e s m args below meth c Z A hZ C H locs hP hD hS ls hl
  have hx := C.1; have hb := C.2.1; have hr := C.2.2.1; have hlocks := C.2.2.2.1; have hml := C.2.2.2.2.1; have hown := C.2.2.2.2.2.1; have hts := C.2.2.2.2.2.2.1; have hn := C.2.2.2.2.2.2.2.1; have hK := C.2.2.2.2.2.2.2.2.1; have hA := C.2.2.2.2.2.2.2.2.2
  have hl : lv_has ls 1 [(0, .ref h)] := hl
  refine lv_aload_n hx hb dX4_init_0 rfl (lv_at hl 0 rfl) ?_
  refine wc_INvs (w1 := (fun (_ : Unit) => [])) (As := []) (rest := []) C (met_X3_init l D ca H.size h) ⟨va_cnB 0 hts (lw_meth q120) rfl rfl rfl (hn _ q128 rfl) (hts _ q71) (by decide +kernel) ⟨Nat.le_of_ble_eq_true rfl, Nat.le_of_ble_eq_true rfl⟩, rfl, hts _ q119⟩ hP hD hS [] [] rfl rfl (by decide) (by decide) (by decide) rfl rfl hl.1 (Nat.le_of_ble_eq_true rfl) dX4_init_1 ⟨Nat.le_of_ble_eq_true rfl, Nat.le_of_ble_eq_true rfl⟩ (fun u H locs hr2 hP hD hS => ?_)
  have hP : va_P D vwCl [] H := hP
  have hD : va_D A [] := hD
  rw [hZ]
  exact W.vret hx hb hr (fun t ht hW => ⟨⟨(), rfl, trivial, by rw [ht]; exact hP, hD⟩, hS.F ht⟩) hS.2.2 dX4_init_4 hlocks

abbrev rm_X6_init : Room := { frames := 1, cells := 0, slots := 0, locals := 12 }
set_option maxHeartbeats 4000000 in
theorem met_X6_init (l : Launch) (D : va_G) (ca : Nat → ClassId) (sz : Nat) (h : Nat) : Met l yX6_init (ws_ yX6_init cX6_init 1 none) rm_X6_init (va_Pc [.ref h] (wpre D vwCl (tyL ca) [] sz)) (va_Qv (fun (u : Unit) => True) (wpost D vwCl (va_A [] sz) (fun (_ : Unit) => ([] : va_W))) (va_A [] sz)) 0 0 (va_A [] sz) := by
  refine met_of (fun A => (va_Qv (fun (u : Unit) => True) (wpost D vwCl A (fun (_ : Unit) => ([] : va_W))) A)) (by decide) (Nat.le_of_ble_eq_true rfl) ?_
  intro p e s m args below meth c Z A hZ C H locs hP hD hS ls hl
  have hx := C.1; have hb := C.2.1; have hr := C.2.2.1; have hlocks := C.2.2.2.1; have hml := C.2.2.2.2.1; have hown := C.2.2.2.2.2.1; have hts := C.2.2.2.2.2.2.1; have hn := C.2.2.2.2.2.2.2.1; have hK := C.2.2.2.2.2.2.2.2.1; have hA := C.2.2.2.2.2.2.2.2.2
  have hl : lv_has ls 1 [(0, .ref h)] := hl
  refine lv_aload_n hx hb dX6_init_0 rfl (lv_at hl 0 rfl) ?_
  refine W.objInit hx hb hown (hts _ q170) (hts _ q99) (hts _ q100) rfl (by rw [hml]; exact hl.1) rfl dX6_init_1 (Nat.le_of_ble_eq_true rfl) (Nat.le_of_ble_eq_true rfl) ?_
  refine W.eq (g2 := F0 m 4 ls []) rfl ?_
  rw [hZ]
  exact W.vret hx hb hr (fun t ht hW => ⟨⟨(), rfl, trivial, by rw [ht]; exact hP, hD⟩, hS.F ht⟩) hS.2.2 dX6_init_4 hlocks

