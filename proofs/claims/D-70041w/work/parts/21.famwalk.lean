set_option maxRecDepth 100000
abbrev rm_I_bitCount : Room := { frames := 1, cells := 0, slots := 0, locals := 0 }
set_option maxHeartbeats 4000000 in
theorem met_I_bitCount (l : Launch) (D : va_G) (ca : Nat → ClassId) (sz : Nat)  (x0 : Int32) (Q : Int32 → Prop) (G : I_bitCount x0 Q) : Met l yJ7_bitCount (ws_ yJ7_bitCount cJ7_bitCount 1 (some .int)) rm_I_bitCount (va_Pc [.int x0] (wpre D vwCl (tyL ca) (eW ca) sz)) (va_Qi (fun (r : Int32) (u : Unit) => Q r) (wpost D vwCl (va_A (eW ca) sz) (fun (u : Unit) => (eW ca))) (va_A (eW ca) sz)) 0 0 (va_A (eW ca) sz) := by
  refine met_of (fun A => (va_Qi (fun (r : Int32) (u : Unit) => Q r) (wpost D vwCl A (fun (u : Unit) => (eW ca))) A)) (by decide) (Nat.le_of_ble_eq_true rfl) ?_
  intro p e s m args below meth c Z A hZ C H locs hP hD hS ls hl
  have hx := C.1; have hb := C.2.1; have hr := C.2.2.1; have hlocks := C.2.2.2.1; have hml := C.2.2.2.2.1; have hown := C.2.2.2.2.2.1; have hts := C.2.2.2.2.2.2.1; have hn := C.2.2.2.2.2.2.2.1; have hK := C.2.2.2.2.2.2.2.2.1; have hA := C.2.2.2.2.2.2.2.2.2
  have hl : lv_has ls 1 [(0, .int x0)] := hl
  unfold I_bitCount at G
  refine lv_iload_n hx hb dJ7_bitCount_0 rfl (lv_at hl 0 rfl) ?_
  refine lv_iload_n hx hb dJ7_bitCount_1 rfl (lv_at hl 0 rfl) ?_
  refine lv_iconst (v := 1) hx hb dJ7_bitCount_2 (by decide) ?_
  refine lv_iushr hx hb dJ7_bitCount_3 rfl ?_
  refine lv_ldcw hx hb hown (hts _ q706) dJ7_bitCount_4 ?_
  refine lv_iand hx hb dJ7_bitCount_7 ?_
  refine lv_isub hx hb dJ7_bitCount_8 ?_
  refine lv_istore_n (lv' := [(0, .int (x0 - ((((x0).toUInt32 >>> (((1 : Int32)).toUInt32 &&& Int32.toUInt32 31)).toInt32) &&& (1431655765 : Int32))))]) hx hb dJ7_bitCount_9 rfl hl (by decide) rfl (fun ls hl => ?_)
  refine lv_iload_n hx hb dJ7_bitCount_10 rfl (lv_at hl 0 rfl) ?_
  refine lv_ldcw hx hb hown (hts _ q707) dJ7_bitCount_11 ?_
  refine lv_iand hx hb dJ7_bitCount_14 ?_
  refine lv_iload_n hx hb dJ7_bitCount_15 rfl (lv_at hl 0 rfl) ?_
  refine lv_iconst (v := 2) hx hb dJ7_bitCount_16 (by decide) ?_
  refine lv_iushr hx hb dJ7_bitCount_17 rfl ?_
  refine lv_ldcw hx hb hown (hts _ q707) dJ7_bitCount_18 ?_
  refine lv_iand hx hb dJ7_bitCount_21 ?_
  refine lv_iadd hx hb dJ7_bitCount_22 ?_
  refine lv_istore_n (lv' := [(0, .int (((x0 - ((((x0).toUInt32 >>> (((1 : Int32)).toUInt32 &&& Int32.toUInt32 31)).toInt32) &&& (1431655765 : Int32))) &&& (858993459 : Int32)) + (((((x0 - ((((x0).toUInt32 >>> (((1 : Int32)).toUInt32 &&& Int32.toUInt32 31)).toInt32) &&& (1431655765 : Int32)))).toUInt32 >>> (((2 : Int32)).toUInt32 &&& Int32.toUInt32 31)).toInt32) &&& (858993459 : Int32))))]) hx hb dJ7_bitCount_23 rfl hl (by decide) rfl (fun ls hl => ?_)
  refine lv_iload_n hx hb dJ7_bitCount_24 rfl (lv_at hl 0 rfl) ?_
  refine lv_iload_n hx hb dJ7_bitCount_25 rfl (lv_at hl 0 rfl) ?_
  refine lv_iconst (v := 4) hx hb dJ7_bitCount_26 (by decide) ?_
  refine lv_iushr hx hb dJ7_bitCount_27 rfl ?_
  refine lv_iadd hx hb dJ7_bitCount_28 ?_
  refine lv_ldcw hx hb hown (hts _ q708) dJ7_bitCount_29 ?_
  refine lv_iand hx hb dJ7_bitCount_32 ?_
  refine lv_istore_n (lv' := [(0, .int (((((x0 - ((((x0).toUInt32 >>> (((1 : Int32)).toUInt32 &&& Int32.toUInt32 31)).toInt32) &&& (1431655765 : Int32))) &&& (858993459 : Int32)) + (((((x0 - ((((x0).toUInt32 >>> (((1 : Int32)).toUInt32 &&& Int32.toUInt32 31)).toInt32) &&& (1431655765 : Int32)))).toUInt32 >>> (((2 : Int32)).toUInt32 &&& Int32.toUInt32 31)).toInt32) &&& (858993459 : Int32))) + ((((((x0 - ((((x0).toUInt32 >>> (((1 : Int32)).toUInt32 &&& Int32.toUInt32 31)).toInt32) &&& (1431655765 : Int32))) &&& (858993459 : Int32)) + (((((x0 - ((((x0).toUInt32 >>> (((1 : Int32)).toUInt32 &&& Int32.toUInt32 31)).toInt32) &&& (1431655765 : Int32)))).toUInt32 >>> (((2 : Int32)).toUInt32 &&& Int32.toUInt32 31)).toInt32) &&& (858993459 : Int32)))).toUInt32 >>> (((4 : Int32)).toUInt32 &&& Int32.toUInt32 31)).toInt32)) &&& (252645135 : Int32)))]) hx hb dJ7_bitCount_33 rfl hl (by decide) rfl (fun ls hl => ?_)
  refine lv_iload_n hx hb dJ7_bitCount_34 rfl (lv_at hl 0 rfl) ?_
  refine lv_iload_n hx hb dJ7_bitCount_35 rfl (lv_at hl 0 rfl) ?_
  refine lv_bipush (v := 8) hx hb dJ7_bitCount_36 (by decide) ?_
  refine lv_iushr hx hb dJ7_bitCount_38 rfl ?_
  refine lv_iadd hx hb dJ7_bitCount_39 ?_
  refine lv_istore_n (lv' := [(0, .int ((((((x0 - ((((x0).toUInt32 >>> (((1 : Int32)).toUInt32 &&& Int32.toUInt32 31)).toInt32) &&& (1431655765 : Int32))) &&& (858993459 : Int32)) + (((((x0 - ((((x0).toUInt32 >>> (((1 : Int32)).toUInt32 &&& Int32.toUInt32 31)).toInt32) &&& (1431655765 : Int32)))).toUInt32 >>> (((2 : Int32)).toUInt32 &&& Int32.toUInt32 31)).toInt32) &&& (858993459 : Int32))) + ((((((x0 - ((((x0).toUInt32 >>> (((1 : Int32)).toUInt32 &&& Int32.toUInt32 31)).toInt32) &&& (1431655765 : Int32))) &&& (858993459 : Int32)) + (((((x0 - ((((x0).toUInt32 >>> (((1 : Int32)).toUInt32 &&& Int32.toUInt32 31)).toInt32) &&& (1431655765 : Int32)))).toUInt32 >>> (((2 : Int32)).toUInt32 &&& Int32.toUInt32 31)).toInt32) &&& (858993459 : Int32)))).toUInt32 >>> (((4 : Int32)).toUInt32 &&& Int32.toUInt32 31)).toInt32)) &&& (252645135 : Int32)) + ((((((((x0 - ((((x0).toUInt32 >>> (((1 : Int32)).toUInt32 &&& Int32.toUInt32 31)).toInt32) &&& (1431655765 : Int32))) &&& (858993459 : Int32)) + (((((x0 - ((((x0).toUInt32 >>> (((1 : Int32)).toUInt32 &&& Int32.toUInt32 31)).toInt32) &&& (1431655765 : Int32)))).toUInt32 >>> (((2 : Int32)).toUInt32 &&& Int32.toUInt32 31)).toInt32) &&& (858993459 : Int32))) + ((((((x0 - ((((x0).toUInt32 >>> (((1 : Int32)).toUInt32 &&& Int32.toUInt32 31)).toInt32) &&& (1431655765 : Int32))) &&& (858993459 : Int32)) + (((((x0 - ((((x0).toUInt32 >>> (((1 : Int32)).toUInt32 &&& Int32.toUInt32 31)).toInt32) &&& (1431655765 : Int32)))).toUInt32 >>> (((2 : Int32)).toUInt32 &&& Int32.toUInt32 31)).toInt32) &&& (858993459 : Int32)))).toUInt32 >>> (((4 : Int32)).toUInt32 &&& Int32.toUInt32 31)).toInt32)) &&& (252645135 : Int32))).toUInt32 >>> (((8 : Int32)).toUInt32 &&& Int32.toUInt32 31)).toInt32)))]) hx hb dJ7_bitCount_40 rfl hl (by decide) rfl (fun ls hl => ?_)
  refine lv_iload_n hx hb dJ7_bitCount_41 rfl (lv_at hl 0 rfl) ?_
  refine lv_iload_n hx hb dJ7_bitCount_42 rfl (lv_at hl 0 rfl) ?_
  refine lv_bipush (v := 16) hx hb dJ7_bitCount_43 (by decide) ?_
  refine lv_iushr hx hb dJ7_bitCount_45 rfl ?_
  refine lv_iadd hx hb dJ7_bitCount_46 ?_
  refine lv_istore_n (lv' := [(0, .int (((((((x0 - ((((x0).toUInt32 >>> (((1 : Int32)).toUInt32 &&& Int32.toUInt32 31)).toInt32) &&& (1431655765 : Int32))) &&& (858993459 : Int32)) + (((((x0 - ((((x0).toUInt32 >>> (((1 : Int32)).toUInt32 &&& Int32.toUInt32 31)).toInt32) &&& (1431655765 : Int32)))).toUInt32 >>> (((2 : Int32)).toUInt32 &&& Int32.toUInt32 31)).toInt32) &&& (858993459 : Int32))) + ((((((x0 - ((((x0).toUInt32 >>> (((1 : Int32)).toUInt32 &&& Int32.toUInt32 31)).toInt32) &&& (1431655765 : Int32))) &&& (858993459 : Int32)) + (((((x0 - ((((x0).toUInt32 >>> (((1 : Int32)).toUInt32 &&& Int32.toUInt32 31)).toInt32) &&& (1431655765 : Int32)))).toUInt32 >>> (((2 : Int32)).toUInt32 &&& Int32.toUInt32 31)).toInt32) &&& (858993459 : Int32)))).toUInt32 >>> (((4 : Int32)).toUInt32 &&& Int32.toUInt32 31)).toInt32)) &&& (252645135 : Int32)) + ((((((((x0 - ((((x0).toUInt32 >>> (((1 : Int32)).toUInt32 &&& Int32.toUInt32 31)).toInt32) &&& (1431655765 : Int32))) &&& (858993459 : Int32)) + (((((x0 - ((((x0).toUInt32 >>> (((1 : Int32)).toUInt32 &&& Int32.toUInt32 31)).toInt32) &&& (1431655765 : Int32)))).toUInt32 >>> (((2 : Int32)).toUInt32 &&& Int32.toUInt32 31)).toInt32) &&& (858993459 : Int32))) + ((((((x0 - ((((x0).toUInt32 >>> (((1 : Int32)).toUInt32 &&& Int32.toUInt32 31)).toInt32) &&& (1431655765 : Int32))) &&& (858993459 : Int32)) + (((((x0 - ((((x0).toUInt32 >>> (((1 : Int32)).toUInt32 &&& Int32.toUInt32 31)).toInt32) &&& (1431655765 : Int32)))).toUInt32 >>> (((2 : Int32)).toUInt32 &&& Int32.toUInt32 31)).toInt32) &&& (858993459 : Int32)))).toUInt32 >>> (((4 : Int32)).toUInt32 &&& Int32.toUInt32 31)).toInt32)) &&& (252645135 : Int32))).toUInt32 >>> (((8 : Int32)).toUInt32 &&& Int32.toUInt32 31)).toInt32)) + (((((((((x0 - ((((x0).toUInt32 >>> (((1 : Int32)).toUInt32 &&& Int32.toUInt32 31)).toInt32) &&& (1431655765 : Int32))) &&& (858993459 : Int32)) + (((((x0 - ((((x0).toUInt32 >>> (((1 : Int32)).toUInt32 &&& Int32.toUInt32 31)).toInt32) &&& (1431655765 : Int32)))).toUInt32 >>> (((2 : Int32)).toUInt32 &&& Int32.toUInt32 31)).toInt32) &&& (858993459 : Int32))) + ((((((x0 - ((((x0).toUInt32 >>> (((1 : Int32)).toUInt32 &&& Int32.toUInt32 31)).toInt32) &&& (1431655765 : Int32))) &&& (858993459 : Int32)) + (((((x0 - ((((x0).toUInt32 >>> (((1 : Int32)).toUInt32 &&& Int32.toUInt32 31)).toInt32) &&& (1431655765 : Int32)))).toUInt32 >>> (((2 : Int32)).toUInt32 &&& Int32.toUInt32 31)).toInt32) &&& (858993459 : Int32)))).toUInt32 >>> (((4 : Int32)).toUInt32 &&& Int32.toUInt32 31)).toInt32)) &&& (252645135 : Int32)) + ((((((((x0 - ((((x0).toUInt32 >>> (((1 : Int32)).toUInt32 &&& Int32.toUInt32 31)).toInt32) &&& (1431655765 : Int32))) &&& (858993459 : Int32)) + (((((x0 - ((((x0).toUInt32 >>> (((1 : Int32)).toUInt32 &&& Int32.toUInt32 31)).toInt32) &&& (1431655765 : Int32)))).toUInt32 >>> (((2 : Int32)).toUInt32 &&& Int32.toUInt32 31)).toInt32) &&& (858993459 : Int32))) + ((((((x0 - ((((x0).toUInt32 >>> (((1 : Int32)).toUInt32 &&& Int32.toUInt32 31)).toInt32) &&& (1431655765 : Int32))) &&& (858993459 : Int32)) + (((((x0 - ((((x0).toUInt32 >>> (((1 : Int32)).toUInt32 &&& Int32.toUInt32 31)).toInt32) &&& (1431655765 : Int32)))).toUInt32 >>> (((2 : Int32)).toUInt32 &&& Int32.toUInt32 31)).toInt32) &&& (858993459 : Int32)))).toUInt32 >>> (((4 : Int32)).toUInt32 &&& Int32.toUInt32 31)).toInt32)) &&& (252645135 : Int32))).toUInt32 >>> (((8 : Int32)).toUInt32 &&& Int32.toUInt32 31)).toInt32))).toUInt32 >>> (((16 : Int32)).toUInt32 &&& Int32.toUInt32 31)).toInt32)))]) hx hb dJ7_bitCount_47 rfl hl (by decide) rfl (fun ls hl => ?_)
  refine lv_iload_n hx hb dJ7_bitCount_48 rfl (lv_at hl 0 rfl) ?_
  refine lv_bipush (v := 63) hx hb dJ7_bitCount_49 (by decide) ?_
  refine lv_iand hx hb dJ7_bitCount_51 ?_
  rw [hZ]
  exact W.iret hx hb hr (fun t ht hW => ⟨⟨((((((((x0 - ((((x0).toUInt32 >>> (((1 : Int32)).toUInt32 &&& Int32.toUInt32 31)).toInt32) &&& (1431655765 : Int32))) &&& (858993459 : Int32)) + (((((x0 - ((((x0).toUInt32 >>> (((1 : Int32)).toUInt32 &&& Int32.toUInt32 31)).toInt32) &&& (1431655765 : Int32)))).toUInt32 >>> (((2 : Int32)).toUInt32 &&& Int32.toUInt32 31)).toInt32) &&& (858993459 : Int32))) + ((((((x0 - ((((x0).toUInt32 >>> (((1 : Int32)).toUInt32 &&& Int32.toUInt32 31)).toInt32) &&& (1431655765 : Int32))) &&& (858993459 : Int32)) + (((((x0 - ((((x0).toUInt32 >>> (((1 : Int32)).toUInt32 &&& Int32.toUInt32 31)).toInt32) &&& (1431655765 : Int32)))).toUInt32 >>> (((2 : Int32)).toUInt32 &&& Int32.toUInt32 31)).toInt32) &&& (858993459 : Int32)))).toUInt32 >>> (((4 : Int32)).toUInt32 &&& Int32.toUInt32 31)).toInt32)) &&& (252645135 : Int32)) + ((((((((x0 - ((((x0).toUInt32 >>> (((1 : Int32)).toUInt32 &&& Int32.toUInt32 31)).toInt32) &&& (1431655765 : Int32))) &&& (858993459 : Int32)) + (((((x0 - ((((x0).toUInt32 >>> (((1 : Int32)).toUInt32 &&& Int32.toUInt32 31)).toInt32) &&& (1431655765 : Int32)))).toUInt32 >>> (((2 : Int32)).toUInt32 &&& Int32.toUInt32 31)).toInt32) &&& (858993459 : Int32))) + ((((((x0 - ((((x0).toUInt32 >>> (((1 : Int32)).toUInt32 &&& Int32.toUInt32 31)).toInt32) &&& (1431655765 : Int32))) &&& (858993459 : Int32)) + (((((x0 - ((((x0).toUInt32 >>> (((1 : Int32)).toUInt32 &&& Int32.toUInt32 31)).toInt32) &&& (1431655765 : Int32)))).toUInt32 >>> (((2 : Int32)).toUInt32 &&& Int32.toUInt32 31)).toInt32) &&& (858993459 : Int32)))).toUInt32 >>> (((4 : Int32)).toUInt32 &&& Int32.toUInt32 31)).toInt32)) &&& (252645135 : Int32))).toUInt32 >>> (((8 : Int32)).toUInt32 &&& Int32.toUInt32 31)).toInt32)) + (((((((((x0 - ((((x0).toUInt32 >>> (((1 : Int32)).toUInt32 &&& Int32.toUInt32 31)).toInt32) &&& (1431655765 : Int32))) &&& (858993459 : Int32)) + (((((x0 - ((((x0).toUInt32 >>> (((1 : Int32)).toUInt32 &&& Int32.toUInt32 31)).toInt32) &&& (1431655765 : Int32)))).toUInt32 >>> (((2 : Int32)).toUInt32 &&& Int32.toUInt32 31)).toInt32) &&& (858993459 : Int32))) + ((((((x0 - ((((x0).toUInt32 >>> (((1 : Int32)).toUInt32 &&& Int32.toUInt32 31)).toInt32) &&& (1431655765 : Int32))) &&& (858993459 : Int32)) + (((((x0 - ((((x0).toUInt32 >>> (((1 : Int32)).toUInt32 &&& Int32.toUInt32 31)).toInt32) &&& (1431655765 : Int32)))).toUInt32 >>> (((2 : Int32)).toUInt32 &&& Int32.toUInt32 31)).toInt32) &&& (858993459 : Int32)))).toUInt32 >>> (((4 : Int32)).toUInt32 &&& Int32.toUInt32 31)).toInt32)) &&& (252645135 : Int32)) + ((((((((x0 - ((((x0).toUInt32 >>> (((1 : Int32)).toUInt32 &&& Int32.toUInt32 31)).toInt32) &&& (1431655765 : Int32))) &&& (858993459 : Int32)) + (((((x0 - ((((x0).toUInt32 >>> (((1 : Int32)).toUInt32 &&& Int32.toUInt32 31)).toInt32) &&& (1431655765 : Int32)))).toUInt32 >>> (((2 : Int32)).toUInt32 &&& Int32.toUInt32 31)).toInt32) &&& (858993459 : Int32))) + ((((((x0 - ((((x0).toUInt32 >>> (((1 : Int32)).toUInt32 &&& Int32.toUInt32 31)).toInt32) &&& (1431655765 : Int32))) &&& (858993459 : Int32)) + (((((x0 - ((((x0).toUInt32 >>> (((1 : Int32)).toUInt32 &&& Int32.toUInt32 31)).toInt32) &&& (1431655765 : Int32)))).toUInt32 >>> (((2 : Int32)).toUInt32 &&& Int32.toUInt32 31)).toInt32) &&& (858993459 : Int32)))).toUInt32 >>> (((4 : Int32)).toUInt32 &&& Int32.toUInt32 31)).toInt32)) &&& (252645135 : Int32))).toUInt32 >>> (((8 : Int32)).toUInt32 &&& Int32.toUInt32 31)).toInt32))).toUInt32 >>> (((16 : Int32)).toUInt32 &&& Int32.toUInt32 31)).toInt32)) &&& (63 : Int32)), (), rfl, G, by rw [ht]; exact hP, hD⟩, hS.F ht⟩) hS.2.2 dJ7_bitCount_52 hlocks
abbrev rm_F1_waits : Room := { frames := 1, cells := 0, slots := 0, locals := 0 }
set_option maxHeartbeats 4000000 in
theorem met_F1_waits (l : Launch) (D : va_G) (f : Nat) (ci : Nat) (ca : Nat → ClassId) (sz : Nat)  (x1 : Int32) : Met l yX1_waits (ws_ yX1_waits cX1_waits 2 (some .int)) rm_F1_waits (va_Pc [.ref f, .int x1] (wpre D vwCl (tyL ca) (fW f ci ca) sz)) (va_Qi (fun (r : Int32) (u : Unit) => r = F1_waits_e x1) (wpost D vwCl (va_A (fW f ci ca) sz) (fun (u : Unit) => (fW f ci ca))) (va_A (fW f ci ca) sz)) 0 0 (va_A (fW f ci ca) sz) := by
  refine met_of (fun A => (va_Qi (fun (r : Int32) (u : Unit) => r = F1_waits_e x1) (wpost D vwCl A (fun (u : Unit) => (fW f ci ca))) A)) (by decide) (Nat.le_of_ble_eq_true rfl) ?_
  intro p e s m args below meth c Z A hZ C H locs hP hD hS ls hl
  have hx := C.1; have hb := C.2.1; have hr := C.2.2.1; have hlocks := C.2.2.2.1; have hml := C.2.2.2.2.1; have hown := C.2.2.2.2.2.1; have hts := C.2.2.2.2.2.2.1; have hn := C.2.2.2.2.2.2.2.1; have hK := C.2.2.2.2.2.2.2.2.1; have hA := C.2.2.2.2.2.2.2.2.2
  have hl : lv_has ls 2 [(0, .ref f), (1, .int x1)] := hl
  refine lv_iload_n hx hb dX1_waits_0 rfl (lv_at hl 1 rfl) ?_
  refine lv_iconst (v := 1) hx hb dX1_waits_1 (by decide) ?_
  refine lv_icmp_ne (tgt := 9) hx hb dX1_waits_2 (by decide) (fun c_1 => ?_) (fun c_1 => ?_)
  · refine lv_iload_n hx hb dX1_waits_9 rfl (lv_at hl 1 rfl) ?_
    refine lv_iconst (v := 3) hx hb dX1_waits_10 (by decide) ?_
    refine lv_icmp_ge (tgt := 18) hx hb dX1_waits_11 (by decide) (fun c_2 => ?_) (fun c_2 => ?_)
    · refine lv_iconst (v := 2) hx hb dX1_waits_18 (by decide) ?_
      refine lv_iload_n hx hb dX1_waits_19 rfl (lv_at hl 1 rfl) ?_
      refine lv_imul hx hb dX1_waits_20 ?_
      refine lv_iconst (v := 3) hx hb dX1_waits_21 (by decide) ?_
      refine lv_isub hx hb dX1_waits_22 ?_
      rw [hZ]
      exact W.iret hx hb hr (fun t ht hW => ⟨⟨(((2 : Int32) * x1) - (3 : Int32)), (), rfl, (eF c_1 (eT c_2 rfl)), by rw [ht]; exact hP, hD⟩, hS.F ht⟩) hS.2.2 dX1_waits_23 hlocks
    · refine lv_iconst (v := 0) hx hb dX1_waits_14 (by decide) ?_
      refine lv_goto (tgt := 23) hx hb dX1_waits_15 (by decide) ?_
      rw [hZ]
      exact W.iret hx hb hr (fun t ht hW => ⟨⟨(0 : Int32), (), rfl, (eF c_1 (eF c_2 rfl)), by rw [ht]; exact hP, hD⟩, hS.F ht⟩) hS.2.2 dX1_waits_23 hlocks
  · refine lv_iconst (v := 1) hx hb dX1_waits_5 (by decide) ?_
    refine lv_goto (tgt := 23) hx hb dX1_waits_6 (by decide) ?_
    rw [hZ]
    exact W.iret hx hb hr (fun t ht hW => ⟨⟨(1 : Int32), (), rfl, (eT c_1 rfl), by rw [ht]; exact hP, hD⟩, hS.F ht⟩) hS.2.2 dX1_waits_23 hlocks
abbrev rm_F2_waits : Room := { frames := 2, cells := 0, slots := 0, locals := 21 }
set_option maxHeartbeats 4000000 in
theorem met_F2_waits (l : Launch) (D : va_G) (f : Nat) (ci : Nat) (ca : Nat → ClassId) (sz : Nat)  (x1 : Int32) : Met l yX2_waits (ws_ yX2_waits cX2_waits 2 (some .int)) rm_F2_waits (va_Pc [.ref f, .int x1] (wpre D vwCl (tyL ca) (fW f ci ca) sz)) (va_Qi (fun (r : Int32) (u : Unit) => r = F2_waits_e x1) (wpost D vwCl (va_A (fW f ci ca) sz) (fun (u : Unit) => (fW f ci ca))) (va_A (fW f ci ca) sz)) 0 0 (va_A (fW f ci ca) sz) := by
  refine met_of (fun A => (va_Qi (fun (r : Int32) (u : Unit) => r = F2_waits_e x1) (wpost D vwCl A (fun (u : Unit) => (fW f ci ca))) A)) (by decide) (Nat.le_of_ble_eq_true rfl) ?_
  intro p e s m args below meth c Z A hZ C H locs hP hD hS ls hl
  have hx := C.1; have hb := C.2.1; have hr := C.2.2.1; have hlocks := C.2.2.2.1; have hml := C.2.2.2.2.1; have hown := C.2.2.2.2.2.1; have hts := C.2.2.2.2.2.2.1; have hn := C.2.2.2.2.2.2.2.1; have hK := C.2.2.2.2.2.2.2.2.1; have hA := C.2.2.2.2.2.2.2.2.2
  have hl : lv_has ls 2 [(0, .ref f), (1, .int x1)] := hl
  refine lv_aload_n hx hb dX2_waits_0 rfl (lv_at hl 0 rfl) ?_
  refine lv_iload_n hx hb dX2_waits_1 rfl (lv_at hl 1 rfl) ?_
  refine wc_Ui (As := [.int x1]) (rest := []) C (met_F1_waits l D f ci ca H.size x1) (va_cwSU 1 hts (lw_SU q626 q612 q115 q610 q69 q617) rfl rfl rfl ⟨by decide, by decide +kernel⟩ ⟨Nat.le_of_ble_eq_true rfl, Nat.le_of_ble_eq_true rfl⟩) hP hD hS 0 rfl rfl rfl hl.1 (Nat.le_of_ble_eq_true rfl) dX2_waits_2 ⟨Nat.le_of_ble_eq_true rfl, Nat.le_of_ble_eq_true rfl⟩ (fun r_1 u H locs hr hP hD hS => ?_)
  subst hr
  have hP : va_P D vwCl (fW f ci ca) H := hP
  have hD : va_D A (fW f ci ca) := hD
  refine lv_iconst (v := 2) hx hb dX2_waits_5 (by decide) ?_
  refine lv_idiv hx hb dX2_waits_6 (by decide) ?_
  rw [hZ]
  exact W.iret hx hb hr (fun t ht hW => ⟨⟨((F1_waits_e x1) / (2 : Int32)), (), rfl, rfl, by rw [ht]; exact hP, hD⟩, hS.F ht⟩) hS.2.2 dX2_waits_7 hlocks
abbrev rm_F3_waits : Room := { frames := 2, cells := 0, slots := 0, locals := 21 }
set_option maxHeartbeats 4000000 in
theorem met_F3_waits (l : Launch) (D : va_G) (f : Nat) (ci : Nat) (ca : Nat → ClassId) (sz : Nat)  (x1 : Int32) : Met l yX3_waits (ws_ yX3_waits cX3_waits 2 (some .int)) rm_F3_waits (va_Pc [.ref f, .int x1] (wpre D vwCl (tyL ca) (fW f ci ca) sz)) (va_Qi (fun (r : Int32) (u : Unit) => r = F3_waits_e x1) (wpost D vwCl (va_A (fW f ci ca) sz) (fun (u : Unit) => (fW f ci ca))) (va_A (fW f ci ca) sz)) 0 0 (va_A (fW f ci ca) sz) := by
  refine met_of (fun A => (va_Qi (fun (r : Int32) (u : Unit) => r = F3_waits_e x1) (wpost D vwCl A (fun (u : Unit) => (fW f ci ca))) A)) (by decide) (Nat.le_of_ble_eq_true rfl) ?_
  intro p e s m args below meth c Z A hZ C H locs hP hD hS ls hl
  have hx := C.1; have hb := C.2.1; have hr := C.2.2.1; have hlocks := C.2.2.2.1; have hml := C.2.2.2.2.1; have hown := C.2.2.2.2.2.1; have hts := C.2.2.2.2.2.2.1; have hn := C.2.2.2.2.2.2.2.1; have hK := C.2.2.2.2.2.2.2.2.1; have hA := C.2.2.2.2.2.2.2.2.2
  have hl : lv_has ls 2 [(0, .ref f), (1, .int x1)] := hl
  refine lv_iload_n hx hb dX3_waits_0 rfl (lv_at hl 1 rfl) ?_
  refine lv_if_ne (tgt := 8) hx hb dX3_waits_1 (by decide) (fun c_1 => ?_) (fun c_1 => ?_)
  · refine lv_aload_n hx hb dX3_waits_8 rfl (lv_at hl 0 rfl) ?_
    refine lv_iload_n hx hb dX3_waits_9 rfl (lv_at hl 1 rfl) ?_
    refine wc_Ui (As := [.int x1]) (rest := []) C (met_F1_waits l D f ci ca H.size x1) (va_cwSU 1 hts (lw_SU q616 q612 q122 q610 q69 q617) rfl rfl rfl ⟨by decide, by decide +kernel⟩ ⟨Nat.le_of_ble_eq_true rfl, Nat.le_of_ble_eq_true rfl⟩) hP hD hS 0 rfl rfl rfl hl.1 (Nat.le_of_ble_eq_true rfl) dX3_waits_10 ⟨Nat.le_of_ble_eq_true rfl, Nat.le_of_ble_eq_true rfl⟩ (fun r_2 u H locs hr hP hD hS => ?_)
    subst hr
    have hP : va_P D vwCl (fW f ci ca) H := hP
    have hD : va_D A (fW f ci ca) := hD
    refine lv_iconst (v := 1) hx hb dX3_waits_13 (by decide) ?_
    refine lv_iadd hx hb dX3_waits_14 ?_
    rw [hZ]
    exact W.iret hx hb hr (fun t ht hW => ⟨⟨((F1_waits_e x1) + (1 : Int32)), (), rfl, (eF c_1 rfl), by rw [ht]; exact hP, hD⟩, hS.F ht⟩) hS.2.2 dX3_waits_15 hlocks
  · refine lv_iconst (v := 0) hx hb dX3_waits_4 (by decide) ?_
    refine lv_goto (tgt := 15) hx hb dX3_waits_5 (by decide) ?_
    rw [hZ]
    exact W.iret hx hb hr (fun t ht hW => ⟨⟨(0 : Int32), (), rfl, (eT c_1 rfl), by rw [ht]; exact hP, hD⟩, hS.F ht⟩) hS.2.2 dX3_waits_15 hlocks
abbrev rm_F4_waits : Room := { frames := 3, cells := 0, slots := 0, locals := 42 }
set_option maxHeartbeats 4000000 in
theorem met_F4_waits (l : Launch) (D : va_G) (f : Nat) (ci : Nat) (ca : Nat → ClassId) (sz : Nat)  (x1 : Int32) : Met l yX4_waits (ws_ yX4_waits cX4_waits 2 (some .int)) rm_F4_waits (va_Pc [.ref f, .int x1] (wpre D vwCl (tyL ca) (fW f ci ca) sz)) (va_Qi (fun (r : Int32) (u : Unit) => r = F4_waits_e x1) (wpost D vwCl (va_A (fW f ci ca) sz) (fun (u : Unit) => (fW f ci ca))) (va_A (fW f ci ca) sz)) 0 0 (va_A (fW f ci ca) sz) := by
  refine met_of (fun A => (va_Qi (fun (r : Int32) (u : Unit) => r = F4_waits_e x1) (wpost D vwCl A (fun (u : Unit) => (fW f ci ca))) A)) (by decide) (Nat.le_of_ble_eq_true rfl) ?_
  intro p e s m args below meth c Z A hZ C H locs hP hD hS ls hl
  have hx := C.1; have hb := C.2.1; have hr := C.2.2.1; have hlocks := C.2.2.2.1; have hml := C.2.2.2.2.1; have hown := C.2.2.2.2.2.1; have hts := C.2.2.2.2.2.2.1; have hn := C.2.2.2.2.2.2.2.1; have hK := C.2.2.2.2.2.2.2.2.1; have hA := C.2.2.2.2.2.2.2.2.2
  have hl : lv_has ls 2 [(0, .ref f), (1, .int x1)] := hl
  refine lv_iload_n hx hb dX4_waits_0 rfl (lv_at hl 1 rfl) ?_
  refine lv_iconst (v := 1) hx hb dX4_waits_1 (by decide) ?_
  refine lv_icmp_ne (tgt := 9) hx hb dX4_waits_2 (by decide) (fun c_1 => ?_) (fun c_1 => ?_)
  · refine lv_iload_n hx hb dX4_waits_9 rfl (lv_at hl 1 rfl) ?_
    refine lv_iconst (v := 2) hx hb dX4_waits_10 (by decide) ?_
    refine lv_icmp_ne (tgt := 24) hx hb dX4_waits_11 (by decide) (fun c_2 => ?_) (fun c_2 => ?_)
    · refine lv_iconst (v := 0) hx hb dX4_waits_24 (by decide) ?_
      refine lv_aload_n hx hb dX4_waits_25 rfl (lv_at hl 0 rfl) ?_
      refine lv_iload_n hx hb dX4_waits_26 rfl (lv_at hl 1 rfl) ?_
      refine wc_Ui (As := [.int x1]) (rest := [.int (0 : Int32)]) C (met_F3_waits l D f ci ca H.size x1) (va_cwSU 1 hts (lw_SU q621 q1358 q129 q614 q71 q615) rfl rfl rfl ⟨by decide, by decide +kernel⟩ ⟨Nat.le_of_ble_eq_true rfl, Nat.le_of_ble_eq_true rfl⟩) hP hD hS 0 rfl rfl rfl hl.1 (Nat.le_of_ble_eq_true rfl) dX4_waits_27 ⟨Nat.le_of_ble_eq_true rfl, Nat.le_of_ble_eq_true rfl⟩ (fun r_3 u H locs hr hP hD hS => ?_)
      subst hr
      have hP : va_P D vwCl (fW f ci ca) H := hP
      have hD : va_D A (fW f ci ca) := hD
      refine lv_iconst (v := 1) hx hb dX4_waits_30 (by decide) ?_
      refine lv_isub hx hb dX4_waits_31 ?_
      refine va_mmax hx hb (hml.trans hl.1.symm) hown (hts _ q622) (hts _ q534) (hts _ q84) (hts _ q535) (Nat.le_of_ble_eq_true rfl) (Nat.le_of_ble_eq_true rfl) (Nat.zero_le _) (Nat.zero_le _) dX4_waits_32 ?_
      rw [hZ]
      exact W.iret hx hb hr (fun t ht hW => ⟨⟨(if (0 : Int32) < ((F3_waits_e x1) - (1 : Int32)) then ((F3_waits_e x1) - (1 : Int32)) else (0 : Int32)), (), rfl, (eF c_1 (eF c_2 rfl)), by rw [ht]; exact hP, hD⟩, hS.F ht⟩) hS.2.2 dX4_waits_35 hlocks
    · refine lv_aload_n hx hb dX4_waits_14 rfl (lv_at hl 0 rfl) ?_
      refine lv_iload_n hx hb dX4_waits_15 rfl (lv_at hl 1 rfl) ?_
      refine wc_Ui (As := [.int x1]) (rest := []) C (met_F3_waits l D f ci ca H.size x1) (va_cwSU 1 hts (lw_SU q621 q1358 q129 q614 q71 q615) rfl rfl rfl ⟨by decide, by decide +kernel⟩ ⟨Nat.le_of_ble_eq_true rfl, Nat.le_of_ble_eq_true rfl⟩) hP hD hS 0 rfl rfl rfl hl.1 (Nat.le_of_ble_eq_true rfl) dX4_waits_16 ⟨Nat.le_of_ble_eq_true rfl, Nat.le_of_ble_eq_true rfl⟩ (fun r_4 u H locs hr hP hD hS => ?_)
      subst hr
      have hP : va_P D vwCl (fW f ci ca) H := hP
      have hD : va_D A (fW f ci ca) := hD
      refine lv_iconst (v := 1) hx hb dX4_waits_19 (by decide) ?_
      refine lv_iadd hx hb dX4_waits_20 ?_
      refine lv_goto (tgt := 35) hx hb dX4_waits_21 (by decide) ?_
      rw [hZ]
      exact W.iret hx hb hr (fun t ht hW => ⟨⟨((F3_waits_e x1) + (1 : Int32)), (), rfl, (eF c_1 (eT c_2 rfl)), by rw [ht]; exact hP, hD⟩, hS.F ht⟩) hS.2.2 dX4_waits_35 hlocks
  · refine lv_iconst (v := 0) hx hb dX4_waits_5 (by decide) ?_
    refine lv_goto (tgt := 35) hx hb dX4_waits_6 (by decide) ?_
    rw [hZ]
    exact W.iret hx hb hr (fun t ht hW => ⟨⟨(0 : Int32), (), rfl, (eT c_1 rfl), by rw [ht]; exact hP, hD⟩, hS.F ht⟩) hS.2.2 dX4_waits_35 hlocks
abbrev rm_B_as : Room := { frames := 1, cells := 0, slots := 0, locals := 60 }
set_option maxHeartbeats 4000000 in
theorem met_B_as (l : Launch) (D : va_G) (b : Nat) (bo : Nat) (bt : Nat) (d : Nat) (do_ : Nat) (dt : Nat) (ca : Nat → ClassId) (sz : Nat) (b_blocks : Int32) (b_guarded : Int32) (b_trains : Int32) (b_omen : Nat → Int32) (b_train : Nat → Int32) (d_blocks : Int32) (d_guarded : Int32) (d_trains : Int32) (d_omen : Nat → Int32) (d_train : Nat → Int32)  (Q : Int32 → Int32 → Int32 → (Nat → Int32) → (Nat → Int32) → Prop) (G : B_as b_blocks b_guarded b_trains b_omen b_train d_blocks d_guarded d_trains d_omen d_train Q) : Met l yX5_as (ws_ yX5_as cX5_as 2 none) rm_B_as (va_Pc [.ref b, .ref d] (wpre D vwCl (tyL ca) (bbW b bo bt d do_ dt ca b_blocks b_guarded b_trains b_omen b_train d_blocks d_guarded d_trains d_omen d_train) sz)) (va_Qv (fun (u : Int32 × Int32 × Int32 × (Nat → Int32) × (Nat → Int32)) => Q u.1 u.2.1 u.2.2.1 u.2.2.2.1 u.2.2.2.2) (wpost D vwCl (va_A (bbW b bo bt d do_ dt ca b_blocks b_guarded b_trains b_omen b_train d_blocks d_guarded d_trains d_omen d_train) sz) (fun (u : Int32 × Int32 × Int32 × (Nat → Int32) × (Nat → Int32)) => (bbW b bo bt d do_ dt ca u.1 u.2.1 u.2.2.1 u.2.2.2.1 u.2.2.2.2 d_blocks d_guarded d_trains d_omen d_train))) (va_A (bbW b bo bt d do_ dt ca b_blocks b_guarded b_trains b_omen b_train d_blocks d_guarded d_trains d_omen d_train) sz)) 0 0 (va_A (bbW b bo bt d do_ dt ca b_blocks b_guarded b_trains b_omen b_train d_blocks d_guarded d_trains d_omen d_train) sz) := by
  refine met_of (fun A => (va_Qv (fun (u : Int32 × Int32 × Int32 × (Nat → Int32) × (Nat → Int32)) => Q u.1 u.2.1 u.2.2.1 u.2.2.2.1 u.2.2.2.2) (wpost D vwCl A (fun (u : Int32 × Int32 × Int32 × (Nat → Int32) × (Nat → Int32)) => (bbW b bo bt d do_ dt ca u.1 u.2.1 u.2.2.1 u.2.2.2.1 u.2.2.2.2 d_blocks d_guarded d_trains d_omen d_train))) A)) (by decide) (Nat.le_of_ble_eq_true rfl) ?_
  intro p e s m args below meth c Z A hZ C H locs hP hD hS ls hl
  have hx := C.1; have hb := C.2.1; have hr := C.2.2.1; have hlocks := C.2.2.2.1; have hml := C.2.2.2.2.1; have hown := C.2.2.2.2.2.1; have hts := C.2.2.2.2.2.2.1; have hn := C.2.2.2.2.2.2.2.1; have hK := C.2.2.2.2.2.2.2.2.1; have hA := C.2.2.2.2.2.2.2.2.2
  have hl : lv_has ls 2 [(0, .ref b), (1, .ref d)] := hl
  unfold B_as at G
  refine lv_aload_n hx hb dX5_as_0 rfl (lv_at hl 0 rfl) ?_
  refine lv_aload_n hx hb dX5_as_1 rfl (lv_at hl 1 rfl) ?_
  refine va_get hx hb hts in_X5 hown hK hP 3 rfl rfl 0 (by decide) (hts _ q136) (fun _ h => h) rfl dX5_as_2 ?_
  refine va_put hx hb hts in_X5 tyX5 tyX5_ok nmX5 hown hK hP hD hS 0 rfl rfl 0 (by decide) (hts _ q136) (fun _ h => h) rfl (tyX5_ok 0 (by decide)) rfl rfl (Nat.le_of_ble_eq_true rfl) dX5_as_5 (fun H locs hP hD hS => ?_)
  have hP : va_P D vwCl (bbW b bo bt d do_ dt ca d_blocks b_guarded b_trains b_omen b_train d_blocks d_guarded d_trains d_omen d_train) H := hP
  have hD : va_D A (bbW b bo bt d do_ dt ca d_blocks b_guarded b_trains b_omen b_train d_blocks d_guarded d_trains d_omen d_train) := hD
  refine lv_aload_n hx hb dX5_as_8 rfl (lv_at hl 1 rfl) ?_
  refine va_get hx hb hts in_X5 hown hK hP 3 rfl rfl 1 (by decide) (hts _ q139) (fun _ h => h) rfl dX5_as_9 ?_
  refine lv_iconst (v := 0) hx hb dX5_as_12 (by decide) ?_
  refine lv_aload_n hx hb dX5_as_13 rfl (lv_at hl 0 rfl) ?_
  refine va_get hx hb hts in_X5 hown hK hP 0 rfl rfl 1 (by decide) (hts _ q139) (fun _ h => h) rfl dX5_as_14 ?_
  refine lv_iconst (v := 0) hx hb dX5_as_17 (by decide) ?_
  refine lv_bipush (v := 8) hx hb dX5_as_18 (by decide) ?_
  obtain ⟨h_1, G⟩ := G
  refine va_copyi hx hb (hml.trans hl.1.symm) hown (hts _ q559) (hts _ q561) (hts _ q560) (hts _ q85) hK hP hD hS 4 1 2 2 rfl rfl rfl rfl rfl (by decide) (by decide) (by decide) (by decide) (by decide) (bfit_z h_1) (Nat.le_of_ble_eq_true rfl) (Nat.le_of_ble_eq_true rfl) dX5_as_20 (fun H locs hP hD hS => ?_)
  have hP : va_P D vwCl (bbW b bo bt d do_ dt ca d_blocks b_guarded b_trains (va_cpy d_omen b_omen (0 : Int32).toNatClampNeg (0 : Int32).toNatClampNeg (8 : Int32).toNatClampNeg) b_train d_blocks d_guarded d_trains d_omen d_train) H := hP
  have hD : va_D A (bbW b bo bt d do_ dt ca d_blocks b_guarded b_trains (va_cpy d_omen b_omen (0 : Int32).toNatClampNeg (0 : Int32).toNatClampNeg (8 : Int32).toNatClampNeg) b_train d_blocks d_guarded d_trains d_omen d_train) := hD
  refine lv_aload_n hx hb dX5_as_23 rfl (lv_at hl 0 rfl) ?_
  refine lv_aload_n hx hb dX5_as_24 rfl (lv_at hl 1 rfl) ?_
  refine va_get hx hb hts in_X5 hown hK hP 3 rfl rfl 2 (by decide) (hts _ q142) (fun _ h => h) rfl dX5_as_25 ?_
  refine va_put hx hb hts in_X5 tyX5 tyX5_ok nmX5 hown hK hP hD hS 0 rfl rfl 2 (by decide) (hts _ q142) (fun _ h => h) rfl (tyX5_ok 2 (by decide)) rfl rfl (Nat.le_of_ble_eq_true rfl) dX5_as_28 (fun H locs hP hD hS => ?_)
  have hP : va_P D vwCl (bbW b bo bt d do_ dt ca d_blocks d_guarded b_trains (va_cpy d_omen b_omen (0 : Int32).toNatClampNeg (0 : Int32).toNatClampNeg (8 : Int32).toNatClampNeg) b_train d_blocks d_guarded d_trains d_omen d_train) H := hP
  have hD : va_D A (bbW b bo bt d do_ dt ca d_blocks d_guarded b_trains (va_cpy d_omen b_omen (0 : Int32).toNatClampNeg (0 : Int32).toNatClampNeg (8 : Int32).toNatClampNeg) b_train d_blocks d_guarded d_trains d_omen d_train) := hD
  refine lv_aload_n hx hb dX5_as_31 rfl (lv_at hl 0 rfl) ?_
  refine lv_aload_n hx hb dX5_as_32 rfl (lv_at hl 1 rfl) ?_
  refine va_get hx hb hts in_X5 hown hK hP 3 rfl rfl 3 (by decide) (hts _ q145) (fun _ h => h) rfl dX5_as_33 ?_
  refine va_put hx hb hts in_X5 tyX5 tyX5_ok nmX5 hown hK hP hD hS 0 rfl rfl 3 (by decide) (hts _ q145) (fun _ h => h) rfl (tyX5_ok 3 (by decide)) rfl rfl (Nat.le_of_ble_eq_true rfl) dX5_as_36 (fun H locs hP hD hS => ?_)
  have hP : va_P D vwCl (bbW b bo bt d do_ dt ca d_blocks d_guarded d_trains (va_cpy d_omen b_omen (0 : Int32).toNatClampNeg (0 : Int32).toNatClampNeg (8 : Int32).toNatClampNeg) b_train d_blocks d_guarded d_trains d_omen d_train) H := hP
  have hD : va_D A (bbW b bo bt d do_ dt ca d_blocks d_guarded d_trains (va_cpy d_omen b_omen (0 : Int32).toNatClampNeg (0 : Int32).toNatClampNeg (8 : Int32).toNatClampNeg) b_train d_blocks d_guarded d_trains d_omen d_train) := hD
  refine lv_aload_n hx hb dX5_as_39 rfl (lv_at hl 1 rfl) ?_
  refine va_get hx hb hts in_X5 hown hK hP 3 rfl rfl 4 (by decide) (hts _ q148) (fun _ h => h) rfl dX5_as_40 ?_
  refine lv_iconst (v := 0) hx hb dX5_as_43 (by decide) ?_
  refine lv_aload_n hx hb dX5_as_44 rfl (lv_at hl 0 rfl) ?_
  refine va_get hx hb hts in_X5 hown hK hP 0 rfl rfl 4 (by decide) (hts _ q148) (fun _ h => h) rfl dX5_as_45 ?_
  refine lv_iconst (v := 0) hx hb dX5_as_48 (by decide) ?_
  refine lv_bipush (v := 16) hx hb dX5_as_49 (by decide) ?_
  obtain ⟨h_2, G⟩ := G
  refine va_copyi hx hb (hml.trans hl.1.symm) hown (hts _ q559) (hts _ q561) (hts _ q560) (hts _ q85) hK hP hD hS 5 2 2 2 rfl rfl rfl rfl rfl (by decide) (by decide) (by decide) (by decide) (by decide) (bfit_z h_2) (Nat.le_of_ble_eq_true rfl) (Nat.le_of_ble_eq_true rfl) dX5_as_51 (fun H locs hP hD hS => ?_)
  have hP : va_P D vwCl (bbW b bo bt d do_ dt ca d_blocks d_guarded d_trains (va_cpy d_omen b_omen (0 : Int32).toNatClampNeg (0 : Int32).toNatClampNeg (8 : Int32).toNatClampNeg) (va_cpy d_train b_train (0 : Int32).toNatClampNeg (0 : Int32).toNatClampNeg (16 : Int32).toNatClampNeg) d_blocks d_guarded d_trains d_omen d_train) H := hP
  have hD : va_D A (bbW b bo bt d do_ dt ca d_blocks d_guarded d_trains (va_cpy d_omen b_omen (0 : Int32).toNatClampNeg (0 : Int32).toNatClampNeg (8 : Int32).toNatClampNeg) (va_cpy d_train b_train (0 : Int32).toNatClampNeg (0 : Int32).toNatClampNeg (16 : Int32).toNatClampNeg) d_blocks d_guarded d_trains d_omen d_train) := hD
  rw [hZ]
  exact W.vret hx hb hr (fun t ht hW => ⟨⟨(d_blocks, d_guarded, d_trains, (va_cpy d_omen b_omen (0 : Int32).toNatClampNeg (0 : Int32).toNatClampNeg (8 : Int32).toNatClampNeg), (va_cpy d_train b_train (0 : Int32).toNatClampNeg (0 : Int32).toNatClampNeg (16 : Int32).toNatClampNeg)), rfl, G, by rw [ht]; exact hP, hD⟩, hS.F ht⟩) hS.2.2 dX5_as_54 hlocks
abbrev rm_B_of : Room := { frames := 1, cells := 0, slots := 0, locals := 0 }
set_option maxHeartbeats 4000000 in
theorem met_B_of (l : Launch) (D : va_G) (b : Nat) (bo : Nat) (bt : Nat) (ca : Nat → ClassId) (sz : Nat) (b_blocks : Int32) (b_guarded : Int32) (b_trains : Int32) (b_omen : Nat → Int32) (b_train : Nat → Int32) (x1 : Int32) (x2 : Int32) (hside : B_of_s b_train x1 x2) : Met l yX5_of (ws_ yX5_of cX5_of 3 (some .int)) rm_B_of (va_Pc [.ref b, .int x1, .int x2] (wpre D vwCl (tyL ca) (bW b bo bt ca b_blocks b_guarded b_trains b_omen b_train) sz)) (va_Qi (fun (r : Int32) (u : Unit) => r = B_of_e b_train x1 x2) (wpost D vwCl (va_A (bW b bo bt ca b_blocks b_guarded b_trains b_omen b_train) sz) (fun (u : Unit) => (bW b bo bt ca b_blocks b_guarded b_trains b_omen b_train))) (va_A (bW b bo bt ca b_blocks b_guarded b_trains b_omen b_train) sz)) 0 0 (va_A (bW b bo bt ca b_blocks b_guarded b_trains b_omen b_train) sz) := by
  refine met_of (fun A => (va_Qi (fun (r : Int32) (u : Unit) => r = B_of_e b_train x1 x2) (wpost D vwCl A (fun (u : Unit) => (bW b bo bt ca b_blocks b_guarded b_trains b_omen b_train))) A)) (by decide) (Nat.le_of_ble_eq_true rfl) ?_
  intro p e s m args below meth c Z A hZ C H locs hP hD hS ls hl
  have hx := C.1; have hb := C.2.1; have hr := C.2.2.1; have hlocks := C.2.2.2.1; have hml := C.2.2.2.2.1; have hown := C.2.2.2.2.2.1; have hts := C.2.2.2.2.2.2.1; have hn := C.2.2.2.2.2.2.2.1; have hK := C.2.2.2.2.2.2.2.2.1; have hA := C.2.2.2.2.2.2.2.2.2
  have hl : lv_has ls 3 [(0, .ref b), (1, .int x1), (2, .int x2)] := hl
  have h_1 := hside
  refine lv_aload_n hx hb dX5_of_0 rfl (lv_at hl 0 rfl) ?_
  refine va_get hx hb hts in_X5 hown hK hP 0 rfl rfl 4 (by decide) (hts _ q148) (fun _ h => h) rfl dX5_of_1 ?_
  refine lv_iconst (v := 4) hx hb dX5_of_4 (by decide) ?_
  refine lv_iload_n hx hb dX5_of_5 rfl (lv_at hl 1 rfl) ?_
  refine lv_imul hx hb dX5_of_6 ?_
  refine lv_iload_n hx hb dX5_of_7 rfl (lv_at hl 2 rfl) ?_
  refine lv_iadd hx hb dX5_of_8 ?_
  refine va_bald hx hb hK hP 2 2 rfl rfl h_1 dX5_of_9 ?_
  rw [hZ]
  exact W.iret hx hb hr (fun t ht hW => ⟨⟨(b_train (((4 : Int32) * x1) + x2).toNatClampNeg), (), rfl, rfl, by rw [ht]; exact hP, hD⟩, hS.F ht⟩) hS.2.2 dX5_of_10 hlocks
abbrev rm_B_hung : Room := { frames := 1, cells := 0, slots := 0, locals := 0 }
set_option maxHeartbeats 4000000 in
theorem w_B_hung_L4 {p : Program} {l : Launch} {e : Env} {s : State} {m : MethodId} {args : Array Value} {below : List Frame} {meth : Method} {c : Code} {D : va_G} {b : Nat} {bo : Nat} {bt : Nat} {ca : Nat → ClassId} {A : Nat → Prop} {Z : State → Prop} (C : cx cX5_hung 3 (some .int) RX5 D vwCl (tyL ca) A p c meth s m args) {b_blocks : Int32} {b_guarded : Int32} {b_trains : Int32} {b_omen : Nat → Int32} {b_train : Nat → Int32}  {k37 : Int32 → Prop} (hk37 : ∀ (x1 : Int32), k37 x1 → ∀ (ls : Array Slot) (H : Heap) (locs : List Loc), lv_has ls 3 [(1, .int x1)] → va_P D vwCl (bW b bo bt ca b_blocks b_guarded b_trains b_omen b_train) H → va_D A (bW b bo bt ca b_blocks b_guarded b_trains b_omen b_train) → va_S A s.heap H locs → W p l e rm_B_hung s m args below meth c H locs 0 0 Z (F0 m 37 ls [])) : ∀ (n : Nat) (x1 : Int32) (x2 : Int32), B_hung_L4 b_blocks b_omen k37 n x1 x2 → ∀ (ls : Array Slot) (H : Heap) (locs : List Loc), lv_has ls 3 [(0, .ref b), (1, .int x1), (2, .int x2)] → va_P D vwCl (bW b bo bt ca b_blocks b_guarded b_trains b_omen b_train) H → va_D A (bW b bo bt ca b_blocks b_guarded b_trains b_omen b_train) → va_S A s.heap H locs → W p l e rm_B_hung s m args below meth c H locs 0 0 Z (F0 m 4 ls []) := by
  have hx := C.1; have hb := C.2.1; have hr := C.2.2.1; have hlocks := C.2.2.2.1; have hml := C.2.2.2.2.1; have hown := C.2.2.2.2.2.1; have hts := C.2.2.2.2.2.2.1; have hn := C.2.2.2.2.2.2.2.1; have hK := C.2.2.2.2.2.2.2.2.1; have hA := C.2.2.2.2.2.2.2.2.2
  intro n
  induction n with
  | zero =>
    intro x1 x2 G
    exact False.elim G
  | succ n ih =>
    intro x1 x2 G ls H locs hl hP hD hS
    unfold B_hung_L4 at G
    have hk4 := ih
    refine lv_iload_n hx hb dX5_hung_4 rfl (lv_at hl 2 rfl) ?_
    refine lv_aload_n hx hb dX5_hung_5 rfl (lv_at hl 0 rfl) ?_
    refine va_get hx hb hts in_X5 hown hK hP 0 rfl rfl 0 (by decide) (hts _ q136) (fun _ h => h) rfl dX5_hung_6 ?_
    refine lv_icmp_ge (tgt := 37) hx hb dX5_hung_9 (by decide) (fun c_1 => ?_) (fun c_1 => ?_)
    · have G := G.1 c_1
      exact hk37 _ G _ _ _ (lv_sub hl [1] rfl) hP hD hS
    · have G := G.2 c_1
      refine lv_iload_n hx hb dX5_hung_12 rfl (lv_at hl 1 rfl) ?_
      refine lv_aload_n hx hb dX5_hung_13 rfl (lv_at hl 0 rfl) ?_
      refine va_get hx hb hts in_X5 hown hK hP 0 rfl rfl 1 (by decide) (hts _ q139) (fun _ h => h) rfl dX5_hung_14 ?_
      refine lv_iload_n hx hb dX5_hung_17 rfl (lv_at hl 2 rfl) ?_
      obtain ⟨h_2, G⟩ := G
      refine va_bald hx hb hK hP 1 2 rfl rfl h_2 dX5_hung_18 ?_
      have hJ : ∀ (H : Heap) (locs : List Loc), va_P D vwCl (bW b bo bt ca b_blocks b_guarded b_trains b_omen b_train) H → va_D A (bW b bo bt ca b_blocks b_guarded b_trains b_omen b_train) → va_S A s.heap H locs → ∀ v_4 : Int32, v_4 = (if (b_omen x2.toNatClampNeg) = 0 then (0 : Int32) else ((1 : Int32) <<< (x2 &&& 31))) → W p l e rm_B_hung s m args below meth c H locs 0 0 Z (F0 m 29 ls (.int v_4 :: [.int x1])) := by
        intro H locs hP hD hS v_4 hv
        subst hv
        refine lv_ior hx hb dX5_hung_29 ?_
        refine lv_istore_n (lv' := [(1, .int (x1 ||| (if (b_omen x2.toNatClampNeg) = 0 then (0 : Int32) else ((1 : Int32) <<< (x2 &&& 31))))), (0, .ref b), (2, .int x2)]) hx hb dX5_hung_30 rfl hl (by decide) rfl (fun ls hl => ?_)
        refine lv_iinc (v := (x2 + (1 : Int32))) (lv' := [(2, .int (x2 + (1 : Int32))), (1, .int (x1 ||| (if (b_omen x2.toNatClampNeg) = 0 then (0 : Int32) else ((1 : Int32) <<< (x2 &&& 31))))), (0, .ref b)]) hx hb dX5_hung_31 hl (k := 2) rfl rfl (by decide) rfl (fun ls hl => ?_)
        refine lv_goto (tgt := 4) hx hb dX5_hung_34 (by decide) ?_
        exact hk4 _ _ G _ _ _ (lv_sub hl [2, 1, 0] rfl) hP hD hS
      refine lv_if_ne (tgt := 26) hx hb dX5_hung_19 (by decide) (fun c_3 => ?_) (fun c_3 => ?_)
      · refine lv_iconst (v := 1) hx hb dX5_hung_26 (by decide) ?_
        refine lv_iload_n hx hb dX5_hung_27 rfl (lv_at hl 2 rfl) ?_
        refine lv_ishl hx hb dX5_hung_28 ?_
        exact hJ _ _ hP hD hS _ (eF c_3 rfl)
      · refine lv_iconst (v := 0) hx hb dX5_hung_22 (by decide) ?_
        refine lv_goto (tgt := 29) hx hb dX5_hung_23 (by decide) ?_
        exact hJ _ _ hP hD hS _ (eT c_3 rfl)
set_option maxHeartbeats 4000000 in
theorem met_B_hung (l : Launch) (D : va_G) (b : Nat) (bo : Nat) (bt : Nat) (ca : Nat → ClassId) (sz : Nat) (b_blocks : Int32) (b_guarded : Int32) (b_trains : Int32) (b_omen : Nat → Int32) (b_train : Nat → Int32)  (Q : Int32 → Prop) (G : B_hung b_blocks b_omen Q) : Met l yX5_hung (ws_ yX5_hung cX5_hung 3 (some .int)) rm_B_hung (va_Pc [.ref b] (wpre D vwCl (tyL ca) (bW b bo bt ca b_blocks b_guarded b_trains b_omen b_train) sz)) (va_Qi (fun (r : Int32) (u : Unit) => Q r) (wpost D vwCl (va_A (bW b bo bt ca b_blocks b_guarded b_trains b_omen b_train) sz) (fun (u : Unit) => (bW b bo bt ca b_blocks b_guarded b_trains b_omen b_train))) (va_A (bW b bo bt ca b_blocks b_guarded b_trains b_omen b_train) sz)) 0 0 (va_A (bW b bo bt ca b_blocks b_guarded b_trains b_omen b_train) sz) := by
  refine met_of (fun A => (va_Qi (fun (r : Int32) (u : Unit) => Q r) (wpost D vwCl A (fun (u : Unit) => (bW b bo bt ca b_blocks b_guarded b_trains b_omen b_train))) A)) (by decide) (Nat.le_of_ble_eq_true rfl) ?_
  intro p e s m args below meth c Z A hZ C H locs hP hD hS ls hl
  have hx := C.1; have hb := C.2.1; have hr := C.2.2.1; have hlocks := C.2.2.2.1; have hml := C.2.2.2.2.1; have hown := C.2.2.2.2.2.1; have hts := C.2.2.2.2.2.2.1; have hn := C.2.2.2.2.2.2.2.1; have hK := C.2.2.2.2.2.2.2.2.1; have hA := C.2.2.2.2.2.2.2.2.2
  have hl : lv_has ls 3 [(0, .ref b)] := hl
  unfold B_hung at G
  refine lv_iconst (v := 0) hx hb dX5_hung_0 (by decide) ?_
  refine lv_istore_n (lv' := [(1, .int (0 : Int32)), (0, .ref b)]) hx hb dX5_hung_1 rfl hl (by decide) rfl (fun ls hl => ?_)
  refine lv_iconst (v := 0) hx hb dX5_hung_2 (by decide) ?_
  refine lv_istore_n (lv' := [(2, .int (0 : Int32)), (1, .int (0 : Int32)), (0, .ref b)]) hx hb dX5_hung_3 rfl hl (by decide) rfl (fun ls hl => ?_)
  obtain ⟨n_5, G⟩ := G
  refine w_B_hung_L4 C (fun x1_6 G ls H locs hl hP hD hS => ?_) n_5 _ _ G _ _ _ (lv_sub hl [2, 1, 0] rfl) hP hD hS
  refine lv_iload_n hx hb dX5_hung_37 rfl (lv_at hl 0 rfl) ?_
  rw [hZ]
  exact W.iret hx hb hr (fun t ht hW => ⟨⟨x1_6, (), rfl, G, by rw [ht]; exact hP, hD⟩, hS.F ht⟩) hS.2.2 dX5_hung_38 hlocks
abbrev rm_B_next : Room := { frames := 2, cells := 0, slots := 0, locals := 22 }
set_option maxHeartbeats 4000000 in
theorem met_B_next (l : Launch) (D : va_G) (b : Nat) (bo : Nat) (bt : Nat) (ca : Nat → ClassId) (sz : Nat) (b_blocks : Int32) (b_guarded : Int32) (b_trains : Int32) (b_omen : Nat → Int32) (b_train : Nat → Int32) (x1 : Int32) (x2 : Int32) (Q : Int32 → Prop) (G : B_next b_blocks b_train x1 x2 Q) : Met l yX5_next (ws_ yX5_next cX5_next 4 (some .int)) rm_B_next (va_Pc [.ref b, .int x1, .int x2] (wpre D vwCl (tyL ca) (bW b bo bt ca b_blocks b_guarded b_trains b_omen b_train) sz)) (va_Qi (fun (r : Int32) (u : Unit) => Q r) (wpost D vwCl (va_A (bW b bo bt ca b_blocks b_guarded b_trains b_omen b_train) sz) (fun (u : Unit) => (bW b bo bt ca b_blocks b_guarded b_trains b_omen b_train))) (va_A (bW b bo bt ca b_blocks b_guarded b_trains b_omen b_train) sz)) 0 0 (va_A (bW b bo bt ca b_blocks b_guarded b_trains b_omen b_train) sz) := by
  refine met_of (fun A => (va_Qi (fun (r : Int32) (u : Unit) => Q r) (wpost D vwCl A (fun (u : Unit) => (bW b bo bt ca b_blocks b_guarded b_trains b_omen b_train))) A)) (by decide) (Nat.le_of_ble_eq_true rfl) ?_
  intro p e s m args below meth c Z A hZ C H locs hP hD hS ls hl
  have hx := C.1; have hb := C.2.1; have hr := C.2.2.1; have hlocks := C.2.2.2.1; have hml := C.2.2.2.2.1; have hown := C.2.2.2.2.2.1; have hts := C.2.2.2.2.2.2.1; have hn := C.2.2.2.2.2.2.2.1; have hK := C.2.2.2.2.2.2.2.2.1; have hA := C.2.2.2.2.2.2.2.2.2
  have hl : lv_has ls 4 [(0, .ref b), (1, .int x1), (2, .int x2)] := hl
  unfold B_next at G
  refine lv_aload_n hx hb dX5_next_0 rfl (lv_at hl 0 rfl) ?_
  refine lv_iload_n hx hb dX5_next_1 rfl (lv_at hl 1 rfl) ?_
  refine lv_iconst (v := 1) hx hb dX5_next_2 (by decide) ?_
  obtain ⟨h_1, G⟩ := G
  refine wc_Vik (As := [.int x1, .int (1 : Int32)]) (rest := []) C (met_B_of l D b bo bt ca H.size b_blocks b_guarded b_trains b_omen b_train x1 (1 : Int32) h_1) (cwV 2 hts (lw_V q665 q601 q602 q73 q603) rfl rfl rfl (by decide +kernel) ⟨Nat.le_of_ble_eq_true rfl, Nat.le_of_ble_eq_true rfl⟩) hP hD hS (List.range _) (wc_self _) (wc_nd _) 0 rfl rfl rfl rfl hl.1 (Nat.le_of_ble_eq_true rfl) dX5_next_3 ⟨Nat.le_of_ble_eq_true rfl, Nat.le_of_ble_eq_true rfl⟩ (fun r_2 u H locs hr hP hD hS => ?_)
  subst hr
  have hJ : ∀ (H : Heap) (locs : List Loc), va_P D vwCl (bW b bo bt ca b_blocks b_guarded b_trains b_omen b_train) H → va_D A (bW b bo bt ca b_blocks b_guarded b_trains b_omen b_train) → va_S A s.heap H locs → ∀ v_12 : Int32, v_12 = (if (B_of_e b_train x1 (1 : Int32)) = 0 then (1 : Int32) else (0 : Int32)) → W p l e rm_B_next s m args below meth c H locs 0 0 Z (F0 m 14 ls (.int v_12 :: [])) := by
    intro H locs hP hD hS v_12 hv
    subst hv
    refine lv_istore_n (lv' := [(3, .int (if (B_of_e b_train x1 (1 : Int32)) = 0 then (1 : Int32) else (0 : Int32))), (0, .ref b), (1, .int x1), (2, .int x2)]) hx hb dX5_next_14 rfl hl (by decide) rfl (fun ls hl => ?_)
    refine lv_iload_n hx hb dX5_next_15 rfl (lv_at hl 3 rfl) ?_
    refine lv_bipush (v := -4) hx hb dX5_next_16 (by decide) ?_
    have G : ∀ v_11 : Int32, v_11 = (if x2 = (-4 : Int32) then (if (if (B_of_e b_train x1 (1 : Int32)) = 0 then (1 : Int32) else (0 : Int32)) = 0 then (b_blocks - (1 : Int32)) else (0 : Int32)) else (if (if (B_of_e b_train x1 (1 : Int32)) = 0 then (1 : Int32) else (0 : Int32)) = 0 then (if x2 = (0 : Int32) then (-4 : Int32) else (if (if (B_of_e b_train x1 (1 : Int32)) = 0 then (1 : Int32) else (0 : Int32)) = 0 then (x2 - (1 : Int32)) else (x2 + (1 : Int32)))) else (if x2 = (b_blocks - (1 : Int32)) then (-4 : Int32) else (if (if (B_of_e b_train x1 (1 : Int32)) = 0 then (1 : Int32) else (0 : Int32)) = 0 then (x2 - (1 : Int32)) else (x2 + (1 : Int32)))))) → Q v_11 := fun v_11 hv => by rw [hv]; exact G
    refine lv_icmp_ne (tgt := 36) hx hb dX5_next_18 (by decide) (fun c_4 => ?_) (fun c_4 => ?_)
    · refine lv_iload_n hx hb dX5_next_36 rfl (lv_at hl 3 rfl) ?_
      refine lv_iload_n hx hb dX5_next_37 rfl (lv_at hl 0 rfl) ?_
      refine lv_if_eq (tgt := 50) hx hb dX5_next_38 (by decide) (fun c_5 => ?_) (fun c_5 => ?_)
      · refine lv_iconst (v := 0) hx hb dX5_next_50 (by decide) ?_
        refine lv_icmp_ne (tgt := 59) hx hb dX5_next_51 (by decide) (fun c_6 => ?_) (fun c_6 => ?_)
        · refine lv_iload_n hx hb dX5_next_59 rfl (lv_at hl 0 rfl) ?_
          refine lv_if_eq (tgt := 69) hx hb dX5_next_60 (by decide) (fun c_7 => ?_) (fun c_7 => ?_)
          · refine lv_iload_n hx hb dX5_next_69 rfl (lv_at hl 3 rfl) ?_
            refine lv_iconst (v := 1) hx hb dX5_next_70 (by decide) ?_
            refine lv_isub hx hb dX5_next_71 ?_
            have G := G (x2 - (1 : Int32)) (eF c_4 (eT c_5 (eF c_6 (eT c_7 rfl))))
            rw [hZ]
            exact W.iret hx hb hr (fun t ht hW => ⟨⟨(x2 - (1 : Int32)), (), rfl, G, by rw [ht]; exact hP, hD⟩, hS.F ht⟩) hS.2.2 dX5_next_72 hlocks
          · refine lv_iload_n hx hb dX5_next_63 rfl (lv_at hl 3 rfl) ?_
            refine lv_iconst (v := 1) hx hb dX5_next_64 (by decide) ?_
            refine lv_iadd hx hb dX5_next_65 ?_
            refine lv_goto (tgt := 72) hx hb dX5_next_66 (by decide) ?_
            have G := G (x2 + (1 : Int32)) (eF c_4 (eT c_5 (eF c_6 (eF c_7 rfl))))
            rw [hZ]
            exact W.iret hx hb hr (fun t ht hW => ⟨⟨(x2 + (1 : Int32)), (), rfl, G, by rw [ht]; exact hP, hD⟩, hS.F ht⟩) hS.2.2 dX5_next_72 hlocks
        · refine lv_bipush (v := -4) hx hb dX5_next_54 (by decide) ?_
          refine lv_goto (tgt := 72) hx hb dX5_next_56 (by decide) ?_
          have G := G (-4 : Int32) (eF c_4 (eT c_5 (eT c_6 rfl)))
          rw [hZ]
          exact W.iret hx hb hr (fun t ht hW => ⟨⟨(-4 : Int32), (), rfl, G, by rw [ht]; exact hP, hD⟩, hS.F ht⟩) hS.2.2 dX5_next_72 hlocks
      · refine lv_aload_n hx hb dX5_next_41 rfl (lv_at hl 1 rfl) ?_
        refine va_get hx hb hts in_X5 hown hK hP 0 rfl rfl 0 (by decide) (hts _ q136) (fun _ h => h) rfl dX5_next_42 ?_
        refine lv_iconst (v := 1) hx hb dX5_next_45 (by decide) ?_
        refine lv_isub hx hb dX5_next_46 ?_
        refine lv_goto (tgt := 51) hx hb dX5_next_47 (by decide) ?_
        refine lv_icmp_ne (tgt := 59) hx hb dX5_next_51 (by decide) (fun c_8 => ?_) (fun c_8 => ?_)
        · refine lv_iload_n hx hb dX5_next_59 rfl (lv_at hl 0 rfl) ?_
          refine lv_if_eq (tgt := 69) hx hb dX5_next_60 (by decide) (fun c_9 => ?_) (fun c_9 => ?_)
          · refine lv_iload_n hx hb dX5_next_69 rfl (lv_at hl 3 rfl) ?_
            refine lv_iconst (v := 1) hx hb dX5_next_70 (by decide) ?_
            refine lv_isub hx hb dX5_next_71 ?_
            have G := G (x2 - (1 : Int32)) (eF c_4 (eF c_5 (eF c_8 (eT c_9 rfl))))
            rw [hZ]
            exact W.iret hx hb hr (fun t ht hW => ⟨⟨(x2 - (1 : Int32)), (), rfl, G, by rw [ht]; exact hP, hD⟩, hS.F ht⟩) hS.2.2 dX5_next_72 hlocks
          · refine lv_iload_n hx hb dX5_next_63 rfl (lv_at hl 3 rfl) ?_
            refine lv_iconst (v := 1) hx hb dX5_next_64 (by decide) ?_
            refine lv_iadd hx hb dX5_next_65 ?_
            refine lv_goto (tgt := 72) hx hb dX5_next_66 (by decide) ?_
            have G := G (x2 + (1 : Int32)) (eF c_4 (eF c_5 (eF c_8 (eF c_9 rfl))))
            rw [hZ]
            exact W.iret hx hb hr (fun t ht hW => ⟨⟨(x2 + (1 : Int32)), (), rfl, G, by rw [ht]; exact hP, hD⟩, hS.F ht⟩) hS.2.2 dX5_next_72 hlocks
        · refine lv_bipush (v := -4) hx hb dX5_next_54 (by decide) ?_
          refine lv_goto (tgt := 72) hx hb dX5_next_56 (by decide) ?_
          have G := G (-4 : Int32) (eF c_4 (eF c_5 (eT c_8 rfl)))
          rw [hZ]
          exact W.iret hx hb hr (fun t ht hW => ⟨⟨(-4 : Int32), (), rfl, G, by rw [ht]; exact hP, hD⟩, hS.F ht⟩) hS.2.2 dX5_next_72 hlocks
    · refine lv_iload_n hx hb dX5_next_21 rfl (lv_at hl 0 rfl) ?_
      refine lv_if_eq (tgt := 29) hx hb dX5_next_22 (by decide) (fun c_10 => ?_) (fun c_10 => ?_)
      · refine lv_aload_n hx hb dX5_next_29 rfl (lv_at hl 1 rfl) ?_
        refine va_get hx hb hts in_X5 hown hK hP 0 rfl rfl 0 (by decide) (hts _ q136) (fun _ h => h) rfl dX5_next_30 ?_
        refine lv_iconst (v := 1) hx hb dX5_next_33 (by decide) ?_
        refine lv_isub hx hb dX5_next_34 ?_
        have G := G (b_blocks - (1 : Int32)) (eT c_4 (eT c_10 rfl))
        rw [hZ]
        exact W.iret hx hb hr (fun t ht hW => ⟨⟨(b_blocks - (1 : Int32)), (), rfl, G, by rw [ht]; exact hP, hD⟩, hS.F ht⟩) hS.2.2 dX5_next_35 hlocks
      · refine lv_iconst (v := 0) hx hb dX5_next_25 (by decide) ?_
        refine lv_goto (tgt := 35) hx hb dX5_next_26 (by decide) ?_
        have G := G (0 : Int32) (eT c_4 (eF c_10 rfl))
        rw [hZ]
        exact W.iret hx hb hr (fun t ht hW => ⟨⟨(0 : Int32), (), rfl, G, by rw [ht]; exact hP, hD⟩, hS.F ht⟩) hS.2.2 dX5_next_35 hlocks
  refine lv_if_ne (tgt := 13) hx hb dX5_next_6 (by decide) (fun c_3 => ?_) (fun c_3 => ?_)
  · refine lv_iconst (v := 0) hx hb dX5_next_13 (by decide) ?_
    exact hJ _ _ hP hD hS _ (eF c_3 rfl)
  · refine lv_iconst (v := 1) hx hb dX5_next_9 (by decide) ?_
    refine lv_goto (tgt := 14) hx hb dX5_next_10 (by decide) ?_
    exact hJ _ _ hP hD hS _ (eT c_3 rfl)
